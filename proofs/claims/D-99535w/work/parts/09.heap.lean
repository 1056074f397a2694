/-! THE ROWS OVER THE WORLD: fields, arrays, new cells, entries, ends, calls -/
theorem clz_big {t : Nat} {r : vw_C} (h : clz[100 + t]? = some r) : False := by
  have h1 := (List.getElem?_eq_some_iff.mp h).1
  have h2 : clz.length = 18 := rfl
  omega
theorem okC.obj {Δ : Cx} {a tag n : Nat} {f : Nat → Value} {H : Heap} {r : vw_C} (h : okC Δ a (tag, n, f) H) (hr : clz[tag]? = some r) :
    ∃ cell : Cell, H[a]? = some cell ∧ cell.vm ≠ .unknown ∧ (∀ k, cell.vm ≠ .statics k) ∧ (n0 Δ ≤ a → cell.vm = .none) ∧ cell.cls = cC Δ tag ∧ ∀ k, k < r.2.2 → cell.slots[cI Δ tag k]? = some (f k) := by
  obtain ⟨cell, q1, q2, q3, q4, h5⟩ := h
  refine ⟨cell, q1, q2, q3, q4, ?_⟩
  rcases h5 with ⟨r', e, k1, k2⟩ | ⟨t, e, -⟩
  · have e : clz[tag]? = some r' := e
    have : r' = r := Option.some.inj (e.symm.trans hr)
    subst this
    exact ⟨k1, k2⟩
  · have e : tag = 100 + t := e
    rw [e] at hr
    exact (clz_big hr).elim
theorem okC.arr {Δ : Cx} {a t n : Nat} {f : Nat → Value} {H : Heap} (h : okC Δ a (100 + t, n, f) H) :
    ∃ cell : Cell, H[a]? = some cell ∧ cell.vm ≠ .unknown ∧ (∀ k, cell.vm ≠ .statics k) ∧ (n0 Δ ≤ a → cell.vm = .none) ∧ t < 4 ∧ n < 2 ^ 31 ∧ (cS Δ).isArrayOf cell (tyA t) ∧ (n0 Δ ≤ a → cell.cls = cA Δ t) ∧ cell.slots.size = n ∧ ∀ j, j < n → cell.slots[j]? = some (f j) := by
  obtain ⟨cell, q1, q2, q3, q4, h5⟩ := h
  refine ⟨cell, q1, q2, q3, q4, ?_⟩
  rcases h5 with ⟨r', e, -⟩ | ⟨t', e, h6⟩
  · exact (clz_big e).elim
  · have e : 100 + t = 100 + t' := e
    have : t' = t := by omega
    subst this
    exact h6
theorem okC.kept {Δ : Cx} {a : Nat} {c : Cel} {H H1 : Heap} (h : okC Δ a c H) (e : H1[a]? = H[a]?) : okC Δ a c H1 := by
  obtain ⟨cell, q1, q2⟩ := h
  exact ⟨cell, by rw [e]; exact q1, q2⟩
theorem Rl.put {Δ : Cx} {h : Hp} {H H1 : Heap} {a : Nat} {c : Cel} (hR : Rl Δ h H) (ha : a < h.1) (hn : n0 Δ ≤ a) (hc : okC Δ a c H1) (hz : H1.size = H.size) (oq : ∀ q, q ≠ a → H1[q]? = H[q]?) : Rl Δ (hput h a c) H1 := by
  obtain ⟨r1, r2, r3, r4⟩ := hR
  refine ⟨hz.trans r1, r2, fun b c' e => ?_, fun q hq => ?_⟩
  · by_cases hb : b = a
    · subst hb
      rw [ce_put ha hn] at e
      cases e
      exact hc
    · rw [ce_put_ne hb] at e
      exact (r3 b c' e).kept (oq b hb)
  · rw [oq q (by omega)]
    exact r4 q hq
theorem Rl.new {Δ : Cx} {h : Hp} {H H1 : Heap} {n : Nat} {c : Cel} (hR : Rl Δ h H) (hc : okC Δ h.1 c H1) (hz : H1.size = h.1 + 1) (oq : ∀ q, q < h.1 → H1[q]? = H[q]?) : Rl Δ (hnew h n c) H1 := by
  obtain ⟨r1, r2, r3, r4⟩ := hR
  refine ⟨hz, by show n0 Δ ≤ h.1 + 1; omega, fun b c' e => ?_, fun q hq => ?_⟩
  · have hb := ce_lt e
    have hb : b < h.1 + 1 := hb
    by_cases hb1 : b = h.1
    · subst hb1
      rw [ce_new r2] at e
      cases e
      exact hc
    · rw [ce_new_ne (by omega)] at e
      exact (r3 b c' e).kept (oq b (by omega))
  · rw [oq q (by omega)]
    exact r4 q hq
theorem Bd.kn {Δ : Cx} {μ : Mi} {p : Program} {s : State} {m : MethodId} {args : Array Value} {meth : Method} {c : Code} (B : Bd Δ μ p s m args meth c) {k : Nat} {q : vw_C} (h : clz[k]? = some q) : u_Kn s q.1 q.2.1 q.2.2 (cC Δ k) (cI Δ k) := u_Kn_moved B.2.2.2.2.2.2.2.2.1.alike (B.1.2.1 k q h)
theorem Bd.ar {Δ : Cx} {μ : Mi} {p : Program} {s : State} {m : MethodId} {args : Array Value} {meth : Method} {c : Code} (B : Bd Δ μ p s m args meth c) {cell : Cell} {t : FieldType} (h : (cS Δ).isArrayOf cell t) : s.isArrayOf cell t := State.isArrayOf_alike B.2.2.2.2.2.2.2.2.1.alike h
theorem okC.slot {Δ : Cx} {a t n : Nat} {f : Nat → Value} {H1 : Heap} {cell : Cell} {i : Nat} {x : Value} (hlt : n0 Δ ≤ a) (ht : t < 4) (hn31 : n < 2 ^ 31) (hvm : cell.vm = .none) (har : (cS Δ).isArrayOf cell (tyA t)) (hcl : cell.cls = cA Δ t) (hz : cell.slots.size = n) (hs : ∀ j, j < n → cell.slots[j]? = some (f j)) (hi : i < n) (e : H1[a]? = some (cell.setSlot i x)) : okC Δ a (100 + t, n, updV f i x) H1 := by
  refine ⟨_, e, ?_, ?_, fun _ => hvm, Or.inr ⟨t, rfl, ht, hn31, ?_, fun _ => hcl, ?_, ?_⟩⟩
  · show cell.vm ≠ _
    rw [hvm]; exact fun q => by cases q
  · intro k
    show cell.vm ≠ _
    rw [hvm]; exact fun q => by cases q
  · exact har
  · show (cell.slots.setIfInBounds i x).size = n
    rw [Array.size_setIfInBounds]; exact hz
  · intro j hj
    have hj : j < n := hj
    show (cell.slots.setIfInBounds i x)[j]? = some (updV f i x j)
    rw [Array.getElem?_setIfInBounds]
    by_cases hij : i = j
    · subst hij
      rw [if_pos rfl, if_pos (by rw [hz]; exact hi)]
      simp [updV]
    · rw [if_neg hij, hs j hj]
      simp [updV, Ne.symm hij]
theorem okC.newA {Δ : Cx} {a t n : Nat} {x : Value} {H1 : Heap} {cA' : ClassId} (ht : t < 4) (hn31 : n < 2 ^ 31) (har : ArrOfT (cS Δ) cA' (tyA t)) (hcl : cA' = cA Δ t) (e : H1[a]? = some (arrV cA' n (fun _ => x))) : okC Δ a (100 + t, n, fun _ => x) H1 := by
  refine ⟨_, e, fun q => (by cases q), fun k q => (by cases q), fun _ => rfl, Or.inr ⟨t, rfl, ht, hn31, har _ _, fun _ => hcl, arrV_size _ _ _, fun j hj => arrV_read _ _ hj⟩⟩
section GH
variable {Δ : Cx} {d : Nat} {μ : Mi} {pc : Nat} {lv lv' : List (Nat × Value)} {st : List Value} {h : Hp} {Q : Option Value → Hp → Prop}
theorem wp.at {pc' : Nat} {st' : List Value} {h2 : Hp} (k : wp Δ d μ pc' lv' st' h2 Q) (h1 : h.1 ≤ h2.1) (hs : h.2.1 ≤ h2.2.1) (f : ∀ v h', n0 Δ ≤ h.1 → h2.1 ≤ h'.1 → h2.2.1 ≤ h'.2.1 → G Δ d μ pc' lv' st' h2 v h' → G Δ d μ pc lv st h v h') : wp Δ d μ pc lv st h Q := by
  intro hn
  obtain ⟨v, h', a, b, c, g⟩ := k (Nat.le_trans hn h1)
  exact ⟨v, h', Nat.le_trans h1 a, Nat.le_trans hs b, c, f v h' hn a b g⟩
theorem g_getf {tag n k idx a : Nat} {f : Nat → Value} {ref nm ds : String} {fin : Bool} {ty : FieldType} (F : fOk tag k ref nm ds fin ty) (hl : Cond.fieldLink μ.1 idx ref nm ds ∈ lw_all) (ha : ce Δ h a = some (tag, n, f)) (dg : decode μ.2.2.1 pc = .ok (.getfield idx, 3)) (kk : wp Δ d μ (pc + 3) lv (f k :: st) h Q) : wp Δ d μ pc lv (.ref a :: st) h Q := by
  refine kk.on fun v h' g p e s m args below meth c H locs cells slots ls mc ms B hR hl0 hL e1 e2 => ?_
  obtain ⟨C, T, N, ty0, hc, hk, hin, hty, hnm, hT, -⟩ := F
  obtain ⟨cell, q1, q2, q3, q4, q5, q6⟩ := (hR.2.2.1 _ _ ha).obj hc
  obtain ⟨hS, hfc, kC, hkC, hkind⟩ := B.kn hc
  obtain ⟨cf, kf, fi, fd, hi, hsl⟩ := hS k hk
  have hst := (u_facts hfc hkC (u_lays B.2.2.2.2.2.2.2.2.2.1 hin hk) hi).1
  dsimp only at hi
  rw [hT] at hi
  refine W.getf B.2.1 B.2.2.1 B.2.2.2.2.2.2.1 (B.2.2.2.2.2.2.2.2.2.1 _ hl) hi hst q1 q2 (v := f k) ?_ rfl rfl dg (g p e s m args below meth c H locs cells slots ls mc ms B hR hl0 hL e1 e2)
  rw [hsl]; exact q6 k hk
/-- an inherited field under the class's own name -/
theorem g_getfS {tag n k idx a : Nat} {f : Nat → Value} {ref ref' nm ds : String} {fin : Bool} {ty : FieldType} (F : fOk tag k ref nm ds fin ty) (hs : Cond.sameField ref' ref nm ds ∈ lw_all) (hl : Cond.fieldLink μ.1 idx ref' nm ds ∈ lw_all) (ha : ce Δ h a = some (tag, n, f)) (dg : decode μ.2.2.1 pc = .ok (.getfield idx, 3)) (kk : wp Δ d μ (pc + 3) lv (f k :: st) h Q) : wp Δ d μ pc lv (.ref a :: st) h Q := by
  refine kk.on fun v h' g p e s m args below meth c H locs cells slots ls mc ms B hR hl0 hL e1 e2 => ?_
  obtain ⟨C, T, N, ty0, hc, hk, hin, hty, hnm, hT, -⟩ := F
  obtain ⟨cell, q1, q2, q3, q4, q5, q6⟩ := (hR.2.2.1 _ _ ha).obj hc
  obtain ⟨hS, hfc, kC, hkC, hkind⟩ := B.kn hc
  obtain ⟨cf, kf, fi, fd, hi, hsl⟩ := hS k hk
  have hst := (u_facts hfc hkC (u_lays B.2.2.2.2.2.2.2.2.2.1 hin hk) hi).1
  dsimp only at hi
  rw [hT] at hi
  refine W.getf B.2.1 B.2.2.1 B.2.2.2.2.2.2.1 (B.2.2.2.2.2.2.2.2.2.1 _ hl) (u_same (B.2.2.2.2.2.2.2.2.2.1 _ hs) _ hi) hst q1 q2 (v := f k) ?_ rfl rfl dg (g p e s m args below meth c H locs cells slots ls mc ms B hR hl0 hL e1 e2)
  rw [hsl]; exact q6 k hk
theorem g_putf_aux {tag n k a : Nat} {f : Nat → Value} {x : Value} {C : String} {T : u_T} {N : Nat} {ty0 : Nat → FieldType} {p : Program} {s : State} {m : MethodId} {args : Array Value} {meth : Method} {c : Code} {H' : Heap} {cell : Cell} {i : Nat} (B : Bd Δ μ p s m args meth c) (hc : clz[tag]? = some (C, T, N)) (hk : k < N) (hin : ∀ w ∈ u_ws C T N, w ∈ lw_all) (hty : ∀ k, k < N → parseFieldDescriptor (T k).2.2.1 = some (ty0 k)) (hnm : ∀ a, a < N → ∀ b, b < N → a ≠ b → (T a).2.1 ≠ (T b).2.1)
    (q2 : cell.vm ≠ .unknown) (q3 : ∀ k, cell.vm ≠ .statics k) (q4 : n0 Δ ≤ a → cell.vm = .none) (q5 : cell.cls = cC Δ tag) (q6 : ∀ k, k < N → cell.slots[cI Δ tag k]? = some (f k)) (hi : cI Δ tag k = i) (e : H'[a]? = some (cell.setSlot i x)) : okC Δ a (tag, n, updV f k x) H' := by
  subst hi
  have hap : ∀ x y, x < N → y < N → x ≠ y → cI Δ tag x ≠ cI Δ tag y := by
    intro x y hx hy hne
    obtain ⟨hS, -⟩ := B.kn hc
    obtain ⟨_, _, _, fa, hia, ea⟩ := hS x hx
    obtain ⟨_, _, _, fb, hib, eb⟩ := hS y hy
    rw [← ea, ← eb]
    refine u_apart (u_lays B.2.2.2.2.2.2.2.2.2.1 hin hx) (u_lays B.2.2.2.2.2.2.2.2.2.1 hin hy) hia hib ?_
    rw [(State.fieldFound?_type hia (hty x hx)).1, (State.fieldFound?_type hib (hty y hy)).1]
    exact hnm x hx y hy hne
  exact ⟨_, e, q2, q3, q4, Or.inl ⟨_, hc, q5, t_set q6 hap hk x⟩⟩
theorem g_putf {tag n k idx a : Nat} {f : Nat → Value} {x : Value} {ref nm ds : String} {ty : FieldType} (F : fOk tag k ref nm ds false ty) (hl : Cond.fieldLink μ.1 idx ref nm ds ∈ lw_all) (ha : ce Δ h a = some (tag, n, f)) (hn0 : n0 Δ ≤ a) (hnar : narrow ty x = x) (hfit : fits ty x = true) (dg : decode μ.2.2.1 pc = .ok (.putfield idx, 3)) (kk : wp Δ d μ (pc + 3) lv st (hput h a (tag, n, updV f k x)) Q) : wp Δ d μ pc lv (x :: .ref a :: st) h Q := by
  refine kk.at (Nat.le_refl _) (Nat.le_refl _) fun v h' _ _ _ g p e s m args below meth c H locs cells slots ls mc ms B hR hl0 hL e1 e2 => ?_
  obtain ⟨C, T, N, ty0, hc, hk, hin, hty, hnm, hT, hty0⟩ := F
  obtain ⟨cell, q1, q2, q3, q4, q5, q6⟩ := (hR.2.2.1 _ _ ha).obj hc
  obtain ⟨hS, hfc, kC, hkC, hkind⟩ := B.kn hc
  obtain ⟨cf, kf, fi, fd, hi, hsl⟩ := hS k hk
  have hst := (u_facts hfc hkC (u_lays B.2.2.2.2.2.2.2.2.2.1 hin hk) hi).1
  have hlay := B.2.2.2.2.2.2.2.2.2.1 _ (hin _ (u_in_lay hk))
  unfold u_lay at hlay
  rw [if_neg (by rw [hT]; exact Bool.false_ne_true)] at hlay
  have h6 := u_store (v := x) hfc hkC hkind hlay hi (hty k hk) (by rw [hty0]; exact hnar) (by rw [hty0]; exact hfit)
  dsimp only at hi
  rw [hT] at hi
  refine W.putK B.2.1 B.2.2.1 (f := fd) ⟨B.2.2.2.2.2.2.1, B.2.2.2.2.2.2.2.2.2.1 _ hl, ⟨_, _, _, hi⟩, hst⟩ (by rw [q5]; exact h6) q1 (q4 hn0) (by rw [hsl]; exact k2_hasslot (q6 k hk)) rfl rfl dg fun H' u1 u2 u3 => ?_
  rw [hsl] at u1 ⊢
  refine g p e s m args below meth c H' _ cells slots ls mc ms B (hR.put (ce_lt ha) hn0 (g_putf_aux B hc hk hin hty hnm q2 q3 q4 q5 q6 rfl u1) u2 u3) hl0 (fun q hq => ?_) e1 e2
  rcases List.mem_append.mp hq with hq | hq
  · exact hL q hq
  · rw [List.mem_singleton.mp hq]; exact hn0
theorem g_putfS {tag n k idx a : Nat} {f : Nat → Value} {x : Value} {ref ref' nm ds : String} {ty : FieldType} (F : fOk tag k ref nm ds false ty) (hs : Cond.sameField ref' ref nm ds ∈ lw_all) (hl : Cond.fieldLink μ.1 idx ref' nm ds ∈ lw_all) (ha : ce Δ h a = some (tag, n, f)) (hn0 : n0 Δ ≤ a) (hnar : narrow ty x = x) (hfit : fits ty x = true) (dg : decode μ.2.2.1 pc = .ok (.putfield idx, 3)) (kk : wp Δ d μ (pc + 3) lv st (hput h a (tag, n, updV f k x)) Q) : wp Δ d μ pc lv (x :: .ref a :: st) h Q := by
  refine kk.at (Nat.le_refl _) (Nat.le_refl _) fun v h' _ _ _ g p e s m args below meth c H locs cells slots ls mc ms B hR hl0 hL e1 e2 => ?_
  obtain ⟨C, T, N, ty0, hc, hk, hin, hty, hnm, hT, hty0⟩ := F
  obtain ⟨cell, q1, q2, q3, q4, q5, q6⟩ := (hR.2.2.1 _ _ ha).obj hc
  obtain ⟨hS, hfc, kC, hkC, hkind⟩ := B.kn hc
  obtain ⟨cf, kf, fi, fd, hi, hsl⟩ := hS k hk
  have hst := (u_facts hfc hkC (u_lays B.2.2.2.2.2.2.2.2.2.1 hin hk) hi).1
  have hlay := B.2.2.2.2.2.2.2.2.2.1 _ (hin _ (u_in_lay hk))
  unfold u_lay at hlay
  rw [if_neg (by rw [hT]; exact Bool.false_ne_true)] at hlay
  have h6 := u_store (v := x) hfc hkC hkind hlay hi (hty k hk) (by rw [hty0]; exact hnar) (by rw [hty0]; exact hfit)
  dsimp only at hi
  rw [hT] at hi
  refine W.putK B.2.1 B.2.2.1 (f := fd) ⟨B.2.2.2.2.2.2.1, B.2.2.2.2.2.2.2.2.2.1 _ hl, ⟨_, _, _, u_same (B.2.2.2.2.2.2.2.2.2.1 _ hs) _ hi⟩, hst⟩ (by rw [q5]; exact h6) q1 (q4 hn0) (by rw [hsl]; exact k2_hasslot (q6 k hk)) rfl rfl dg fun H' u1 u2 u3 => ?_
  rw [hsl] at u1 ⊢
  refine g p e s m args below meth c H' _ cells slots ls mc ms B (hR.put (ce_lt ha) hn0 (g_putf_aux B hc hk hin hty hnm q2 q3 q4 q5 q6 rfl u1) u2 u3) hl0 (fun q hq => ?_) e1 e2
  rcases List.mem_append.mp hq with hq | hq
  · exact hL q hq
  · rw [List.mem_singleton.mp hq]; exact hn0
theorem g_putfF {tag n k idx a : Nat} {f : Nat → Value} {x : Value} {ref nm ds : String} {ty : FieldType} (F : fOk tag k ref nm ds true ty) (hl : Cond.fieldLink μ.1 idx ref nm ds ∈ lw_all) (hown : ref = μ.1) (hini : μ.2.1.name = "<init>") (ha : ce Δ h a = some (tag, n, f)) (hn0 : n0 Δ ≤ a) (hnar : narrow ty x = x) (hfit : fits ty x = true) (dg : decode μ.2.2.1 pc = .ok (.putfield idx, 3)) (kk : wp Δ d μ (pc + 3) lv st (hput h a (tag, n, updV f k x)) Q) : wp Δ d μ pc lv (x :: .ref a :: st) h Q := by
  refine kk.at (Nat.le_refl _) (Nat.le_refl _) fun v h' _ _ _ g p e s m args below meth c H locs cells slots ls mc ms B hR hl0 hL e1 e2 => ?_
  obtain ⟨C, T, N, ty0, hc, hk, hin, hty, hnm, hT, hty0⟩ := F
  obtain ⟨cell, q1, q2, q3, q4, q5, q6⟩ := (hR.2.2.1 _ _ ha).obj hc
  obtain ⟨hS, hfc, kC, hkC, hkind⟩ := B.kn hc
  obtain ⟨cf, kf, fi, fd, hi, hsl⟩ := hS k hk
  have hst := (u_facts hfc hkC (u_lays B.2.2.2.2.2.2.2.2.2.1 hin hk) hi).1
  have hlay := B.2.2.2.2.2.2.2.2.2.1 _ (hin _ (u_in_lay hk))
  unfold u_lay at hlay
  rw [if_pos (by rw [hT])] at hlay
  have hcf : m.cls = cf := by
    obtain ⟨_, _, c', _, _, _, -, -, hf', -, -, -, hown2, -⟩ := Cond.laysFinal_spec hlay
    have e1 : c' = cf := by have := hi.symm.trans hf'; simp at this; exact this.1.symm
    rw [hT] at hown2
    have hown2 : s.vm.findClass ref = some c' := hown2
    rw [hown] at hown2
    rw [← e1]; exact Option.some.inj (B.2.2.2.2.2.2.1.symm.trans hown2)
  have h6 := u_fits (v := x) hfc hkC hkind (Or.inr hlay) hi (hty k hk) (by rw [hty0]; exact hnar) (by rw [hty0]; exact hfit)
  dsimp only at hi
  rw [hT] at hi
  refine W.putFinK B.2.1 B.2.2.1 B.2.2.2.2.2.2.1 (B.2.2.2.2.2.2.2.2.2.1 _ hl) hi hst hcf (B.2.2.2.2.2.2.2.1.trans hini) (by rw [q5]; exact h6) q1 (q4 hn0) (by rw [hsl]; exact k2_hasslot (q6 k hk)) rfl rfl dg fun H' u1 u2 u3 => ?_
  rw [hsl] at u1 ⊢
  refine g p e s m args below meth c H' _ cells slots ls mc ms B (hR.put (ce_lt ha) hn0 (g_putf_aux B hc hk hin hty hnm q2 q3 q4 q5 q6 rfl u1) u2 u3) hl0 (fun q hq => ?_) e1 e2
  rcases List.mem_append.mp hq with hq | hq
  · exact hL q hq
  · rw [List.mem_singleton.mp hq]; exact hn0
theorem g_new {tag idx N : Nat} {C : String} {ty0 : Nat → FieldType} {f : Nat → Value} (K : kOk tag C N ty0) (hf : ∀ k, k < N → defaultValue (ty0 k) = f k) (hcl : Cond.classLink μ.1 idx C ∈ lw_all) (hin : Cond.instantiable C N ∈ lw_all) (hini : Cond.initialized C ∈ lw_all) (dg : decode μ.2.2.1 pc = .ok (.new idx, 3)) (kk : n0 Δ ≤ h.1 → wp Δ d μ (pc + 3) lv (.ref h.1 :: st) (hnew h N (tag, 0, f)) Q) : wp Δ d μ pc lv st h Q := by
  refine wp.know fun hnn => (kk hnn).at (by show h.1 ≤ h.1 + 1; omega) (by show h.2.1 ≤ h.2.1 + N; omega) fun v h' _ w1 w2 g p e s m args below meth c H locs cells slots ls mc ms B hR hl0 hL e1 e2 => ?_
  obtain ⟨T, hc, hinT, hty⟩ := K
  have w1 : h.1 + 1 ≤ h'.1 := w1
  have w2 : h.2.1 + N ≤ h'.2.1 := w2
  have hKn := B.kn hc
  refine W.newcK B.2.1 B.2.2.1 B.2.2.2.2.2.2.1 (B.2.2.2.2.2.2.2.2.2.1 _ hcl) (B.2.2.2.2.2.2.2.2.2.1 _ hin) (B.2.2.2.2.2.2.2.2.2.1 _ hini) rfl dg (by show cells + 1 ≤ mc; omega) (by show slots + N ≤ ms; omega) hKn.2.1 hR.1 fun H1 kC hkC u1 u2 u3 => ?_
  obtain ⟨cell, v1, v2, v3, v4⟩ := u_born (o := h.1) ty0 B.2.2.2.2.2.2.2.2.2.1 hinT hKn hkC u1 hty
  refine g p e s m args below meth c H1 locs (cells + 1) (slots + N) ls mc ms B (hR.new ⟨cell, v1, (by rw [v3]; exact fun q => (by cases q)), fun k => (by rw [v3]; exact fun q => (by cases q)), fun _ => v3, Or.inl ⟨_, hc, v2, fun k hk => (v4 k hk).trans (congrArg some (hf k hk))⟩⟩ u2 u3) hl0 hL (by show cells + 1 + h'.1 = mc + (h.1 + 1); omega) (by show slots + N + h'.2.1 = ms + (h.2.1 + N); omega)
theorem g_newa {t N : Nat} {n : Int32} {atype : ArrayType} (ht : t < 4) (hty : newarray.typeOf atype = tyA t) (harr : Cond.arrayClass (newarray.typeOf atype) ∈ lw_all) (hn : ¬ n < 0) (hN : n.toNatClampNeg = N) (hb : N * componentBytes (newarray.typeOf atype) ≤ 536870912) (h31 : N < 2 ^ 31) (dg : decode μ.2.2.1 pc = .ok (.newarray atype, 2)) (kk : n0 Δ ≤ h.1 → wp Δ d μ (pc + 2) lv (.ref h.1 :: st) (hnew h N (100 + t, N, fun _ => defaultValue (tyA t))) Q) : wp Δ d μ pc lv (.int n :: st) h Q := by
  refine wp.know fun hnn => (kk hnn).at (by show h.1 ≤ h.1 + 1; omega) (by show h.2.1 ≤ h.2.1 + N; omega) fun v h' _ w1 w2 g p e s m args below meth c H locs cells slots ls mc ms B hR hl0 hL e1 e2 => ?_
  have w1 : h.1 + 1 ≤ h'.1 := w1
  have w2 : h.2.1 + N ≤ h'.2.1 := w2
  refine va_newaK B.2.1 B.2.2.1 (B.2.2.2.2.2.2.2.2.2.1 _ harr) rfl dg rfl hn hN hb (by show cells + 1 ≤ mc; omega) (by show slots + N ≤ ms; omega) hR.1 fun H1 cA' u1 u2 u3 u4 u5 => ?_
  rw [hty] at u1 u4 u5
  obtain ⟨a1, a2⟩ := B.1.2.2.1 t ht
  have hcl : cA' = cA Δ t := by
    have hE := B.2.2.2.2.2.2.2.2.1.alike
    have a3 := a2.moved hE
    have : s.vm.findClass ("[" ++ (tyA t).toString) = some (cA Δ t) := by
      have : t = 0 ∨ t = 1 ∨ t = 2 ∨ t = 3 := by omega
      rcases this with rfl | rfl | rfl | rfl
      · exact a3
      · exact a3
      · exact a3
      · obtain ⟨_, _, _, _, _, x⟩ := a3
        exact x
    exact Option.some.inj (u5.symm.trans this)
  refine g p e s m args below meth c H1 locs (cells + 1) (slots + N) ls mc ms B (hR.new (okC.newA ht h31 (hcl ▸ a1) hcl u1) u2 u3) hl0 hL (by show cells + 1 + h'.1 = mc + (h.1 + 1); omega) (by show slots + N + h'.2.1 = ms + (h.2.1 + N); omega)
theorem g_alen {t n a : Nat} {f : Nat → Value} (ha : ce Δ h a = some (100 + t, n, f)) (dg : decode μ.2.2.1 pc = .ok (.arraylength, 1)) (kk : wp Δ d μ (pc + 1) lv (.int (nI n) :: st) h Q) : wp Δ d μ pc lv (.ref a :: st) h Q := by
  refine kk.on fun v h' g p e s m args below meth c H locs cells slots ls mc ms B hR hl0 hL e1 e2 => ?_
  obtain ⟨cell, q1, q2, q3, q4, q5, q6, q7, q8, q9, q10⟩ := (hR.2.2.1 _ _ ha).arr
  exact W.alen (n := nI n) B.2.1 B.2.2.1 q1 (B.ar q7) (by rw [q9]; rfl) rfl rfl dg (g p e s m args below meth c H locs cells slots ls mc ms B hR hl0 hL e1 e2)
theorem g_iald {n a : Nat} {f : Nat → Value} {i : Int32} (ha : ce Δ h a = some (100, n, f)) (hi : vp_in i n) (dg : decode μ.2.2.1 pc = .ok (.iaload, 1)) (kk : wp Δ d μ (pc + 1) lv (f i.toNatClampNeg :: st) h Q) : wp Δ d μ pc lv (.int i :: .ref a :: st) h Q := by
  refine kk.on fun v h' g p e s m args below meth c H locs cells slots ls mc ms B hR hl0 hL e1 e2 => ?_
  obtain ⟨cell, q1, q2, q3, q4, q5, q6, q7, q8, q9, q10⟩ := (hR.2.2.1 _ _ ha).arr (t := 0)
  exact W.iald (v := f i.toNatClampNeg) B.2.1 B.2.2.1 q1 (B.ar q7) q2 (by rw [q9]; exact hi) (q10 _ (Nat.not_le.mp fun q => hi (Or.inr q))) rfl rfl dg (g p e s m args below meth c H locs cells slots ls mc ms B hR hl0 hL e1 e2)
theorem g_lald {n a : Nat} {f : Nat → Value} {i : Int32} (ha : ce Δ h a = some (101, n, f)) (hi : vp_in i n) (dg : decode μ.2.2.1 pc = .ok (.laload, 1)) (kk : wp Δ d μ (pc + 1) lv (f i.toNatClampNeg :: st) h Q) : wp Δ d μ pc lv (.int i :: .ref a :: st) h Q := by
  refine kk.on fun v h' g p e s m args below meth c H locs cells slots ls mc ms B hR hl0 hL e1 e2 => ?_
  obtain ⟨cell, q1, q2, q3, q4, q5, q6, q7, q8, q9, q10⟩ := (hR.2.2.1 _ _ ha).arr (t := 1)
  exact W.lald (v := f i.toNatClampNeg) B.2.1 B.2.2.1 q1 (B.ar q7) q2 (by rw [q9]; exact hi) (q10 _ (Nat.not_le.mp fun q => hi (Or.inr q))) rfl rfl dg (g p e s m args below meth c H locs cells slots ls mc ms B hR hl0 hL e1 e2)
theorem g_bald {n a : Nat} {f : Nat → Value} {i : Int32} (ha : ce Δ h a = some (102, n, f)) (hi : vp_in i n) (dg : decode μ.2.2.1 pc = .ok (.baload, 1)) (kk : wp Δ d μ (pc + 1) lv (f i.toNatClampNeg :: st) h Q) : wp Δ d μ pc lv (.int i :: .ref a :: st) h Q := by
  refine kk.on fun v h' g p e s m args below meth c H locs cells slots ls mc ms B hR hl0 hL e1 e2 => ?_
  obtain ⟨cell, q1, q2, q3, q4, q5, q6, q7, q8, q9, q10⟩ := (hR.2.2.1 _ _ ha).arr (t := 2)
  exact W.bald (v := f i.toNatClampNeg) B.2.1 B.2.2.1 q1 (B.ar q7) q2 (by rw [q9]; exact hi) (q10 _ (Nat.not_le.mp fun q => hi (Or.inr q))) rfl rfl dg (g p e s m args below meth c H locs cells slots ls mc ms B hR hl0 hL e1 e2)
theorem g_aald {n a : Nat} {f : Nat → Value} {i : Int32} (ha : ce Δ h a = some (103, n, f)) (hi : vp_in i n) (dg : decode μ.2.2.1 pc = .ok (.aaload, 1)) (kk : wp Δ d μ (pc + 1) lv (f i.toNatClampNeg :: st) h Q) : wp Δ d μ pc lv (.int i :: .ref a :: st) h Q := by
  refine kk.on fun v h' g p e s m args below meth c H locs cells slots ls mc ms B hR hl0 hL e1 e2 => ?_
  obtain ⟨cell, q1, q2, q3, q4, q5, q6, q7, q8, q9, q10⟩ := (hR.2.2.1 _ _ ha).arr (t := 3)
  exact W.aald (v := f i.toNatClampNeg) B.2.1 B.2.2.1 q1 (B.ar q7) rfl q2 (by rw [q9]; exact hi) (q10 _ (Nat.not_le.mp fun q => hi (Or.inr q))) rfl rfl dg (g p e s m args below meth c H locs cells slots ls mc ms B hR hl0 hL e1 e2)
theorem locs1 {Δ : Cx} {locs : List Loc} {a i : Nat} (hL : ∀ q ∈ locs, n0 Δ ≤ q.base) (hn : n0 Δ ≤ a) : ∀ q ∈ locs ++ [⟨a, i⟩], n0 Δ ≤ q.base := by
  intro q hq
  rcases List.mem_append.mp hq with hq | hq
  · exact hL q hq
  · rw [List.mem_singleton.mp hq]; exact hn
theorem g_iast {n a : Nat} {f : Nat → Value} {i x : Int32} (ha : ce Δ h a = some (100, n, f)) (hn0 : n0 Δ ≤ a) (hi : vp_in i n) (dg : decode μ.2.2.1 pc = .ok (.iastore, 1)) (kk : wp Δ d μ (pc + 1) lv st (hput h a (100, n, updV f i.toNatClampNeg (.int x))) Q) : wp Δ d μ pc lv (.int x :: .int i :: .ref a :: st) h Q := by
  refine kk.at (Nat.le_refl _) (Nat.le_refl _) fun v h' _ _ _ g p e s m args below meth c H locs cells slots ls mc ms B hR hl0 hL e1 e2 => ?_
  obtain ⟨cell, q1, q2, q3, q4, q5, q6, q7, q8, q9, q10⟩ := (hR.2.2.1 _ _ ha).arr (t := 0)
  refine W.iast B.2.1 B.2.2.1 q1 (B.ar q7) q2 (by rw [q9]; exact hi) rfl rfl dg fun H' u1 u2 u3 => ?_
  exact g p e s m args below meth c H' _ cells slots ls mc ms B (hR.put (ce_lt ha) hn0 (okC.slot (t := 0) hn0 q5 q6 (q4 hn0) q7 (q8 hn0) q9 q10 (Nat.not_le.mp fun q => hi (Or.inr q)) u1) u2 u3) hl0 (locs1 hL hn0) e1 e2
theorem g_last {n a : Nat} {f : Nat → Value} {i : Int32} {x : Int64} (ha : ce Δ h a = some (101, n, f)) (hn0 : n0 Δ ≤ a) (hi : vp_in i n) (dg : decode μ.2.2.1 pc = .ok (.lastore, 1)) (kk : wp Δ d μ (pc + 1) lv st (hput h a (101, n, updV f i.toNatClampNeg (.long x))) Q) : wp Δ d μ pc lv (.long x :: .int i :: .ref a :: st) h Q := by
  refine kk.at (Nat.le_refl _) (Nat.le_refl _) fun v h' _ _ _ g p e s m args below meth c H locs cells slots ls mc ms B hR hl0 hL e1 e2 => ?_
  obtain ⟨cell, q1, q2, q3, q4, q5, q6, q7, q8, q9, q10⟩ := (hR.2.2.1 _ _ ha).arr (t := 1)
  refine W.last B.2.1 B.2.2.1 q1 (B.ar q7) q2 (by rw [q9]; exact hi) rfl rfl dg fun H' u1 u2 u3 => ?_
  exact g p e s m args below meth c H' _ cells slots ls mc ms B (hR.put (ce_lt ha) hn0 (okC.slot (t := 1) hn0 q5 q6 (q4 hn0) q7 (q8 hn0) q9 q10 (Nat.not_le.mp fun q => hi (Or.inr q)) u1) u2 u3) hl0 (locs1 hL hn0) e1 e2
theorem g_bast {n a : Nat} {f : Nat → Value} {i x : Int32} (ha : ce Δ h a = some (102, n, f)) (hn0 : n0 Δ ≤ a) (hi : vp_in i n) (dg : decode μ.2.2.1 pc = .ok (.bastore, 1)) (kk : wp Δ d μ (pc + 1) lv st (hput h a (102, n, updV f i.toNatClampNeg (.int x.toInt8.toInt32))) Q) : wp Δ d μ pc lv (.int x :: .int i :: .ref a :: st) h Q := by
  refine kk.at (Nat.le_refl _) (Nat.le_refl _) fun v h' _ _ _ g p e s m args below meth c H locs cells slots ls mc ms B hR hl0 hL e1 e2 => ?_
  obtain ⟨cell, q1, q2, q3, q4, q5, q6, q7, q8, q9, q10⟩ := (hR.2.2.1 _ _ ha).arr (t := 2)
  refine W.bast B.2.1 B.2.2.1 q1 (B.ar q7) q2 (by rw [q9]; exact hi) rfl rfl dg fun H' u1 u2 u3 => ?_
  exact g p e s m args below meth c H' _ cells slots ls mc ms B (hR.put (ce_lt ha) hn0 (okC.slot (t := 2) hn0 q5 q6 (q4 hn0) q7 (q8 hn0) q9 q10 (Nat.not_le.mp fun q => hi (Or.inr q)) u1) u2 u3) hl0 (locs1 hL hn0) e1 e2
theorem g_aastN {n a : Nat} {f : Nat → Value} {i : Int32} (ha : ce Δ h a = some (103, n, f)) (hn0 : n0 Δ ≤ a) (hi : vp_in i n) (dg : decode μ.2.2.1 pc = .ok (.aastore, 1)) (kk : wp Δ d μ (pc + 1) lv st (hput h a (103, n, updV f i.toNatClampNeg .null)) Q) : wp Δ d μ pc lv (.null :: .int i :: .ref a :: st) h Q := by
  refine kk.at (Nat.le_refl _) (Nat.le_refl _) fun v h' _ _ _ g p e s m args below meth c H locs cells slots ls mc ms B hR hl0 hL e1 e2 => ?_
  obtain ⟨cell, q1, q2, q3, q4, q5, q6, q7, q8, q9, q10⟩ := (hR.2.2.1 _ _ ha).arr (t := 3)
  refine va_WaastN (C := "java/lang/Object") B.2.1 B.2.2.1 q1 (B.ar q7) q2 (by rw [q9]; exact hi) rfl rfl dg fun H' u1 u2 u3 => ?_
  exact g p e s m args below meth c H' _ cells slots ls mc ms B (hR.put (ce_lt ha) hn0 (okC.slot (t := 3) hn0 q5 q6 (q4 hn0) q7 (q8 hn0) q9 q10 (Nat.not_le.mp fun q => hi (Or.inr q)) u1) u2 u3) hl0 (locs1 hL hn0) e1 e2
theorem Bd.word {p : Program} {s : State} {m : MethodId} {args : Array Value} {meth : Method} {c : Code} (B : Bd Δ μ p s m args meth c) {C nm : String} (hw : Cond.castable C nm ∈ lw_tbl) : va_Nw (.castable C nm) s := by
  obtain ⟨b, hb⟩ := B.1.2.2.2.1
  exact va_Nw.warmC B.2.2.2.2.2.2.2.2.1 (va_Nw.of rfl (hb _ hw))
theorem g_recv {tag n b N : Nat} {f : Nat → Value} {C : String} {T : u_T} {p : Program} {s : State} {m : MethodId} {args : Array Value} {meth : Method} {c : Code} {H : Heap} (B : Bd Δ μ p s m args meth c) (hR : Rl Δ h H) (hc : clz[tag]? = some (C, T, N)) (hb : ce Δ h b = some (tag, n, f)) : ∃ cell : Cell, H[b]? = some cell ∧ cell.vm.isStatics = false ∧ s.vm.findClass C = some cell.cls := by
  obtain ⟨cell, q1, q2, q3, q4, q5, q6⟩ := (hR.2.2.1 _ _ hb).obj hc
  refine ⟨cell, q1, ?_, by rw [q5]; exact (B.kn hc).2.1⟩
  cases hv : cell.vm with
  | statics k => exact (q3 k hv).elim
  | _ => rfl
theorem g_aast {n a b tag n' N : Nat} {f f' : Nat → Value} {i : Int32} {C : String} {T : u_T} (ha : ce Δ h a = some (103, n, f)) (hn0 : n0 Δ ≤ a) (hb : ce Δ h b = some (tag, n', f')) (hc : clz[tag]? = some (C, T, N)) (hw : Cond.castable C "java/lang/Object" ∈ lw_tbl) (hi : vp_in i n) (dg : decode μ.2.2.1 pc = .ok (.aastore, 1)) (kk : wp Δ d μ (pc + 1) lv st (hput h a (103, n, updV f i.toNatClampNeg (.ref b))) Q) : wp Δ d μ pc lv (.ref b :: .int i :: .ref a :: st) h Q := by
  refine kk.at (Nat.le_refl _) (Nat.le_refl _) fun v h' _ _ _ g p e s m args below meth c H locs cells slots ls mc ms B hR hl0 hL e1 e2 => ?_
  obtain ⟨cell, q1, q2, q3, q4, q5, q6, q7, q8, q9, q10⟩ := (hR.2.2.1 _ _ ha).arr (t := 3)
  obtain ⟨cv, v1, v2, v3⟩ := g_recv B hR hc hb
  obtain ⟨b1, b2⟩ := B.1.2.2.1 3 (by decide)
  obtain ⟨kA, comp, x1, x2, x3, x4⟩ := b2.moved B.2.2.2.2.2.2.2.2.1.alike
  obtain ⟨c0, t0, f1, f2, f3⟩ := Cond.castable_spec (va_Nw.use (A := args) rfl (B.word hw))
  have e3 : c0 = cv.cls := Option.some.inj (f1.symm.trans v3)
  have e4 : t0 = comp := Option.some.inj (f2.symm.trans x3)
  obtain ⟨kv, hkv, -⟩ := Vm.findClass_spec v3
  obtain ⟨kc, hkc, -⟩ := Vm.findClass_spec x3
  refine W.aast B.2.1 B.2.2.1 q1 q3 q2 (k := kA) (comp := comp) (t := .object "java/lang/Object") (by rw [q8 hn0]; exact x1) x2 rfl hkc ⟨fun q => hi (Or.inl q), by rw [q9]; exact Nat.not_le.mp fun q => hi (Or.inr q)⟩ v1 (fun q hq => by rw [hq] at v2; cases v2) hkv (by rw [← e3, ← e4]; exact f3) rfl rfl dg fun H' u1 u2 u3 => ?_
  exact g p e s m args below meth c H' _ cells slots ls mc ms B (hR.put (ce_lt ha) hn0 (okC.slot (t := 3) hn0 q5 q6 (q4 hn0) q7 (q8 hn0) q9 q10 (Nat.not_le.mp fun q => hi (Or.inr q)) u1) u2 u3) hl0 (locs1 hL hn0) e1 e2
/-- checkcast: to the object's own class; to one that the tables say it can be cast to -/
theorem g_castS {tag n a idx N : Nat} {f : Nat → Value} {C : String} {T : u_T} (ha : ce Δ h a = some (tag, n, f)) (hc : clz[tag]? = some (C, T, N)) (hl : Cond.classLink μ.1 idx C ∈ lw_all) (dg : decode μ.2.2.1 pc = .ok (.checkcast idx, 3)) (kk : wp Δ d μ (pc + 3) lv (.ref a :: st) h Q) : wp Δ d μ pc lv (.ref a :: st) h Q :=
  kk.on fun v h' g p e s m args below meth c H locs cells slots ls mc ms B hR hl0 hL e1 e2 => va_castS B.2.1 B.2.2.1 B.2.2.2.2.2.2.1 (B.2.2.2.2.2.2.2.2.2.1 _ hl) (B.kn hc).2 (g_recv B hR hc ha) dg (g p e s m args below meth c H locs cells slots ls mc ms B hR hl0 hL e1 e2)
theorem g_castY {tag n a idx N : Nat} {f : Nat → Value} {C nm : String} {T : u_T} (ha : ce Δ h a = some (tag, n, f)) (hc : clz[tag]? = some (C, T, N)) (hw : Cond.castable C nm ∈ lw_tbl) (hl : Cond.classLink μ.1 idx nm ∈ lw_all) (dg : decode μ.2.2.1 pc = .ok (.checkcast idx, 3)) (kk : wp Δ d μ (pc + 3) lv (.ref a :: st) h Q) : wp Δ d μ pc lv (.ref a :: st) h Q :=
  kk.on fun v h' g p e s m args below meth c H locs cells slots ls mc ms B hR hl0 hL e1 e2 => va_castY B.2.1 B.2.2.1 B.2.2.2.2.2.2.1 (B.2.2.2.2.2.2.2.2.2.1 _ hl) (B.word hw) (g_recv B hR hc ha) dg (g p e s m args below meth c H locs cells slots ls mc ms B hR hl0 hL e1 e2)
theorem g_instS {tag n a idx N : Nat} {f : Nat → Value} {C : String} {T : u_T} (ha : ce Δ h a = some (tag, n, f)) (hc : clz[tag]? = some (C, T, N)) (hl : Cond.classLink μ.1 idx C ∈ lw_all) (dg : decode μ.2.2.1 pc = .ok (.instanceof idx, 3)) (kk : wp Δ d μ (pc + 3) lv (.int 1 :: st) h Q) : wp Δ d μ pc lv (.ref a :: st) h Q :=
  kk.on fun v h' g p e s m args below meth c H locs cells slots ls mc ms B hR hl0 hL e1 e2 => va_instS B.2.1 B.2.2.1 B.2.2.2.2.2.2.1 (B.2.2.2.2.2.2.2.2.2.1 _ hl) (B.kn hc).2 (g_recv B hR hc ha) dg (g p e s m args below meth c H locs cells slots ls mc ms B hR hl0 hL e1 e2)
/-! ends -/
theorem wp_end {x : Option Value} (hq : Q x h) (f : G Δ d μ pc lv st h x h) : wp Δ d μ pc lv st h Q := fun _ => ⟨x, h, Nat.le_refl _, Nat.le_refl _, hq, f⟩
theorem g_iret {x : Int32} (hr : μ.2.2.2.2 = some .int) (dg : decode μ.2.2.1 pc = .ok (.ireturn, 1)) (hq : Q (some (.int x)) h) : wp Δ d μ pc lv [.int x] h Q := by
  refine wp_end hq fun p e s m args below meth c H locs cells slots ls mc ms B hR hl0 hL e1 e2 => ?_
  have e3 : cells = mc := by omega
  have e4 : slots = ms := by omega
  subst e3; subst e4
  exact W.iret B.2.1 B.2.2.1 (B.2.2.2.1.trans hr) (fun t ht _ => ⟨rfl, by rw [ht]; exact hR⟩) hL dg (hlocks := B.2.2.2.2.1)
theorem g_zret {x : Int32} (hr : μ.2.2.2.2 = some .boolean) (hx : x = 0 ∨ x = 1) (dg : decode μ.2.2.1 pc = .ok (.ireturn, 1)) (hq : Q (some (.int x)) h) : wp Δ d μ pc lv [.int x] h Q := by
  refine wp_end hq fun p e s m args below meth c H locs cells slots ls mc ms B hR hl0 hL e1 e2 => ?_
  have e3 : cells = mc := by omega
  have e4 : slots = ms := by omega
  subst e3; subst e4
  exact W.zret B.2.1 B.2.2.1 (B.2.2.2.1.trans hr) (by rcases hx with rfl | rfl <;> rfl) (fun t ht _ => ⟨rfl, by rw [ht]; exact hR⟩) hL dg (hlocks := B.2.2.2.2.1)
/-- char, byte: what is answered fits -/
theorem g_cret {x : Int32} {ty : FieldType} (hr : μ.2.2.2.2 = some ty) (hx : narrow ty (.int x) = .int x) (dg : decode μ.2.2.1 pc = .ok (.ireturn, 1)) (hq : Q (some (.int x)) h) : wp Δ d μ pc lv [.int x] h Q := by
  refine wp_end hq fun p e s m args below meth c H locs cells slots ls mc ms B hR hl0 hL e1 e2 => ?_
  have e3 : cells = mc := by omega
  have e4 : slots = ms := by omega
  subst e3; subst e4
  exact W.zret B.2.1 B.2.2.1 (B.2.2.2.1.trans hr) hx (fun t ht _ => ⟨rfl, by rw [ht]; exact hR⟩) hL dg (hlocks := B.2.2.2.2.1)
theorem g_lret {x : Int64} (hr : μ.2.2.2.2 = some .long) (dg : decode μ.2.2.1 pc = .ok (.lreturn, 1)) (hq : Q (some (.long x)) h) : wp Δ d μ pc lv [.long x] h Q := by
  refine wp_end hq fun p e s m args below meth c H locs cells slots ls mc ms B hR hl0 hL e1 e2 => ?_
  have e3 : cells = mc := by omega
  have e4 : slots = ms := by omega
  subst e3; subst e4
  exact W.lret B.2.1 B.2.2.1 (B.2.2.2.1.trans hr) (fun t ht _ => ⟨rfl, by rw [ht]; exact hR⟩) hL dg (hlocks := B.2.2.2.2.1)
theorem g_aret {x : Value} {rt : FieldType} (hr : μ.2.2.2.2 = some rt) (hrt : (∃ n, rt = .object n) ∨ ∃ t, rt = .array t) (hv : x = .null ∨ ∃ a, x = .ref a) (dg : decode μ.2.2.1 pc = .ok (.areturn, 1)) (hq : Q (some x) h) : wp Δ d μ pc lv [x] h Q := by
  refine wp_end hq fun p e s m args below meth c H locs cells slots ls mc ms B hR hl0 hL e1 e2 => ?_
  have e3 : cells = mc := by omega
  have e4 : slots = ms := by omega
  subst e3; subst e4
  exact W.aret B.2.1 B.2.2.1 (B.2.2.2.1.trans hr) hrt hv (fun t ht _ => ⟨rfl, by rw [ht]; exact hR⟩) hL dg (hlocks := B.2.2.2.2.1)
theorem g_vret (hr : μ.2.2.2.2 = none) (dg : decode μ.2.2.1 pc = .ok (.return_, 1)) (hq : Q none h) : wp Δ d μ pc lv [] h Q := by
  refine wp_end hq fun p e s m args below meth c H locs cells slots ls mc ms B hR hl0 hL e1 e2 => ?_
  have e3 : cells = mc := by omega
  have e4 : slots = ms := by omega
  subst e3; subst e4
  exact W.vret B.2.1 B.2.2.1 (B.2.2.2.1.trans hr) (fun t ht _ => ⟨rfl, by rw [ht]; exact hR⟩) hL dg (hlocks := B.2.2.2.2.1)
/-! a method, from its entry -/
theorem mt_of {av : List Value} {lv0 : List (Nat × Value)} (hp : plainName μ.2.1.cls = true) (hown : μ.1 = μ.2.1.cls) (hlen : (lg_sl av).length ≤ μ.2.2.2.1) (hlv : lv_args 0 av = lv0) (k : wp Δ d μ 0 lv0 [] h Q) : mt Δ d μ av h Q := by
  intro hn
  obtain ⟨v, h', a, b, hq, g⟩ := k hn
  refine ⟨v, h', a, b, hq, fun hΔ mc ms e1 e2 => ?_⟩
  refine Met.ofW (cc := μ.2.2.1) (maxL := μ.2.2.2.1) (ret := μ.2.2.2.2) hp rfl ?_
  intro p e s m args below meth c s₁ B hml hv
  obtain ⟨rfl, hR, hW⟩ := hv
  have hts := atoms_spec (ws := ws_ μ.2.1 μ.2.2.1 μ.2.2.2.1 μ.2.2.2.2) B.pre
  have hts : ∀ w ∈ lw_all, w.before _ s = true := fun w h => hts w (List.mem_cons_of_mem _ h)
  have hl := lv_entry av hlen
  rw [lg_entry_eq]
  rw [hlv] at hl
  exact g p e s m _ below meth c s.heap [] 0 0 _ mc ms ⟨hΔ, B.exec, B.bytes, B.returns, B.notSynchronized, hml, by rw [hown]; exact findClass_of_methodNamed B.named, (name_of_methodNamed B.named B.method).1, hW, hts, by rw [hR.1]; exact hn⟩ hR hl (fun _ q => by cases q) (by omega) (by omega)
end GH
