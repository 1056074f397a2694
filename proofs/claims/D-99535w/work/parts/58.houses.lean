section GS
variable {Δ : Cx} {d : Nat} {μ : Mi} {pc : Nat} {lv : List (Nat × Value)} {st : List Value} {h : Hp} {Q : Option Value → Hp → Prop}
theorem gh_getS {tag n k idx a : Nat} {f : Nat → Value} {x : Value} {ref ref' nm ds : String} {fin : Bool} {ty : FieldType} (F : fOk tag k ref nm ds fin ty) (hs : Cond.sameField ref' ref nm ds ∈ lw_all) (hl : Cond.fieldLink μ.1 idx ref' nm ds ∈ lw_all) (ha : ce Δ h a = some (tag, n, f)) (dg : decode μ.2.2.1 pc = .ok (.getfield idx, 3)) (hx : f k = x) (kk : wp Δ d μ (pc + 3) lv (x :: st) h Q) : wp Δ d μ pc lv (.ref a :: st) h Q := by
  subst hx
  exact g_getfS F hs hl ha dg kk
end GS
set_option maxRecDepth 100000 in
theorem t_X1_in {Δ : Cx} {h : Hp} (d : Nat) (x lo hi : Int32) : mt Δ d muX1_in [.int x, .int lo, .int hi] h (fun v h' => v = some (.int (bI (inS x lo hi))) ∧ h' = h) := by
  refine mt_of (lv0 := [(0, .int x), (1, .int lo), (2, .int hi)]) rfl rfl (Nat.le_of_ble_eq_true rfl) rfl ?_
  refine g_iload_n dX1_in_0 0 rfl ?_
  refine g_iload_n dX1_in_1 1 rfl ?_
  refine g_icmp_lt (tgt := 14) dX1_in_2 (by decide) (fun c_1 => ?_) (fun c_1 => ?_)
  ·
    refine g_iconst (x := 0) dX1_in_14 rfl ?_
    refine g_zret rfl (by first | exact Or.inl rfl | exact Or.inr rfl | exact bI_01 _) dX1_in_15 ?_
    exact ⟨by first | rw [in_1 (by assumption)] | rw [in_2 (by assumption)] | rw [in_3 (by assumption) (by assumption)], rfl⟩
  ·
    refine g_iload_n dX1_in_5 0 rfl ?_
    refine g_iload_n dX1_in_6 2 rfl ?_
    refine g_icmp_gt (tgt := 14) dX1_in_7 (by decide) (fun c_2 => ?_) (fun c_2 => ?_)
    ·
      refine g_iconst (x := 0) dX1_in_14 rfl ?_
      refine g_zret rfl (by first | exact Or.inl rfl | exact Or.inr rfl | exact bI_01 _) dX1_in_15 ?_
      exact ⟨by first | rw [in_1 (by assumption)] | rw [in_2 (by assumption)] | rw [in_3 (by assumption) (by assumption)], rfl⟩
    ·
      refine g_iconst (x := 1) dX1_in_10 rfl ?_
      refine g_goto (tgt := 15) dX1_in_11 (by decide) ?_
      refine g_zret rfl (by first | exact Or.inl rfl | exact Or.inr rfl | exact bI_01 _) dX1_in_15 ?_
      exact ⟨by first | rw [in_1 (by assumption)] | rw [in_2 (by assumption)] | rw [in_3 (by assumption) (by assumption)], rfl⟩
set_option maxRecDepth 100000 in
theorem t_X1_has {Δ : Cx} {h : Hp} (d : Nat) (s k : Int32) : mt Δ d muX1_has [.int s, .int k] h (fun v h' => v = some (.int (bI (hbS s k))) ∧ h' = h) := by
  refine mt_of (lv0 := [(0, .int s), (1, .int k)]) rfl rfl (Nat.le_of_ble_eq_true rfl) rfl ?_
  refine g_iload_n dX1_has_0 0 rfl ?_
  refine g_iload_n dX1_has_1 1 rfl ?_
  refine g_ishr dX1_has_2 ?_
  refine g_iconst (x := 1) dX1_has_3 rfl ?_
  refine g_iand dX1_has_4 ?_
  refine g_iconst (x := 1) dX1_has_5 rfl ?_
  refine g_icmp_ne (tgt := 13) dX1_has_6 (by decide) (fun c_1 => ?_) (fun c_1 => ?_)
  ·
    refine g_iconst (x := 0) dX1_has_13 rfl ?_
    refine g_zret rfl (by first | exact Or.inl rfl | exact Or.inr rfl | exact bI_01 _) dX1_has_14 ?_
    exact ⟨by first | rw [hb_1 (by assumption)] | rw [hb_0 (by assumption)], rfl⟩
  ·
    refine g_iconst (x := 1) dX1_has_9 rfl ?_
    refine g_goto (tgt := 14) dX1_has_10 (by decide) ?_
    refine g_zret rfl (by first | exact Or.inl rfl | exact Or.inr rfl | exact bI_01 _) dX1_has_14 ?_
    exact ⟨by first | rw [hb_1 (by assumption)] | rw [hb_0 (by assumption)], rfl⟩
set_option maxRecDepth 100000 in
theorem t_X1_bits {Δ : Cx} {h : Hp} (d : Nat) (k : Nat) (hk : k < 32) : mt Δ d muX1_bits [.int (nI k)] h (fun v h' => v = some (.int (nI (onN k))) ∧ h' = h) := by
  refine mt_of (lv0 := [(0, .int (nI k))]) rfl rfl (Nat.le_of_ble_eq_true rfl) rfl ?_
  refine g_iconst (x := 0) dX1_bits_0 rfl ?_
  refine g_istore_n (lv' := [(1, .int 0), (0, .int (nI k))]) dX1_bits_1 (by decide) rfl ?_
  refine g_iload_n dX1_bits_2 1 rfl ?_
  refine g_istore_n (lv' := [(2, .int (nI k)), (1, .int 0), (0, .int (nI k))]) dX1_bits_3 (by decide) rfl ?_
  have C4f : ∀ (fuel : Nat) (j n : Nat), j < fuel → (j < 32) → (n + onN j = onN k) → (n ≤ 5) → wp Δ d muX1_bits 4 [(2, .int (nI j)), (1, .int (nI n)), (0, .int (nI k))] [] h (fun v h' => v = some (.int (nI (onN k))) ∧ h' = h) := by
    intro fuel
    induction fuel with
    | zero => intros; omega
    | succ fuel ih4 =>
      intro j n hfuel4 h4_0 h4_1 h4_2
      refine g_iload_n dX1_bits_4 0 rfl ?_
      refine g_if_eq (tgt := 20) dX1_bits_5 (by decide) (fun c_1 => ?_) (fun c_1 => ?_)
      ·
        have hj0 : j = 0 := (nI_eq (b := 0) (by omega) (by omega)).mp c_1
        subst hj0
        refine g_iload_n dX1_bits_20 1 rfl ?_
        refine g_iret rfl dX1_bits_21 ?_
        have e0 : onN 0 = 0 := by decide
        exact ⟨by rw [show n = onN k by omega], rfl⟩
      ·
        have hj0 : j ≠ 0 := fun q => c_1 (by rw [q]; rfl)
        obtain ⟨i, hi1, hi2, hi3⟩ := on_S (by omega) hj0
        refine g_iinc (z := nI (n + 1)) (lv' := [(1, .int (nI (n + 1))), (2, .int (nI j)), (0, .int (nI k))]) dX1_bits_8 1 rfl (nI_add _ 1) (by decide) rfl ?_
        refine g_iload_n dX1_bits_11 1 rfl ?_
        refine g_iload_n dX1_bits_12 1 rfl ?_
        refine g_iconst (x := 1) dX1_bits_13 rfl ?_
        refine g_isub dX1_bits_14 ?_
        refine g_iand dX1_bits_15 ?_
        refine wp_top (z := .int (nI i)) (congrArg Value.int (hi2)) ?_
        refine g_istore_n (lv' := [(2, .int (nI i)), (1, .int (nI (n + 1))), (0, .int (nI k))]) dX1_bits_16 (by decide) rfl ?_
        refine g_goto (tgt := 4) dX1_bits_17 (by decide) ?_
        exact ih4 i (n + 1) (by omega) (by omega) (by omega) (by have := (on_N hk).2; omega)
  have C4 : ∀ (j n : Nat), (j < 32) → (n + onN j = onN k) → (n ≤ 5) → wp Δ d muX1_bits 4 [(2, .int (nI j)), (1, .int (nI n)), (0, .int (nI k))] [] h (fun v h' => v = some (.int (nI (onN k))) ∧ h' = h) := fun j n h4_0 h4_1 h4_2 => C4f _ j n (Nat.lt_succ_self _) h4_0 h4_1 h4_2
  exact C4 k 0 hk (Nat.zero_add _) (by omega)
set_option maxRecDepth 100000 in
theorem t_J12_checkIndex {Δ : Cx} {h : Hp} (d : Nat) (i n : Nat) (hi : i < n) (hn31 : n < 2 ^ 31) : mt Δ (d + 1) muJ12_checkIndex [.int (nI i), .int (nI n)] h (fun v h' => v = some (.int (nI i)) ∧ h' = h) := by
  refine mt_of (lv0 := [(0, .int (nI i)), (1, .int (nI n))]) rfl rfl (Nat.le_of_ble_eq_true rfl) rfl ?_
  refine g_iload_n dJ12_checkIndex_0 0 rfl ?_
  refine g_iload_n dJ12_checkIndex_1 1 rfl ?_
  refine g_null dJ12_checkIndex_2 ?_
  refine g_callS (t_J11_checkIndexN _ i n (by omega) (by omega)) (lw_S q756 q513 q142 q514) okJ11_checkIndex rfl rfl (Nat.le_of_ble_eq_true rfl) dJ12_checkIndex_3 (fun v1 h1 _ _ hq => ?_)
  obtain ⟨rfl, hh⟩ := hq
  rw [hh]
  show wp Δ (d + 1) muJ12_checkIndex 6 [(0, .int (nI i)), (1, .int (nI n))] [.int (nI i)] h _
  refine g_iret rfl dJ12_checkIndex_6 ?_
  exact ⟨rfl, rfl⟩
set_option maxRecDepth 100000 in
theorem t_J2_size {Δ : Cx} {h : Hp} (d : Nat) {L n : Nat} {f : Nat → Nat} (hA : AL (ce Δ h) L n f) : mt Δ d muJ2_size [.ref L] h (fun v h' => v = some (.int (nI n)) ∧ h' = h) := by
  obtain ⟨E, cap, mc, g, a1, a2, a3, a4, a5⟩ := hA
  refine mt_of (lv0 := [(0, .ref L)]) rfl rfl (Nat.le_of_ble_eq_true rfl) rfl ?_
  refine g_aload_n dJ2_size_0 0 rfl ?_
  refine gh_get (x := .int (nI n)) f_14_2 q179 (a1) dJ2_size_1 rfl ?_
  refine g_iret rfl dJ2_size_4 ?_
  exact ⟨rfl, rfl⟩
set_option maxRecDepth 100000 in
theorem t_J2_isEmpty {Δ : Cx} {h : Hp} (d : Nat) {L n : Nat} {f : Nat → Nat} (hA : AL (ce Δ h) L n f) : mt Δ d muJ2_isEmpty [.ref L] h (fun v h' => v = some (.int (bI (decide (n = 0)))) ∧ h' = h) := by
  obtain ⟨E, cap, mc, g, a1, a2, a3, a4, a5⟩ := hA; have hn31 : n < 2 ^ 31 := by omega
  refine mt_of (lv0 := [(0, .ref L)]) rfl rfl (Nat.le_of_ble_eq_true rfl) rfl ?_
  refine g_aload_n dJ2_isEmpty_0 0 rfl ?_
  refine gh_get (x := .int (nI n)) f_14_2 q179 (a1) dJ2_isEmpty_1 rfl ?_
  refine g_if_ne (tgt := 11) dJ2_isEmpty_4 (by decide) (fun c_1 => ?_) (fun c_1 => ?_)
  ·
    have hz : decide (n = 0) = false := decide_eq_false (fun q => c_1 (by rw [q]; rfl))
    refine g_iconst (x := 0) dJ2_isEmpty_11 rfl ?_
    refine g_zret rfl (by first | exact Or.inl rfl | exact Or.inr rfl | exact bI_01 _) dJ2_isEmpty_12 ?_
    exact ⟨by rw [hz]; rfl, rfl⟩
  ·
    have hz : decide (n = 0) = true := decide_eq_true ((nI_eq (b := 0) (by omega) (by omega)).mp c_1)
    refine g_iconst (x := 1) dJ2_isEmpty_7 rfl ?_
    refine g_goto (tgt := 12) dJ2_isEmpty_8 (by decide) ?_
    refine g_zret rfl (by first | exact Or.inl rfl | exact Or.inr rfl | exact bI_01 _) dJ2_isEmpty_12 ?_
    exact ⟨by rw [hz]; rfl, rfl⟩
set_option maxRecDepth 100000 in
theorem t_J2_elementData {Δ : Cx} {h : Hp} (d : Nat) {L n : Nat} {f : Nat → Nat} (hA : AL (ce Δ h) L n f) (i : Nat) (hi : i < n) : mt Δ d muJ2_elementData [.ref L, .int (nI i)] h (fun v h' => v = some (.ref (f i)) ∧ h' = h) := by
  obtain ⟨E, cap, mc, g, a1, a2, a3, a4, a5⟩ := hA
  refine mt_of (lv0 := [(0, .ref L), (1, .int (nI i))]) rfl rfl (Nat.le_of_ble_eq_true rfl) rfl ?_
  refine g_aload_n dJ2_elementData_0 0 rfl ?_
  refine gh_get (x := .ref E) f_14_1 q178 (a1) dJ2_elementData_1 rfl ?_
  refine g_iload_n dJ2_elementData_4 1 rfl ?_
  refine gh_aald (j := i) (x := .ref (f i)) (a2) (rfl) (by omega) (a4) (a5 i hi) dJ2_elementData_5 ?_
  refine g_aret rfl (by first | exact Or.inl ⟨_, rfl⟩ | exact Or.inr ⟨_, rfl⟩) (by first | exact Or.inl rfl | exact Or.inr ⟨_, rfl⟩) dJ2_elementData_6 ?_
  exact ⟨rfl, rfl⟩
set_option maxRecDepth 100000 in
theorem t_J2_get {Δ : Cx} {h : Hp} (d : Nat) {L n : Nat} {f : Nat → Nat} (hA : AL (ce Δ h) L n f) (i : Nat) (hi : i < n) : mt Δ (d + 2) muJ2_get [.ref L, .int (nI i)] h (fun v h' => v = some (.ref (f i)) ∧ h' = h) := by
  have hA0 := hA; obtain ⟨E, cap, mc, g, a1, a2, a3, a4, a5⟩ := hA; have hA := hA0
  refine mt_of (lv0 := [(0, .ref L), (1, .int (nI i))]) rfl rfl (Nat.le_of_ble_eq_true rfl) rfl ?_
  refine g_iload_n dJ2_get_0 1 rfl ?_
  refine g_aload_n dJ2_get_1 0 rfl ?_
  refine gh_get (x := .int (nI n)) f_14_2 q179 (a1) dJ2_get_2 rfl ?_
  refine g_callS (t_J12_checkIndex _ i n (by omega) (by omega)) (lw_S q753 q754 q144 q755) okJ12_checkIndex rfl rfl (Nat.le_of_ble_eq_true rfl) dJ2_get_5 (fun v1 h1 _ _ hq => ?_)
  obtain ⟨rfl, hh⟩ := hq
  rw [hh]
  show wp Δ (d + 2) muJ2_get 8 [(0, .ref L), (1, .int (nI i))] [.int (nI i)] h _
  refine g_pop dJ2_get_8 rfl ?_
  refine g_aload_n dJ2_get_9 0 rfl ?_
  refine g_iload_n dJ2_get_10 1 rfl ?_
  refine g_callV (t_J2_elementData _ hA i hi) (lw_V q757 q758 q759 q127 q760) okJ2_elementData (a1) rfl rfl rfl rfl (Nat.le_of_ble_eq_true rfl) dJ2_get_11 (fun v1 h1 _ _ hq => ?_)
  obtain ⟨rfl, hh⟩ := hq
  rw [hh]
  show wp Δ (d + 2) muJ2_get 14 [(0, .ref L), (1, .int (nI i))] [.ref (f i)] h _
  refine g_aret rfl (by first | exact Or.inl ⟨_, rfl⟩ | exact Or.inr ⟨_, rfl⟩) (by first | exact Or.inl rfl | exact Or.inr ⟨_, rfl⟩) dJ2_get_14 ?_
  exact ⟨rfl, rfl⟩
theorem AL_c {c : Nat → Option Cel} {L n : Nat} {f : Nat → Nat} (h : AL c L n f) : ∃ lf : Nat → Value, c L = some (14, 0, lf) := by
  obtain ⟨E, cap, mc, g, h1, -⟩ := h
  exact ⟨_, h1⟩
section GMM
variable {Δ : Cx} {d : Nat} {μ : Mi} {pc idx : Nat} {lv : List (Nat × Value)} {st : List Value} {h : Hp} {Q : Option Value → Hp → Prop}
theorem g_mmax {x y : Int32} (hl : Cond.methodLink μ.1 idx Lib.Math.max.name ∈ lw_all) (hstat : Cond.static Lib.Math.max.name ∈ lw_all) (hini : Cond.initialized "java/lang/Math" ∈ lw_all) (hco : Cond.code Lib.Math.max.name Lib.Math.max.code 2 (some .int) ∈ lw_all) (hs : (st.map fun v => v.category).sum ≤ 8) (dg : decode μ.2.2.1 pc = .ok (.invokestatic idx, 3)) (kk : wp Δ (d + 1) μ (pc + 3) lv (.int (if x < y then y else x) :: st) h Q) : wp Δ (d + 1) μ pc lv (.int y :: .int x :: st) h Q := by
  refine kk.at (Nat.le_refl _) (Nat.le_refl _) fun v h' _ w1 w2 g p e s m args below meth c H locs cells slots ls mc ms B hR hl0 hL e1 e2 => ?_
  have hts := B.2.2.2.2.2.2.2.2.2.1
  exact va_mmax B.2.1 B.2.2.1 (by rw [B.2.2.2.2.2.1]; exact hl0.1.symm) B.2.2.2.2.2.2.1 (hts _ hl) (hts _ hstat) (hts _ hini) (hts _ hco) (by show 1 ≤ d + 1; omega) (by show _ ≤ 64 * (d + 1) + 24; omega) (by show cells ≤ mc; omega) (by show slots ≤ ms; omega) dg (g p e s m args below meth c H locs cells slots ls mc ms B hR hl0 hL e1 e2)
theorem g_mmin {x y : Int32} (hl : Cond.methodLink μ.1 idx Lib.Math.min.name ∈ lw_all) (hstat : Cond.static Lib.Math.min.name ∈ lw_all) (hini : Cond.initialized "java/lang/Math" ∈ lw_all) (hco : Cond.code Lib.Math.min.name Lib.Math.min.code 2 (some .int) ∈ lw_all) (hs : (st.map fun v => v.category).sum ≤ 8) (dg : decode μ.2.2.1 pc = .ok (.invokestatic idx, 3)) (kk : wp Δ (d + 1) μ (pc + 3) lv (.int (if y < x then y else x) :: st) h Q) : wp Δ (d + 1) μ pc lv (.int y :: .int x :: st) h Q := by
  refine kk.at (Nat.le_refl _) (Nat.le_refl _) fun v h' _ w1 w2 g p e s m args below meth c H locs cells slots ls mc ms B hR hl0 hL e1 e2 => ?_
  have hts := B.2.2.2.2.2.2.2.2.2.1
  exact va_mmin B.2.1 B.2.2.1 (by rw [B.2.2.2.2.2.1]; exact hl0.1.symm) B.2.2.2.2.2.2.1 (hts _ hl) (hts _ hstat) (hts _ hini) (hts _ hco) (by show 1 ≤ d + 1; omega) (by show _ ≤ 64 * (d + 1) + 24; omega) (by show cells ≤ mc; omega) (by show slots ≤ ms; omega) dg (g p e s m args below meth c H locs cells slots ls mc ms B hR hl0 hL e1 e2)
end GMM
set_option maxRecDepth 100000 in
theorem t_X8_kind {Δ : Cx} {h : Hp} (d : Nat) {b : Nat} : mt Δ d muX8_kind [.ref b] h (fun v h' => v = some (.int 0) ∧ h' = h) := by
  refine mt_of (lv0 := [(0, .ref b)]) rfl rfl (Nat.le_of_ble_eq_true rfl) rfl ?_
  refine g_iconst (x := 0) dX8_kind_0 rfl ?_
  refine g_iret rfl dX8_kind_1 ?_
  exact ⟨rfl, rfl⟩
set_option maxRecDepth 100000 in
theorem t_X9_kind {Δ : Cx} {h : Hp} (d : Nat) {b : Nat} : mt Δ d muX9_kind [.ref b] h (fun v h' => v = some (.int 1) ∧ h' = h) := by
  refine mt_of (lv0 := [(0, .ref b)]) rfl rfl (Nat.le_of_ble_eq_true rfl) rfl ?_
  refine g_iconst (x := 1) dX9_kind_0 rfl ?_
  refine g_iret rfl dX9_kind_1 ?_
  exact ⟨rfl, rfl⟩
set_option maxRecDepth 100000 in
theorem t_X10_kind {Δ : Cx} {h : Hp} (d : Nat) {b : Nat} : mt Δ d muX10_kind [.ref b] h (fun v h' => v = some (.int 2) ∧ h' = h) := by
  refine mt_of (lv0 := [(0, .ref b)]) rfl rfl (Nat.le_of_ble_eq_true rfl) rfl ?_
  refine g_iconst (x := 2) dX10_kind_0 rfl ?_
  refine g_iret rfl dX10_kind_1 ?_
  exact ⟨rfl, rfl⟩
set_option maxRecDepth 100000 in
theorem t_X11_kind {Δ : Cx} {h : Hp} (d : Nat) {b : Nat} : mt Δ d muX11_kind [.ref b] h (fun v h' => v = some (.int 3) ∧ h' = h) := by
  refine mt_of (lv0 := [(0, .ref b)]) rfl rfl (Nat.le_of_ble_eq_true rfl) rfl ?_
  refine g_iconst (x := 3) dX11_kind_0 rfl ?_
  refine g_iret rfl dX11_kind_1 ?_
  exact ⟨rfl, rfl⟩
set_option maxRecDepth 100000 in
theorem t_X8_weighs {Δ : Cx} {h : Hp} (d : Nat) {b kd nm : Nat} {la ti so : Int32} (hk : kd ≤ 3) (hb : ce Δ h b = some (7 + kd, 0, ob [.ref nm, .int la, .int ti, .int so])) : mt Δ d muX8_weighs [.ref b] h (fun v h' => v = some (.int ti) ∧ h' = h) := by
  refine mt_of (lv0 := [(0, .ref b)]) rfl rfl (Nat.le_of_ble_eq_true rfl) rfl ?_
  refine g_aload_n dX8_weighs_0 0 rfl ?_
  refine gh_get (x := .int ti) (fH_2 hk) q873 (hb) dX8_weighs_1 rfl ?_
  refine g_iret rfl dX8_weighs_4 ?_
  exact ⟨rfl, rfl⟩
set_option maxRecDepth 100000 in
theorem t_X8_rows {Δ : Cx} {h : Hp} (d : Nat) {b : Nat} (x m : Int32) : mt Δ d muX8_rows [.ref b, .int x, .int m] h (fun v h' => v = some (.int x) ∧ h' = h) := by
  refine mt_of (lv0 := [(0, .ref b), (1, .int x), (2, .int m)]) rfl rfl (Nat.le_of_ble_eq_true rfl) rfl ?_
  refine g_iload_n dX8_rows_0 1 rfl ?_
  refine g_iret rfl dX8_rows_1 ?_
  exact ⟨rfl, rfl⟩
set_option maxRecDepth 100000 in
theorem t_X8_goes {Δ : Cx} {h : Hp} (d : Nat) {b : Nat} {bb bn : Nat} {le is : Int32} (hbb : ce Δ h bb = some (6, 0, ob [.ref bn, .int le, .int is])) (x : Int32) : mt Δ d muX8_goes [.ref b, .ref bb, .int x] h (fun v h' => v = some (.int (le + (if x = is then 0 else 2))) ∧ h' = h) := by
  refine mt_of (lv0 := [(0, .ref b), (1, .ref bb), (2, .int x)]) rfl rfl (Nat.le_of_ble_eq_true rfl) rfl ?_
  refine g_aload_n dX8_goes_0 1 rfl ?_
  refine gh_get (x := .int le) f_6_1 q779 (hbb) dX8_goes_1 rfl ?_
  have C17 : ∀ (z : Int32), (z = if x = is then 0 else 2) → wp Δ d muX8_goes 17 [] [.int z, .int le] h (fun v h' => v = some (.int (le + (if x = is then 0 else 2))) ∧ h' = h) := by
    intro z h17_0
    subst h17_0
    refine g_iadd dX8_goes_17 ?_
    refine g_iret rfl dX8_goes_18 ?_
    exact ⟨rfl, rfl⟩
  refine g_iload_n dX8_goes_4 2 rfl ?_
  refine g_aload_n dX8_goes_5 1 rfl ?_
  refine gh_get (x := .int is) f_6_2 q783 (hbb) dX8_goes_6 rfl ?_
  refine g_icmp_ne (tgt := 16) dX8_goes_9 (by decide) (fun c_1 => ?_) (fun c_1 => ?_)
  ·
    refine g_iconst (x := 2) dX8_goes_16 rfl ?_
    refine g_lv [] (by rfl) ?_
    exact C17 _ (by first | rfl | assumption | exact (if_pos (by assumption)).symm | exact (if_neg (by assumption)).symm | omega | (simp_all; done))
  ·
    refine g_iconst (x := 0) dX8_goes_12 rfl ?_
    refine g_goto (tgt := 17) dX8_goes_13 (by decide) ?_
    refine g_lv [] (by rfl) ?_
    exact C17 _ (by first | rfl | assumption | exact (if_pos (by assumption)).symm | exact (if_neg (by assumption)).symm | omega | (simp_all; done))
set_option maxRecDepth 100000 in
theorem t_X10_weighs {Δ : Cx} {h : Hp} (d : Nat) {b nm : Nat} {la ti so : Int32} (hb : ce Δ h b = some (9, 0, ob [.ref nm, .int la, .int ti, .int so])) : mt Δ (d + 1) muX10_weighs [.ref b] h (fun v h' => v = some (.int (ti / 2)) ∧ h' = h) := by
  refine mt_of (lv0 := [(0, .ref b)]) rfl rfl (Nat.le_of_ble_eq_true rfl) rfl ?_
  refine g_aload_n dX10_weighs_0 0 rfl ?_
  refine g_callSU (t_X8_weighs _ (kd := 2) (by decide) hb) (lw_SU q1132 q1126 q910 q1124 q145 q1133) okX8_weighs (by decide) (hb) rfl rfl rfl (Nat.le_of_ble_eq_true rfl) dX10_weighs_1 (fun v1 h1 _ _ hq => ?_)
  obtain ⟨rfl, hh⟩ := hq
  rw [hh]
  show wp Δ (d + 1) muX10_weighs 4 [(0, .ref b)] [.int ti] h _
  refine g_iconst (x := 2) dX10_weighs_4 rfl ?_
  refine g_idiv dX10_weighs_5 (by decide) ?_
  refine g_iret rfl dX10_weighs_6 ?_
  exact ⟨rfl, rfl⟩
set_option maxRecDepth 100000 in
theorem t_X9_rows {Δ : Cx} {h : Hp} (d : Nat) {b nm : Nat} {la ti so : Int32} (hb : ce Δ h b = some (8, 0, ob [.ref nm, .int la, .int ti, .int so])) (x m : Int32) : mt Δ (d + 1) muX9_rows [.ref b, .int x, .int m] h (fun v h' => v = some (.int (if m ≤ 1 then x else x * 2)) ∧ h' = h) := by
  refine mt_of (lv0 := [(0, .ref b), (1, .int x), (2, .int m)]) rfl rfl (Nat.le_of_ble_eq_true rfl) rfl ?_
  refine g_iload_n dX9_rows_0 2 rfl ?_
  refine g_iconst (x := 1) dX9_rows_1 rfl ?_
  refine g_icmp_le (tgt := 16) dX9_rows_2 (by decide) (fun c_1 => ?_) (fun c_1 => ?_)
  ·
    refine g_aload_n dX9_rows_16 0 rfl ?_
    refine g_iload_n dX9_rows_17 1 rfl ?_
    refine g_iload_n dX9_rows_18 2 rfl ?_
    refine g_callSU (t_X8_rows _ x m) (lw_SU q1153 q1148 q899 q1146 q145 q1154) okX8_rows (by decide) (hb) rfl rfl rfl (Nat.le_of_ble_eq_true rfl) dX9_rows_19 (fun v1 h1 _ _ hq => ?_)
    obtain ⟨rfl, hh⟩ := hq
    rw [hh]
    show wp Δ (d + 1) muX9_rows 22 [(0, .ref b), (1, .int x), (2, .int m)] [.int x] h _
    refine g_iret rfl dX9_rows_22 ?_
    exact ⟨by rw [if_pos (by assumption)], rfl⟩
  ·
    refine g_iconst (x := 2) dX9_rows_5 rfl ?_
    refine g_aload_n dX9_rows_6 0 rfl ?_
    refine g_iload_n dX9_rows_7 1 rfl ?_
    refine g_iload_n dX9_rows_8 2 rfl ?_
    refine g_callSU (t_X8_rows _ x m) (lw_SU q1153 q1148 q899 q1146 q145 q1154) okX8_rows (by decide) (hb) rfl rfl rfl (Nat.le_of_ble_eq_true rfl) dX9_rows_9 (fun v1 h1 _ _ hq => ?_)
    obtain ⟨rfl, hh⟩ := hq
    rw [hh]
    show wp Δ (d + 1) muX9_rows 12 [(0, .ref b), (1, .int x), (2, .int m)] [.int x, .int 2] h _
    refine g_imul dX9_rows_12 ?_
    refine g_goto (tgt := 22) dX9_rows_13 (by decide) ?_
    refine g_iret rfl dX9_rows_22 ?_
    exact ⟨by rw [if_neg (by assumption), Int32.mul_comm], rfl⟩
set_option maxRecDepth 100000 in
theorem t_X11_goes {Δ : Cx} {h : Hp} (d : Nat) {b nm : Nat} {la ti so : Int32} (hb : ce Δ h b = some (10, 0, ob [.ref nm, .int la, .int ti, .int so])) {bb bn : Nat} {le is : Int32} (hbb : ce Δ h bb = some (6, 0, ob [.ref bn, .int le, .int is])) (x : Int32) : mt Δ (d + 1) muX11_goes [.ref b, .ref bb, .int x] h (fun v h' => v = some (.int (le + 0)) ∧ h' = h) := by
  refine mt_of (lv0 := [(0, .ref b), (1, .ref bb), (2, .int x)]) rfl rfl (Nat.le_of_ble_eq_true rfl) rfl ?_
  refine g_aload_n dX11_goes_0 0 rfl ?_
  refine g_aload_n dX11_goes_1 1 rfl ?_
  refine g_aload_n dX11_goes_2 1 rfl ?_
  refine gh_get (x := .int is) f_6_2 q782 (hbb) dX11_goes_3 rfl ?_
  refine g_callSU (t_X8_goes _ hbb is) (lw_SU q1201 q1197 q921 q1195 q145 q1202) okX8_goes (by decide) (hb) rfl rfl rfl (Nat.le_of_ble_eq_true rfl) dX11_goes_6 (fun v1 h1 _ _ hq => ?_)
  obtain ⟨rfl, hh⟩ := hq
  rw [hh]
  show wp Δ (d + 1) muX11_goes 9 [(0, .ref b), (1, .ref bb), (2, .int x)] [.int (le + (if is = is then 0 else 2))] h _
  refine g_iret rfl dX11_goes_9 ?_
  exact ⟨by rw [if_pos rfl], rfl⟩
theorem gH_weighs {Δ : Cx} {d : Nat} {lv : List (Nat × Value)} {st : List Value} {h : Hp} {Q : Option Value → Hp → Prop} {b kd nm : Nat} {la ti so : Int32} (hk : kd ≤ 3) (hb : ce Δ h b = some (7 + kd, 0, ob [.ref nm, .int la, .int ti, .int so])) (hs : (st.map fun v => v.category).sum ≤ 8) (kk : wp Δ (d + 2) muX14_weight 17 lv (.int (if kd = 2 then ti / 2 else ti) :: st) h Q) : wp Δ (d + 2) muX14_weight 14 lv (.ref b :: st) h Q := by
  rcases kd4 hk with rfl | rfl | rfl | rfl
  · exact g_callV (t_X8_weighs _ (kd := 0) (by decide) hb) (lw_V q1123 q1124 q1125 q145 q1133) okX8_weighs hb rfl rfl rfl rfl hs dX14_weight_14 (fun v1 h1 _ _ hq => by obtain ⟨rfl, hh⟩ := hq; rw [hh]; exact kk)
  · exact g_callU (C := RX9) (owner := RX8) (x := yX8_weighs) (t_X8_weighs _ (kd := 1) (by decide) hb) (lw_U q1123 q1126 q1128 q1124 q145 q1133) okX8_weighs rfl hb rfl rfl rfl hs dX14_weight_14 (fun v1 h1 _ _ hq => by obtain ⟨rfl, hh⟩ := hq; rw [hh]; exact kk)
  · exact g_callO (C := RX10) (owner := RX8) (x := yX8_weighs) (t_X10_weighs _ hb) (lw_O q1123 q1126 q1124 q1129 q1130 q147 q1131) okX10_weighs q1133 okX8_weighs.1 hb rfl rfl rfl hs dX14_weight_14 (fun v1 h1 _ _ hq => by obtain ⟨rfl, hh⟩ := hq; rw [hh]; exact kk)
  · exact g_callU (C := RX11) (owner := RX8) (x := yX8_weighs) (t_X8_weighs _ (kd := 3) (by decide) hb) (lw_U q1123 q1126 q1127 q1124 q145 q1133) okX8_weighs rfl hb rfl rfl rfl hs dX14_weight_14 (fun v1 h1 _ _ hq => by obtain ⟨rfl, hh⟩ := hq; rw [hh]; exact kk)
theorem gH_rows {Δ : Cx} {d : Nat} {lv : List (Nat × Value)} {st : List Value} {h : Hp} {Q : Option Value → Hp → Prop} {b kd nm : Nat} {la ti so : Int32} (hk : kd ≤ 3) (hb : ce Δ h b = some (7 + kd, 0, ob [.ref nm, .int la, .int ti, .int so])) {x m : Int32} (hs : (st.map fun v => v.category).sum ≤ 8) (kk : wp Δ (d + 2) muX14_power 94 lv (.int (if kd = 1 then (if m ≤ 1 then x else x * 2) else x) :: st) h Q) : wp Δ (d + 2) muX14_power 91 lv (.int m :: .int x :: .ref b :: st) h Q := by
  rcases kd4 hk with rfl | rfl | rfl | rfl
  · exact g_callV (t_X8_rows _ x m) (lw_V q1145 q1146 q1147 q145 q1154) okX8_rows hb rfl rfl rfl rfl hs dX14_power_91 (fun v1 h1 _ _ hq => by obtain ⟨rfl, hh⟩ := hq; rw [hh]; exact kk)
  · exact g_callO (C := RX9) (owner := RX8) (x := yX8_rows) (t_X9_rows _ hb x m) (lw_O q1145 q1148 q1146 q1150 q1151 q146 q1152) okX9_rows q1154 okX8_rows.1 hb rfl rfl rfl hs dX14_power_91 (fun v1 h1 _ _ hq => by obtain ⟨rfl, hh⟩ := hq; rw [hh]; exact kk)
  · exact g_callU (C := RX10) (owner := RX8) (x := yX8_rows) (t_X8_rows _ x m) (lw_U q1145 q1148 q1155 q1146 q145 q1154) okX8_rows rfl hb rfl rfl rfl hs dX14_power_91 (fun v1 h1 _ _ hq => by obtain ⟨rfl, hh⟩ := hq; rw [hh]; exact kk)
  · exact g_callU (C := RX11) (owner := RX8) (x := yX8_rows) (t_X8_rows _ x m) (lw_U q1145 q1148 q1149 q1146 q145 q1154) okX8_rows rfl hb rfl rfl rfl hs dX14_power_91 (fun v1 h1 _ _ hq => by obtain ⟨rfl, hh⟩ := hq; rw [hh]; exact kk)
theorem go_0 {Δ : Cx} {d : Nat} {μ : Mi} {av : List Value} {h : Hp} {le is x : Int32} (k : mt Δ d μ av h (fun v h' => v = some (.int (le + (if x = is then 0 else 2))) ∧ h' = h)) : mt Δ d μ av h (fun v h' => v = some (.int (le + (if 0 = 3 ∨ x = is then 0 else 2))) ∧ h' = h) := k.mono (fun v h2 _ _ q => ⟨q.1.trans (by simp), q.2⟩)
theorem go_1 {Δ : Cx} {d : Nat} {μ : Mi} {av : List Value} {h : Hp} {le is x : Int32} (k : mt Δ d μ av h (fun v h' => v = some (.int (le + (if x = is then 0 else 2))) ∧ h' = h)) : mt Δ d μ av h (fun v h' => v = some (.int (le + (if 1 = 3 ∨ x = is then 0 else 2))) ∧ h' = h) := k.mono (fun v h2 _ _ q => ⟨q.1.trans (by simp), q.2⟩)
theorem go_2 {Δ : Cx} {d : Nat} {μ : Mi} {av : List Value} {h : Hp} {le is x : Int32} (k : mt Δ d μ av h (fun v h' => v = some (.int (le + (if x = is then 0 else 2))) ∧ h' = h)) : mt Δ d μ av h (fun v h' => v = some (.int (le + (if 2 = 3 ∨ x = is then 0 else 2))) ∧ h' = h) := k.mono (fun v h2 _ _ q => ⟨q.1.trans (by simp), q.2⟩)
theorem go_3 {Δ : Cx} {d : Nat} {μ : Mi} {av : List Value} {h : Hp} {le is x : Int32} (k : mt Δ d μ av h (fun v h' => v = some (.int (le + 0)) ∧ h' = h)) : mt Δ d μ av h (fun v h' => v = some (.int (le + (if 3 = 3 ∨ x = is then 0 else 2))) ∧ h' = h) := k.mono (fun v h2 _ _ q => ⟨q.1.trans (by simp), q.2⟩)
theorem gH_goes {Δ : Cx} {d : Nat} {lv : List (Nat × Value)} {st : List Value} {h : Hp} {Q : Option Value → Hp → Prop} {b kd nm : Nat} {la ti so : Int32} (hk : kd ≤ 3) (hb : ce Δ h b = some (7 + kd, 0, ob [.ref nm, .int la, .int ti, .int so])) {bb bn : Nat} {le is : Int32} (hbb : ce Δ h bb = some (6, 0, ob [.ref bn, .int le, .int is])) {x : Int32} (hs : (st.map fun v => v.category).sum ≤ 8) (kk : wp Δ (d + 2) muX14_time 45 lv (.int (le + (if kd = 3 ∨ x = is then 0 else 2)) :: st) h Q) : wp Δ (d + 2) muX14_time 42 lv (.int x :: .ref bb :: .ref b :: st) h Q := by
  rcases kd4 hk with rfl | rfl | rfl | rfl
  · exact g_callV (go_0 (t_X8_goes _ hbb x)) (lw_V q1194 q1195 q1196 q145 q1202) okX8_goes hb rfl rfl rfl rfl hs dX14_time_42 (fun v1 h1 _ _ hq => by obtain ⟨rfl, hh⟩ := hq; rw [hh]; exact kk)
  · exact g_callU (C := RX9) (owner := RX8) (x := yX8_goes) (go_1 (t_X8_goes _ hbb x)) (lw_U q1194 q1197 q1203 q1195 q145 q1202) okX8_goes rfl hb rfl rfl rfl hs dX14_time_42 (fun v1 h1 _ _ hq => by obtain ⟨rfl, hh⟩ := hq; rw [hh]; exact kk)
  · exact g_callU (C := RX10) (owner := RX8) (x := yX8_goes) (go_2 (t_X8_goes _ hbb x)) (lw_U q1194 q1197 q1204 q1195 q145 q1202) okX8_goes rfl hb rfl rfl rfl hs dX14_time_42 (fun v1 h1 _ _ hq => by obtain ⟨rfl, hh⟩ := hq; rw [hh]; exact kk)
  · exact g_callO (C := RX11) (owner := RX8) (x := yX8_goes) (go_3 (t_X11_goes _ hb hbb x)) (lw_O q1194 q1197 q1195 q1198 q1199 q148 q1200) okX11_goes q1202 okX8_goes.1 hb rfl rfl rfl hs dX14_time_42 (fun v1 h1 _ _ hq => by obtain ⟨rfl, hh⟩ := hq; rw [hh]; exact kk)
theorem gH_kind {Δ : Cx} {d : Nat} {lv : List (Nat × Value)} {st : List Value} {h : Hp} {Q : Option Value → Hp → Prop} {b kd nm : Nat} {la ti so : Int32} (hk : kd ≤ 3) (hb : ce Δ h b = some (7 + kd, 0, ob [.ref nm, .int la, .int ti, .int so])) (hs : (st.map fun v => v.category).sum ≤ 8) (kk : wp Δ (d + 2) muX1_house 89 lv (.int (nI kd) :: st) h Q) : wp Δ (d + 2) muX1_house 86 lv (.ref b :: st) h Q := by
  rcases kd4 hk with rfl | rfl | rfl | rfl
  · exact g_callV (t_X8_kind _) (lw_V q1105 q1106 q1107 q145 q1118) okX8_kind hb rfl rfl rfl rfl hs dX1_house_86 (fun v1 h1 _ _ hq => by obtain ⟨rfl, hh⟩ := hq; rw [hh]; exact kk)
  · exact g_callO (C := RX9) (owner := RX8) (x := yX8_kind) (t_X9_kind _) (lw_O q1105 q1108 q1106 q1112 q1113 q146 q1114) okX9_kind q1118 okX8_kind.1 hb rfl rfl rfl hs dX1_house_86 (fun v1 h1 _ _ hq => by obtain ⟨rfl, hh⟩ := hq; rw [hh]; exact kk)
  · exact g_callO (C := RX10) (owner := RX8) (x := yX8_kind) (t_X10_kind _) (lw_O q1105 q1108 q1106 q1115 q1116 q147 q1117) okX10_kind q1118 okX8_kind.1 hb rfl rfl rfl hs dX1_house_86 (fun v1 h1 _ _ hq => by obtain ⟨rfl, hh⟩ := hq; rw [hh]; exact kk)
  · exact g_callO (C := RX11) (owner := RX8) (x := yX8_kind) (t_X11_kind _) (lw_O q1105 q1108 q1106 q1109 q1110 q148 q1111) okX11_kind q1118 okX8_kind.1 hb rfl rfl rfl hs dX1_house_86 (fun v1 h1 _ _ hq => by obtain ⟨rfl, hh⟩ := hq; rw [hh]; exact kk)
