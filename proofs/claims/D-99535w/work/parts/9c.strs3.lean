theorem df_15 : ∀ k, k < 4 → defaultValue (tyJ4 k) = ob [.null, .int 0, .int 0, .int 0] k := by
  intro k hk
  rcases k with _ | _ | _ | _ | k <;> first | rfl | omega
theorem df_16 : ∀ k, k < 4 → defaultValue (tyJ5 k) = ob [.null, .int 0, .int 0, .int 0] k := by
  intro k hk
  rcases k with _ | _ | _ | _ | k <;> first | rfl | omega
theorem sub16 {k : Nat} (h : k < 16) : nI (k + 1) - nI 16 ≤ 0 := by
  have : ∀ k : Fin 16, nI (k.val + 1) - nI 16 ≤ 0 := by decide +kernel
  exact this ⟨k, h⟩
theorem i8_id {q : Nat} (h : q < 128) : (nI q).toInt8.toInt32 = nI q := by
  have : ∀ q : Fin 128, (nI q.val).toInt8.toInt32 = nI q.val := by decide +kernel
  exact this ⟨q, h⟩
theorem fits8 {c : Nat} (h : c < 128) : fits (tyA 2) (.int (nI c)) = true := by
  have : ∀ c : Fin 128, fits (tyA 2) (.int (nI c.val)) = true := by decide +kernel
  exact this ⟨c, h⟩
theorem mnz {z : Nat} (h : z < 16) : (if nI z < nI 16 then nI z else nI 16) = nI z := if_pos ((nI_ltI (by omega) (by omega)).mpr h)
theorem cpB {f : Nat → Int32} {z : Nat} : va_cpy (fun j => Value.int (f j)) (fun _ => defaultValue (tyA 2)) 0 0 z = (fun i => .int (cpI f (fun _ => 0) z i)) := cpyI (f := f) (g := fun _ => 0) (n := z)
theorem cpI_lt {f g : Nat → Int32} {n i : Nat} (h : i < n) : cpI f g n i = f i := by
  unfold cpI
  rw [if_pos h]
set_option maxRecDepth 100000 in
theorem t_J3_init {Δ : Cx} {h : Hp} (d : Nat) (o : Nat) (ho : ce Δ h o = some (15, 0, ob [.null, .int 0, .int 0, .int 0])) (hn : n0 Δ ≤ o) : mt Δ (d + 1) muJ3_init [.ref o, .int 16] h (fun v h' => v = none ∧ Fr Δ (fun b => b = o) 1 16 h h' ∧ ce Δ h' o = some (15, 0, ob [.ref h.1, .int 0, .int 0, .int 0]) ∧ ce Δ h' h.1 = some (102, 16, fun _ => .int 0)) := by
  have lo := ce_lt ho
  refine mt_of (lv0 := [(0, .ref o), (1, .int 16)]) rfl rfl (Nat.le_of_ble_eq_true rfl) rfl ?_
  refine g_aload_n dJ3_init_0 0 rfl ?_
  refine g_objInit q397 q162 q163 (Nat.le_of_ble_eq_true rfl) dJ3_init_1 ?_
  refine g_gets (x := .int 1) (fun q => q.2.2.2.2.2.1.2.1) q398 dJ3_init_4 ?_
  refine g_if_eq (tgt := 25) dJ3_init_7 (by decide) (fun c_1 => ?_) (fun c_1 => ?_)
  · exact absurd c_1 (by decide)
  ·
    refine g_aload_n dJ3_init_10 0 rfl ?_
    refine g_iload_n dJ3_init_11 1 rfl ?_
    refine g_newa (atype := .byte) (t := 2) (N := 16) (by decide) rfl q190 (by decide) (by decide) (by first | decide | (show _ * _ ≤ _; omega)) (by omega) dJ3_init_12 (fun n50 => ?_)
    refine wp_new (Fr.refl (fun b => b = o) _) n50 (fun u50 F50 z50 c50 k50 => ?_)
    refine gh_put (f2 := ob [.ref h.1, .int 0, .int 0, .int 0]) f_15_0 q407 (k50 _ _ (ho)) (by omega) dJ3_init_14 rfl rfl (ob_u [.null, .int 0, .int 0, .int 0] 0 (.ref h.1) (Nat.le_of_ble_eq_true rfl)) ?_
    refine wp_put F50 (fun q => by first | exact absurd q (by omega) | exact Or.inl rfl | exact Or.inr rfl | exact Or.inr (Or.inl rfl) | exact Or.inr (Or.inr rfl) | exact Or.inr ⟨rfl, by omega⟩ | exact rfl | (simp only []; omega)) (k50 _ _ (ho)) (by omega) (fun u51 F51 z51 c51 k51 => ?_)
    refine g_aload_n dJ3_init_17 0 rfl ?_
    refine g_iconst (x := 0) dJ3_init_18 rfl ?_
    refine gh_put (f2 := ob [.ref h.1, .int 0, .int 0, .int 0]) f_15_1 q408 (c51) (by omega) dJ3_init_19 rfl rfl (ob_u [.ref h.1, .int 0, .int 0, .int 0] 1 (.int 0) (Nat.le_of_ble_eq_true rfl)) ?_
    refine wp_put F51 (fun q => by first | exact absurd q (by omega) | exact Or.inl rfl | exact Or.inr rfl | exact Or.inr (Or.inl rfl) | exact Or.inr (Or.inr rfl) | exact Or.inr ⟨rfl, by omega⟩ | exact rfl | (simp only []; omega)) (c51) (by omega) (fun u52 F52 z52 c52 k52 => ?_)
    refine g_goto (tgt := 38) dJ3_init_22 (by decide) ?_
    refine g_vret rfl dJ3_init_38 ?_
    exact ⟨rfl, F52, c52, k52 _ _ (k51 _ _ (c50) (by omega)) (by omega)⟩
set_option maxRecDepth 100000 in
theorem t_J4_init {Δ : Cx} {h : Hp} (d : Nat) (o : Nat) (ho : ce Δ h o = some (15, 0, ob [.null, .int 0, .int 0, .int 0])) (hn : n0 Δ ≤ o) : mt Δ (d + 2) muJ4_init [.ref o] h (fun v h' => v = none ∧ Fr Δ (fun b => b = o) 1 16 h h' ∧ ce Δ h' o = some (15, 0, ob [.ref h.1, .int 0, .int 0, .int 0]) ∧ ce Δ h' h.1 = some (102, 16, fun _ => .int 0)) := by
  refine mt_of (lv0 := [(0, .ref o)]) rfl rfl (Nat.le_of_ble_eq_true rfl) rfl ?_
  refine g_aload_n dJ4_init_0 0 rfl ?_
  refine g_bipush (x := 16) dJ4_init_1 rfl ?_
  refine g_callI (t_J3_init _ o ho hn) (lw_meth q396) rfl q133 q394 q395 rfl okJ3_init rfl rfl (Nat.le_of_ble_eq_true rfl) dJ4_init_3 (fun v1 h1 _ _ hq => ?_)
  obtain ⟨rfl, G1, r1, r2⟩ := hq
  show wp Δ (d + 2) muJ4_init 6 [(0, .ref o)] [] h1 _
  refine g_vret rfl dJ4_init_6 ?_
  exact ⟨rfl, G1, r1, r2⟩
set_option maxRecDepth 100000 in
theorem t_J3_isLatin1 {Δ : Cx} {h : Hp} (d : Nat) {s va k : Nat} {f : Nat → Int32} {ml : Int32} (hs1 : ce Δ h s = some (15, 0, ob [.ref va, .int 0, .int ml, .int (nI k)])) (hv : ce Δ h va = some (102, 16, fun j => .int (f j))) : mt Δ d muJ3_isLatin1 [.ref s] h (fun v h' => v = some (.int 1) ∧ h' = h) := by
  refine mt_of (lv0 := [(0, .ref s)]) rfl rfl (Nat.le_of_ble_eq_true rfl) rfl ?_
  refine g_gets (x := .int 1) (fun q => q.2.2.2.2.2.1.2.1) q398 dJ3_isLatin1_0 ?_
  refine g_if_eq (tgt := 17) dJ3_isLatin1_3 (by decide) (fun c_1 => ?_) (fun c_1 => ?_)
  · exact absurd c_1 (by decide)
  ·
    refine g_aload_n dJ3_isLatin1_6 0 rfl ?_
    refine gh_get (x := .int 0) f_15_1 q408 (hs1) dJ3_isLatin1_7 rfl ?_
    refine g_if_ne (tgt := 17) dJ3_isLatin1_10 (by decide) (fun c_2 => ?_) (fun c_2 => ?_)
    · exact absurd (by decide) c_2
    ·
      refine g_iconst (x := 1) dJ3_isLatin1_13 rfl ?_
      refine g_goto (tgt := 18) dJ3_isLatin1_14 (by decide) ?_
      refine g_zret rfl (by first | exact Or.inl rfl | exact Or.inr rfl | exact bI_01 _) dJ3_isLatin1_18 ?_
      exact ⟨rfl, rfl⟩
set_option maxRecDepth 100000 in
theorem t_J3_getValue {Δ : Cx} {h : Hp} (d : Nat) {s va k : Nat} {f : Nat → Int32} {ml : Int32} (hs1 : ce Δ h s = some (15, 0, ob [.ref va, .int 0, .int ml, .int (nI k)])) (hv : ce Δ h va = some (102, 16, fun j => .int (f j))) : mt Δ d muJ3_getValue [.ref s] h (fun v h' => v = some (.ref va) ∧ h' = h) := by
  refine mt_of (lv0 := [(0, .ref s)]) rfl rfl (Nat.le_of_ble_eq_true rfl) rfl ?_
  refine g_aload_n dJ3_getValue_0 0 rfl ?_
  refine gh_get (x := .ref va) f_15_0 q407 (hs1) dJ3_getValue_1 rfl ?_
  refine g_aret rfl (by first | exact Or.inl ⟨_, rfl⟩ | exact Or.inr ⟨_, rfl⟩) (by first | exact Or.inl rfl | exact Or.inr ⟨_, rfl⟩) dJ3_getValue_4 ?_
  exact ⟨rfl, rfl⟩
set_option maxRecDepth 100000 in
theorem t_J3_length {Δ : Cx} {h : Hp} (d : Nat) {s va k : Nat} {f : Nat → Int32} {ml : Int32} (hs1 : ce Δ h s = some (15, 0, ob [.ref va, .int 0, .int ml, .int (nI k)])) (hv : ce Δ h va = some (102, 16, fun j => .int (f j))) : mt Δ d muJ3_length [.ref s] h (fun v h' => v = some (.int (nI k)) ∧ h' = h) := by
  refine mt_of (lv0 := [(0, .ref s)]) rfl rfl (Nat.le_of_ble_eq_true rfl) rfl ?_
  refine g_aload_n dJ3_length_0 0 rfl ?_
  refine gh_get (x := .int (nI k)) f_15_3 q410 (hs1) dJ3_length_1 rfl ?_
  refine g_iret rfl dJ3_length_4 ?_
  exact ⟨rfl, rfl⟩
set_option maxRecDepth 100000 in
theorem t_J10_canEncode {Δ : Cx} {h : Hp} (d : Nat) {q : Nat} (hq : q < 128) : mt Δ d muJ10_canEncode [.int (nI q)] h (fun v h' => v = some (.int 1) ∧ h' = h) := by
  refine mt_of (lv0 := [(0, .int (nI q))]) rfl rfl (Nat.le_of_ble_eq_true rfl) rfl ?_
  refine g_iload_n dJ10_canEncode_0 0 rfl ?_
  refine g_sipush (x := 255) dJ10_canEncode_1 rfl ?_
  refine gn_gt (tgt := 11) (a := q) (b := 255) dJ10_canEncode_4 (by decide) (rfl) (rfl) (by omega) (by omega) (fun c_1 => ?_) (fun c_1 => ?_)
  · exact absurd c_1 (by omega)
  ·
    refine g_iconst (x := 1) dJ10_canEncode_7 rfl ?_
    refine g_goto (tgt := 12) dJ10_canEncode_8 (by decide) ?_
    refine g_zret rfl (by first | exact Or.inl rfl | exact Or.inr rfl | exact bI_01 _) dJ10_canEncode_12 ?_
    exact ⟨rfl, rfl⟩
set_option maxRecDepth 100000 in
theorem t_J3_ensureCapacityInternal {Δ : Cx} {h : Hp} (d : Nat) {s va k : Nat} {f : Nat → Int32} {ml : Int32} (hs1 : ce Δ h s = some (15, 0, ob [.ref va, .int 0, .int ml, .int (nI k)])) (hv : ce Δ h va = some (102, 16, fun j => .int (f j))) (hk : k < 16) : mt Δ d muJ3_ensureCapacityInternal [.ref s, .int (nI (k + 1))] h (fun v h' => v = none ∧ h' = h) := by
  refine mt_of (lv0 := [(0, .ref s), (1, .int (nI (k + 1)))]) rfl rfl (Nat.le_of_ble_eq_true rfl) rfl ?_
  refine g_aload_n dJ3_ensureCapacityInternal_0 0 rfl ?_
  refine gh_get (x := .ref va) f_15_0 q407 (hs1) dJ3_ensureCapacityInternal_1 rfl ?_
  refine g_alen (t := 2) (hv) dJ3_ensureCapacityInternal_4 ?_
  refine g_aload_n dJ3_ensureCapacityInternal_5 0 rfl ?_
  refine gh_get (x := .int 0) f_15_1 q408 (hs1) dJ3_ensureCapacityInternal_6 rfl ?_
  refine g_ishr dJ3_ensureCapacityInternal_9 ?_
  refine wp_top (z := .int (nI 16)) (congrArg Value.int (shr_0 _)) ?_
  refine g_istore_n (lv' := [(2, .int (nI 16)), (0, .ref s), (1, .int (nI (k + 1)))]) dJ3_ensureCapacityInternal_10 (by decide) rfl ?_
  refine g_iload_n dJ3_ensureCapacityInternal_11 2 rfl ?_
  refine g_iload_n dJ3_ensureCapacityInternal_12 0 rfl ?_
  refine g_isub dJ3_ensureCapacityInternal_13 ?_
  refine g_if_le (tgt := 38) dJ3_ensureCapacityInternal_14 (by decide) (fun c_1 => ?_) (fun c_1 => ?_)
  ·
    refine g_vret rfl dJ3_ensureCapacityInternal_38 ?_
    exact ⟨rfl, rfl⟩
  · exfalso; exact absurd (sub16 hk) (by assumption)
set_option maxRecDepth 100000 in
theorem t_J3_append {Δ : Cx} {h : Hp} (d : Nat) {s va k : Nat} {f : Nat → Int32} {ml : Int32} (hs1 : ce Δ h s = some (15, 0, ob [.ref va, .int 0, .int ml, .int (nI k)])) (hv : ce Δ h va = some (102, 16, fun j => .int (f j))) (hk : k < 16) {q : Nat} (hq1 : q < 128) (hns : n0 Δ ≤ s) (hnv : n0 Δ ≤ va) : mt Δ (d + 1) muJ3_append [.ref s, .int (nI q)] h (fun v' h' => v' = some (.ref s) ∧ Fr Δ (fun b => b = s ∨ b = va) 0 0 h h' ∧ ce Δ h' s = some (15, 0, ob [.ref va, .int 0, .int ml, .int (nI (k + 1))]) ∧ ce Δ h' va = some (102, 16, fun j => .int (fu f k (nI q) j))) := by
  have lS := ce_lt hs1; have lV := ce_lt hv; have nsv : s ≠ va := ce_ne hs1 hv (Or.inl (by show 15 ≠ 102; omega))
  refine mt_of (lv0 := [(0, .ref s), (1, .int (nI q))]) rfl rfl (Nat.le_of_ble_eq_true rfl) rfl ?_
  refine g_aload_n dJ3_append_0 0 rfl ?_
  refine g_aload_n dJ3_append_1 0 rfl ?_
  refine gh_get (x := .int (nI k)) f_15_3 q410 (hs1) dJ3_append_2 rfl ?_
  refine g_iconst (x := 1) dJ3_append_5 rfl ?_
  refine g_iadd dJ3_append_6 ?_
  refine wp_top (z := .int (nI (k + 1))) (congrArg Value.int (nI_add _ 1)) ?_
  refine g_callP (T := TJ4) (N := 4) (t_J3_ensureCapacityInternal _ (hs1) (hv) (by omega)) rfl q428 (lw_P q427 q2351 q429 q133 q430) q429 okJ3_ensureCapacityInternal rfl (hs1) rfl rfl rfl (Nat.le_of_ble_eq_true rfl) dJ3_append_7 (fun v1 h1 _ _ hq => ?_)
  obtain ⟨rfl, hh⟩ := hq
  rw [hh]
  show wp Δ (d + 1) muJ3_append 10 [(0, .ref s), (1, .int (nI q))] [] h _
  refine g_aload_n dJ3_append_10 0 rfl ?_
  refine g_callU (C := RJ4) (owner := RJ3) (x := yJ3_isLatin1) (t_J3_isLatin1 _ (hs1) (hv)) (lw_U q462 q464 q465 q463 q133 q466) okJ3_isLatin1 rfl (hs1) rfl rfl rfl (Nat.le_of_ble_eq_true rfl) dJ3_append_11 (fun v1 h1 _ _ hq => ?_)
  obtain ⟨rfl, hh⟩ := hq
  rw [hh]
  show wp Δ (d + 1) muJ3_append 14 [(0, .ref s), (1, .int (nI q))] [.int 1] h _
  refine g_if_eq (tgt := 45) dJ3_append_14 (by decide) (fun c_1 => ?_) (fun c_1 => ?_)
  · exact absurd c_1 (by decide)
  ·
    refine g_iload_n dJ3_append_17 1 rfl ?_
    refine g_callS (t_J10_canEncode _ hq1) (lw_S q467 q468 q141 q469) okJ10_canEncode rfl rfl (Nat.le_of_ble_eq_true rfl) dJ3_append_18 (fun v1 h1 _ _ hq => ?_)
    obtain ⟨rfl, hh⟩ := hq
    rw [hh]
    show wp Δ (d + 1) muJ3_append 21 [(0, .ref s), (1, .int (nI q))] [.int 1] h _
    refine g_if_eq (tgt := 45) dJ3_append_21 (by decide) (fun c_2 => ?_) (fun c_2 => ?_)
    · exact absurd c_2 (by decide)
    ·
      refine g_aload_n dJ3_append_24 0 rfl ?_
      refine gh_get (x := .ref va) f_15_0 q407 (hs1) dJ3_append_25 rfl ?_
      refine g_aload_n dJ3_append_28 0 rfl ?_
      refine g_dup dJ3_append_29 rfl ?_
      refine gh_get (x := .int (nI k)) f_15_3 q410 (hs1) dJ3_append_30 rfl ?_
      refine g_dup_x1 dJ3_append_33 rfl rfl ?_
      refine g_iconst (x := 1) dJ3_append_34 rfl ?_
      refine g_iadd dJ3_append_35 ?_
      refine wp_top (z := .int (nI (k + 1))) (congrArg Value.int (nI_add _ 1)) ?_
      refine gh_put (f2 := ob [.ref va, .int 0, .int ml, .int (nI (k + 1))]) f_15_3 q410 (hs1) (by omega) dJ3_append_36 rfl rfl (ob_u [.ref va, .int 0, .int ml, .int (nI k)] 3 (.int (nI (k + 1))) (Nat.le_of_ble_eq_true rfl)) ?_
      refine wp_put (Fr.refl (fun b => b = s ∨ b = va) _) (fun q => by first | exact absurd q (by omega) | exact Or.inl rfl | exact Or.inr rfl | exact Or.inr (Or.inl rfl) | exact Or.inr (Or.inr rfl) | exact Or.inr ⟨rfl, by omega⟩ | exact rfl | (simp only []; omega)) (hs1) (by omega) (fun u53 F53 z53 c53 k53 => ?_)
      refine g_iload_n dJ3_append_39 1 rfl ?_
      refine g_i2b dJ3_append_40 ?_
      refine wp_top (z := .int (nI q)) (congrArg Value.int (i8_id hq1)) ?_
      refine gh_bast (j := k) (k53 _ _ (hv) (by omega)) (by omega) (rfl) (by omega) (by omega) dJ3_append_41 ?_
      refine wp_put F53 (fun q => by first | exact absurd q (by omega) | exact Or.inl rfl | exact Or.inr rfl | exact Or.inr (Or.inl rfl) | exact Or.inr (Or.inr rfl) | exact Or.inr ⟨rfl, by omega⟩ | exact rfl | (simp only []; omega)) (k53 _ _ (hv) (by omega)) (by omega) (fun u54 F54 z54 c54 k54 => ?_)
      refine g_goto (tgt := 75) dJ3_append_42 (by decide) ?_
      refine g_aload_n dJ3_append_75 0 rfl ?_
      refine g_aret rfl (by first | exact Or.inl ⟨_, rfl⟩ | exact Or.inr ⟨_, rfl⟩) (by first | exact Or.inl rfl | exact Or.inr ⟨_, rfl⟩) dJ3_append_76 ?_
      exact ⟨rfl, F54, k54 _ _ (c53) (by omega), by have e9 := c54; rw [i8_id hq1, updI] at e9; exact e9⟩
set_option maxRecDepth 100000 in
theorem t_J4_append {Δ : Cx} {h : Hp} (d : Nat) {s va k : Nat} {f : Nat → Int32} {ml : Int32} (hs1 : ce Δ h s = some (15, 0, ob [.ref va, .int 0, .int ml, .int (nI k)])) (hv : ce Δ h va = some (102, 16, fun j => .int (f j))) (hk : k < 16) {q : Nat} (hq1 : q < 128) (hns : n0 Δ ≤ s) (hnv : n0 Δ ≤ va) : mt Δ (d + 2) muJ4_append [.ref s, .int (nI q)] h (fun v' h' => v' = some (.ref s) ∧ Fr Δ (fun b => b = s ∨ b = va) 0 0 h h' ∧ ce Δ h' s = some (15, 0, ob [.ref va, .int 0, .int ml, .int (nI (k + 1))]) ∧ ce Δ h' va = some (102, 16, fun j => .int (fu f k (nI q) j))) := by
  refine mt_of (lv0 := [(0, .ref s), (1, .int (nI q))]) rfl rfl (Nat.le_of_ble_eq_true rfl) rfl ?_
  refine g_aload_n dJ4_append_0 0 rfl ?_
  refine g_iload_n dJ4_append_1 1 rfl ?_
  refine g_callSU (t_J3_append _ hs1 hv hk hq1 hns hnv) (lw_SU q424 q2350 q419 q425 q133 q426) okJ3_append (by decide) hs1 rfl rfl rfl (Nat.le_of_ble_eq_true rfl) dJ4_append_2 (fun v1 h1 _ _ hq => ?_)
  obtain ⟨rfl, G1, r1, r2⟩ := hq
  show wp Δ (d + 2) muJ4_append 5 [(0, .ref s), (1, .int (nI q))] [.ref s] h1 _
  refine g_pop dJ4_append_5 rfl ?_
  refine g_aload_n dJ4_append_6 0 rfl ?_
  refine g_aret rfl (by first | exact Or.inl ⟨_, rfl⟩ | exact Or.inr ⟨_, rfl⟩) (by first | exact Or.inl rfl | exact Or.inr ⟨_, rfl⟩) dJ4_append_7 ?_
  exact ⟨rfl, G1, r1, r2⟩
set_option maxRecDepth 100000 in
theorem t_J9_checkLength {Δ : Cx} {h : Hp} (d : Nat) (z : Nat) (hz : z ≤ 8) : mt Δ d muJ9_checkLength [.int 0, .int (nI z)] h (fun v h' => v = none ∧ h' = h) := by
  refine mt_of (lv0 := [(0, .int 0), (1, .int (nI z))]) rfl rfl (Nat.le_of_ble_eq_true rfl) rfl ?_
  refine g_iload_n dJ9_checkLength_0 1 rfl ?_
  refine g_iload_n dJ9_checkLength_1 0 rfl ?_
  refine gn_ge (tgt := 37) (a := z) (b := 0) dJ9_checkLength_2 (by decide) (rfl) (rfl) (by omega) (by omega) (fun c_1 => ?_) (fun c_1 => ?_)
  ·
    refine g_vret rfl dJ9_checkLength_37 ?_
    exact ⟨rfl, rfl⟩
  · exact absurd c_1 (by omega)
set_option maxRecDepth 100000 in
theorem t_J9_copyOfRangeByte {Δ : Cx} {h : Hp} (d : Nat) {va z : Nat} {f : Nat → Int32} (hv : ce Δ h va = some (102, 16, fun j => .int (f j))) (hz : z ≤ 8) (hc : chk z f) : mt Δ (d + 1) muJ9_copyOfRangeByte [.ref va, .int 0, .int (nI z)] h (fun v' h' => v' = some (.ref h.1) ∧ Fr Δ (fun _ => False) 1 z h h' ∧ ce Δ h' h.1 = some (102, z, fun j => .int (cpI f (fun _ => 0) z j))) := by
  have lv1 := ce_lt hv
  refine mt_of (lv0 := [(0, .ref va), (1, .int 0), (2, .int (nI z))]) rfl rfl (Nat.le_of_ble_eq_true rfl) rfl ?_
  refine g_iload_n dJ9_copyOfRangeByte_0 1 rfl ?_
  refine g_iload_n dJ9_copyOfRangeByte_1 2 rfl ?_
  refine g_callS (t_J9_checkLength _ z hz) (lw_S q548 q549 q139 q550) okJ9_checkLength rfl rfl (Nat.le_of_ble_eq_true rfl) dJ9_copyOfRangeByte_2 (fun v1 h1 _ _ hq => ?_)
  obtain ⟨rfl, hh⟩ := hq
  rw [hh]
  show wp Δ (d + 1) muJ9_copyOfRangeByte 5 [(0, .ref va), (1, .int 0), (2, .int (nI z))] [] h _
  refine g_iload_n dJ9_copyOfRangeByte_5 2 rfl ?_
  refine g_iload_n dJ9_copyOfRangeByte_6 1 rfl ?_
  refine g_isub dJ9_copyOfRangeByte_7 ?_
  refine wp_top (z := .int (nI z)) (congrArg Value.int (Int32.sub_zero _)) ?_
  refine g_istore_n (lv' := [(3, .int (nI z)), (0, .ref va), (1, .int 0), (2, .int (nI z))]) dJ9_copyOfRangeByte_8 (by decide) rfl ?_
  refine g_iload_n dJ9_copyOfRangeByte_9 0 rfl ?_
  refine g_newa (atype := .byte) (t := 2) (N := z) (by decide) rfl q190 (Int32.not_lt.mpr (nI_pos' (by omega))) (nI_clamp (by omega)) (by show z * 1 ≤ _; omega) (by omega) dJ9_copyOfRangeByte_10 (fun n55 => ?_)
  refine wp_new (Fr.refl (fun _ => False) _) n55 (fun u55 F55 z55 c55 k55 => ?_)
  refine g_astore (lv' := [(4, .ref h.1), (3, .int (nI z)), (0, .ref va), (1, .int 0), (2, .int (nI z))]) dJ9_copyOfRangeByte_12 (by decide) rfl ?_
  refine g_aload_n dJ9_copyOfRangeByte_14 2 rfl ?_
  refine g_iload_n dJ9_copyOfRangeByte_15 3 rfl ?_
  refine g_aload dJ9_copyOfRangeByte_16 0 rfl ?_
  refine g_iconst (x := 0) dJ9_copyOfRangeByte_18 rfl ?_
  refine g_aload_n dJ9_copyOfRangeByte_19 2 rfl ?_
  refine g_alen (t := 2) (k55 _ _ (hv)) dJ9_copyOfRangeByte_20 ?_
  refine g_iload_n dJ9_copyOfRangeByte_21 3 rfl ?_
  refine g_isub dJ9_copyOfRangeByte_22 ?_
  refine wp_top (z := .int (nI 16)) (congrArg Value.int (Int32.sub_zero _)) ?_
  refine g_iload_n dJ9_copyOfRangeByte_23 1 rfl ?_
  refine g_mmin q456 q457 q138 q458 (Nat.le_of_ble_eq_true rfl) dJ9_copyOfRangeByte_24 ?_
  refine wp_top (z := .int (nI z)) (congrArg Value.int (mnz (by omega))) ?_
  refine g_copyP (t := 2) (SP := 0) (DP := 0) (N := z) rfl (k55 _ _ (hv)) (c55) (by omega) rfl rfl rfl (by omega) (by omega) (fun i hi => by obtain ⟨c, c1, c2⟩ := hc i hi; exact ⟨_, rfl, by rw [Nat.zero_add, c2]; exact fits8 c1⟩) q459 q461 q460 q140 (Nat.le_of_ble_eq_true rfl) dJ9_copyOfRangeByte_27 ?_
  rw [cpB]
  refine wp_put F55 (fun q => by first | exact absurd q (by omega) | exact Or.inl rfl | exact Or.inr rfl | exact Or.inr (Or.inl rfl) | exact Or.inr (Or.inr rfl) | exact Or.inr ⟨rfl, by omega⟩ | exact rfl | (simp only []; omega)) (c55) (by omega) (fun u56 F56 z56 c56 k56 => ?_)
  refine g_aload dJ9_copyOfRangeByte_30 0 rfl ?_
  refine g_aret rfl (by first | exact Or.inl ⟨_, rfl⟩ | exact Or.inr ⟨_, rfl⟩) (by first | exact Or.inl rfl | exact Or.inr ⟨_, rfl⟩) dJ9_copyOfRangeByte_32 ?_
  exact ⟨rfl, (F56).le (by omega) (by omega) (fun _ _ q => q), c56⟩
set_option maxRecDepth 100000 in
theorem t_J9_copyOfRange {Δ : Cx} {h : Hp} (d : Nat) {va z : Nat} {f : Nat → Int32} (hv : ce Δ h va = some (102, 16, fun j => .int (f j))) (hz : z ≤ 8) (hc : chk z f) : mt Δ (d + 2) muJ9_copyOfRange [.ref va, .int 0, .int (nI z)] h (fun v' h' => v' = some (.ref h.1) ∧ Fr Δ (fun _ => False) 1 z h h' ∧ ce Δ h' h.1 = some (102, z, fun j => .int (cpI f (fun _ => 0) z j))) := by
  refine mt_of (lv0 := [(0, .ref va), (1, .int 0), (2, .int (nI z))]) rfl rfl (Nat.le_of_ble_eq_true rfl) rfl ?_
  refine g_iload_n dJ9_copyOfRange_0 1 rfl ?_
  refine g_if_ne (tgt := 10) dJ9_copyOfRange_1 (by decide) (fun c_1 => ?_) (fun c_1 => ?_)
  · exact absurd (by decide) c_1
  ·
    refine g_iload_n dJ9_copyOfRange_4 2 rfl ?_
    refine g_aload_n dJ9_copyOfRange_5 0 rfl ?_
    refine g_alen (t := 2) (hv) dJ9_copyOfRange_6 ?_
    refine gn_eq (tgt := 17) (a := z) (b := 16) dJ9_copyOfRange_7 (by decide) (rfl) (rfl) (by omega) (by omega) (fun c_2 => ?_) (fun c_2 => ?_)
    · exact absurd c_2 (by omega)
    ·
      refine g_aload_n dJ9_copyOfRange_10 0 rfl ?_
      refine g_iload_n dJ9_copyOfRange_11 1 rfl ?_
      refine g_iload_n dJ9_copyOfRange_12 2 rfl ?_
      refine g_callS (t_J9_copyOfRangeByte _ hv hz hc) (lw_S q545 q546 q139 q547) okJ9_copyOfRangeByte rfl rfl (Nat.le_of_ble_eq_true rfl) dJ9_copyOfRange_13 (fun v1 h1 _ _ hq => ?_)
      obtain ⟨rfl, G57, r57⟩ := hq
      have lr57 := ce_lt r57
      have F57 := (Fr.refl (fun _ => False) _).tr G57 (fun _ _ q => q.elim)
      show wp Δ (d + 2) muJ9_copyOfRange 16 [(0, .ref va), (1, .int 0), (2, .int (nI z))] [.ref h.1] h1 _
      refine g_aret rfl (by first | exact Or.inl ⟨_, rfl⟩ | exact Or.inr ⟨_, rfl⟩) (by first | exact Or.inl rfl | exact Or.inr ⟨_, rfl⟩) dJ9_copyOfRange_16 ?_
      exact ⟨rfl, (F57).le (by omega) (by omega) (fun _ _ q => q), r57⟩
set_option maxRecDepth 100000 in
theorem t_J4_length {Δ : Cx} {h : Hp} (d : Nat) {s va k : Nat} {f : Nat → Int32} {ml : Int32} (hs1 : ce Δ h s = some (15, 0, ob [.ref va, .int 0, .int ml, .int (nI k)])) (hv : ce Δ h va = some (102, 16, fun j => .int (f j))) : mt Δ (d + 1) muJ4_length [.ref s] h (fun v h' => v = some (.int (nI k)) ∧ h' = h) := by
  refine mt_of (lv0 := [(0, .ref s)]) rfl rfl (Nat.le_of_ble_eq_true rfl) rfl ?_
  refine g_aload_n dJ4_length_0 0 rfl ?_
  refine g_callSU (t_J3_length _ hs1 hv) (lw_SU q539 q535 q419 q534 q133 q540) okJ3_length (by decide) hs1 rfl rfl rfl (Nat.le_of_ble_eq_true rfl) dJ4_length_1 (fun v1 h1 _ _ hq => ?_)
  obtain ⟨rfl, hh⟩ := hq
  rw [hh]
  show wp Δ (d + 1) muJ4_length 4 [(0, .ref s)] [.int (nI k)] h _
  refine g_iret rfl dJ4_length_4 ?_
  exact ⟨rfl, rfl⟩
set_option maxRecDepth 100000 in
theorem t_J5_init_2 {Δ : Cx} {h : Hp} (d : Nat) {s va z : Nat} {f : Nat → Int32} {ml : Int32} (hs1 : ce Δ h s = some (15, 0, ob [.ref va, .int 0, .int ml, .int (nI z)])) (hv : ce Δ h va = some (102, 16, fun j => .int (f j))) (hz : z ≤ 8) (hc : chk z f) (o : Nat) (ho : ce Δ h o = some (16, 0, ob [.null, .int 0, .int 0, .int 0])) (hn : n0 Δ ≤ o) : mt Δ (d + 3) muJ5_init_2 [.ref o, .ref s, .null] h (fun v' h' => v' = none ∧ Fr Δ (fun b => b = o) 1 z h h' ∧ ce Δ h' o = some (16, 0, ob [.ref h.1, .int 0, .int 0, .int 0]) ∧ ce Δ h' h.1 = some (102, z, fun j => .int (cpI f (fun _ => 0) z j))) := by
  have lo := ce_lt ho; have ls := ce_lt hs1; have lv1 := ce_lt hv; have n1 : o ≠ s := ce_ne ho hs1 (Or.inl (by show 16 ≠ 15; omega)); have n2 : o ≠ va := ce_ne ho hv (Or.inl (by show 16 ≠ 102; omega))
  refine mt_of (lv0 := [(0, .ref o), (1, .ref s), (2, .null)]) rfl rfl (Nat.le_of_ble_eq_true rfl) rfl ?_
  refine g_aload_n dJ5_init_2_0 0 rfl ?_
  refine g_objInit q527 q162 q163 (Nat.le_of_ble_eq_true rfl) dJ5_init_2_1 ?_
  refine g_aload_n dJ5_init_2_4 1 rfl ?_
  refine g_callU (C := RJ4) (owner := RJ3) (x := yJ3_getValue) (t_J3_getValue _ (hs1) (hv)) (lw_U q528 q530 q531 q529 q133 q532) okJ3_getValue rfl (hs1) rfl rfl rfl (Nat.le_of_ble_eq_true rfl) dJ5_init_2_5 (fun v1 h1 _ _ hq => ?_)
  obtain ⟨rfl, hh⟩ := hq
  rw [hh]
  show wp Δ (d + 3) muJ5_init_2 8 [(0, .ref o), (1, .ref s), (2, .null)] [.ref va] h _
  refine g_astore_n (lv' := [(3, .ref va), (0, .ref o), (1, .ref s), (2, .null)]) dJ5_init_2_8 (by decide) rfl ?_
  refine g_aload_n dJ5_init_2_9 2 rfl ?_
  refine g_callO (C := RJ4) (owner := RJ3) (x := yJ3_length) (t_J4_length _ (hs1) (hv)) (lw_O q533 q535 q534 q536 q537 q134 q538) okJ4_length q540 okJ3_length.1 (hs1) rfl rfl rfl (Nat.le_of_ble_eq_true rfl) dJ5_init_2_10 (fun v1 h1 _ _ hq => ?_)
  obtain ⟨rfl, hh⟩ := hq
  rw [hh]
  show wp Δ (d + 3) muJ5_init_2 13 [(3, .ref va), (0, .ref o), (1, .ref s), (2, .null)] [.int (nI z)] h _
  refine g_istore (lv' := [(4, .int (nI z)), (3, .ref va), (0, .ref o), (1, .ref s), (2, .null)]) dJ5_init_2_13 (by decide) rfl ?_
  refine g_aload_n dJ5_init_2_15 3 rfl ?_
  refine g_callU (C := RJ4) (owner := RJ3) (x := yJ3_isLatin1) (t_J3_isLatin1 _ (hs1) (hv)) (lw_U q541 q464 q465 q463 q133 q466) okJ3_isLatin1 rfl (hs1) rfl rfl rfl (Nat.le_of_ble_eq_true rfl) dJ5_init_2_16 (fun v1 h1 _ _ hq => ?_)
  obtain ⟨rfl, hh⟩ := hq
  rw [hh]
  show wp Δ (d + 3) muJ5_init_2 19 [(4, .int (nI z)), (3, .ref va), (0, .ref o), (1, .ref s), (2, .null)] [.int 1] h _
  refine g_if_eq (tgt := 41) dJ5_init_2_19 (by decide) (fun c_1 => ?_) (fun c_1 => ?_)
  · exact absurd c_1 (by decide)
  ·
    refine g_aload_n dJ5_init_2_22 2 rfl ?_
    refine g_iconst (x := 0) dJ5_init_2_23 rfl ?_
    refine gh_putF (f2 := ob [.null, .int 0, .int 0, .int 0]) f_16_1 q566 (ho) (by omega) rfl rfl dJ5_init_2_24 rfl rfl (ob_u [.null, .int 0, .int 0, .int 0] 1 (.int 0) (Nat.le_of_ble_eq_true rfl)) ?_
    refine wp_put (Fr.refl (fun b => b = o) _) (fun q => by first | exact absurd q (by omega) | exact Or.inl rfl | exact Or.inr rfl | exact Or.inr (Or.inl rfl) | exact Or.inr (Or.inr rfl) | exact Or.inr ⟨rfl, by omega⟩ | exact rfl | (simp only []; omega)) (ho) (by omega) (fun u58 F58 z58 c58 k58 => ?_)
    refine g_aload_n dJ5_init_2_27 2 rfl ?_
    refine g_aload_n dJ5_init_2_28 1 rfl ?_
    refine g_iconst (x := 0) dJ5_init_2_29 rfl ?_
    refine g_iload dJ5_init_2_30 0 rfl ?_
    refine g_callS (t_J9_copyOfRange _ (k58 _ _ (hv) (by omega)) hz hc) (lw_S q542 q543 q139 q544) okJ9_copyOfRange rfl rfl (Nat.le_of_ble_eq_true rfl) dJ5_init_2_32 (fun v1 h1 _ _ hq => ?_)
    obtain ⟨rfl, G59, r59⟩ := hq
    have lr59 := ce_lt r59
    have F59 := F58.tr G59 (fun _ _ q => q.elim)
    show wp Δ (d + 3) muJ5_init_2 35 [(4, .int (nI z)), (3, .ref va), (0, .ref o), (1, .ref s), (2, .null)] [.ref u58.1, .ref o] h1 _
    refine gh_putF (f2 := ob [.ref u58.1, .int 0, .int 0, .int 0]) f_16_0 q565 (G59.2 _ _ (c58) (fun q => q)) (by omega) rfl rfl dJ5_init_2_35 rfl rfl (ob_u [.null, .int 0, .int 0, .int 0] 0 (.ref u58.1) (Nat.le_of_ble_eq_true rfl)) ?_
    refine wp_put F59 (fun q => by first | exact absurd q (by omega) | exact Or.inl rfl | exact Or.inr rfl | exact Or.inr (Or.inl rfl) | exact Or.inr (Or.inr rfl) | exact Or.inr ⟨rfl, by omega⟩ | exact rfl | (simp only []; omega)) (G59.2 _ _ (c58) (fun q => q)) (by omega) (fun u60 F60 z60 c60 k60 => ?_)
    refine g_goto (tgt := 97) dJ5_init_2_38 (by decide) ?_
    refine g_vret rfl dJ5_init_2_97 ?_
    exact ⟨rfl, (F60).le (by omega) (by omega) (fun _ _ q => q), by rw [show h.1 = u58.1 by omega]; exact c60, by rw [show h.1 = u58.1 by omega]; exact k60 _ _ (r59) (by omega)⟩
set_option maxRecDepth 100000 in
theorem t_J5_init {Δ : Cx} {h : Hp} (d : Nat) {s va z : Nat} {f : Nat → Int32} {ml : Int32} (hs1 : ce Δ h s = some (15, 0, ob [.ref va, .int 0, .int ml, .int (nI z)])) (hv : ce Δ h va = some (102, 16, fun j => .int (f j))) (hz : z ≤ 8) (hc : chk z f) (o : Nat) (ho : ce Δ h o = some (16, 0, ob [.null, .int 0, .int 0, .int 0])) (hn : n0 Δ ≤ o) : mt Δ (d + 4) muJ5_init [.ref o, .ref s] h (fun v' h' => v' = none ∧ Fr Δ (fun b => b = o) 1 z h h' ∧ ce Δ h' o = some (16, 0, ob [.ref h.1, .int 0, .int 0, .int 0]) ∧ ce Δ h' h.1 = some (102, z, fun j => .int (cpI f (fun _ => 0) z j))) := by
  refine mt_of (lv0 := [(0, .ref o), (1, .ref s)]) rfl rfl (Nat.le_of_ble_eq_true rfl) rfl ?_
  refine g_aload_n dJ5_init_0 0 rfl ?_
  refine g_aload_n dJ5_init_1 1 rfl ?_
  refine g_null dJ5_init_2 ?_
  refine g_callI (t_J5_init_2 _ (hs1) (hv) hz hc o (ho) (by omega)) (lw_meth q526) rfl q135 q524 q525 rfl okJ5_init_2 rfl rfl (Nat.le_of_ble_eq_true rfl) dJ5_init_3 (fun v1 h61 _ _ hq => ?_)
  obtain ⟨rfl, G61, r61_1, r61_2⟩ := hq
  show wp Δ (d + 4) muJ5_init 6 [(0, .ref o), (1, .ref s)] [] h61 _
  refine g_vret rfl dJ5_init_6 ?_
  exact ⟨rfl, G61, r61_1, r61_2⟩
set_option maxRecDepth 100000 in
theorem t_J4_toString {Δ : Cx} {h : Hp} (d : Nat) {s va z : Nat} {f : Nat → Int32} {ml : Int32} (hs1 : ce Δ h s = some (15, 0, ob [.ref va, .int 0, .int ml, .int (nI z)])) (hv : ce Δ h va = some (102, 16, fun j => .int (f j))) (hz : z ≤ 8) (hc : chk z f) : mt Δ (d + 5) muJ4_toString [.ref s] h (fun v' h' => v' = some (.ref h.1) ∧ Fr Δ (fun _ => False) 2 12 h h' ∧ ∃ g : Nat → Int32, (∀ j, j < z → g j = f j) ∧ SB Δ (ce Δ h') h.1 (h.1 + 1) z g 0 0) := by
  refine mt_of (lv0 := [(0, .ref s)]) rfl rfl (Nat.le_of_ble_eq_true rfl) rfl ?_
  refine g_new (f := ob [.null, .int 0, .int 0, .int 0]) k_16 df_16 q519 q520 q135 dJ4_toString_0 (fun n62 => ?_)
  refine wp_new (Fr.refl (fun _ => False) _) n62 (fun u62 F62 z62 c62 k62 => ?_)
  refine g_dup dJ4_toString_3 rfl ?_
  refine g_aload_n dJ4_toString_4 0 rfl ?_
  refine g_callI (t_J5_init _ (k62 _ _ (hs1)) (k62 _ _ (hv)) hz hc h.1 (c62) (by omega)) (lw_meth q523) rfl q135 q521 q522 rfl okJ5_init rfl rfl (Nat.le_of_ble_eq_true rfl) dJ4_toString_5 (fun v1 h63 _ _ hq => ?_)
  obtain ⟨rfl, G63, r63_1, r63_2⟩ := hq
  show wp Δ (d + 5) muJ4_toString 8 [(0, .ref s)] [.ref h.1] h63 _
  refine g_aret rfl (by first | exact Or.inl ⟨_, rfl⟩ | exact Or.inr ⟨_, rfl⟩) (by first | exact Or.inl rfl | exact Or.inr ⟨_, rfl⟩) dJ4_toString_8 ?_
  have F9 := F62.tr G63 (fun b hb q => absurd hb (by omega))
  have e9 : u62.1 = h.1 + 1 := by omega
  rw [e9] at r63_1 r63_2
  exact ⟨rfl, F9.le (by omega) (by omega) (fun _ _ q => q), cpI f (fun _ => 0) z, fun j hj => cpI_lt hj, r63_1, r63_2, hz, fun j hj => by rw [cpI_lt hj]; exact hc j hj, ⟨fun q => absurd rfl q, fun _ q => absurd rfl q⟩, Or.inl ⟨by omega, by omega⟩⟩
