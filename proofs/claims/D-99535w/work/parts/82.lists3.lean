theorem mc1 (mc : Int32) : mc + 1 = mc + 1 := rfl
theorem cpy_sh {g : Nat → Value} {i n j : Nat} (hn : i + 1 < n) (hj : j < n - 1) : va_cpy g g (i + 1) i (n - 1 - i) j = if j < i then g j else g (j + 1) := by
  unfold va_cpy
  by_cases h : j < i
  · rw [if_neg (by omega), if_pos h]
  · rw [if_pos ⟨by omega, by omega⟩, if_neg h, show i + 1 + (j - i) = j + 1 by omega]
set_option maxRecDepth 100000 in
theorem t_J2_add {Δ : Cx} {h : Hp} {C : String} {tg nF : Nat} {TT : u_T} (d : Nat) {L E cap n a : Nat} {mc : Int32} {g : Nat → Value} (hL : ce Δ h L = some (14, 0, ob [.int mc, .ref E, .int (nI n)])) (hE : ce Δ h E = some (103, cap, g)) (hn : n ≤ cap) (h16 : n = cap → cap ≤ 16) (h22 : cap ≤ 22) (hLn : n0 Δ ≤ L) (hE0 : (0 < cap ∧ n0 Δ ≤ E) ∨ (cap = 0 ∧ E = cT Δ 99)) (hel : n = cap → ∀ i, i < n → ∃ (b n1 : Nat) (f1 : Nat → Value), g i = .ref b ∧ ce Δ h b = some (tg, n1, f1)) (hc : clz[tg]? = some (C, TT, nF)) (hw : Cond.castable C "java/lang/Object" ∈ lw_tbl) {Ca : String} {ta na Na : Nat} {Ta : u_T} {fa : Nat → Value} (ha : ce Δ h a = some (ta, na, fa)) (hca : clz[ta]? = some (Ca, Ta, Na)) (hwa : Cond.castable Ca "java/lang/Object" ∈ lw_tbl) (htg : tg ≠ 14 ∧ tg ≠ 103) (hta : ta ≠ 14 ∧ ta ≠ 103) : mt Δ (d + 6) muJ2_add [.ref L, .ref a] h (fun v h' => v = some (.int 1) ∧ ∃ (E' cap' : Nat) (g' : Nat → Value), Fr Δ (fun b => b = L ∨ (b = E ∧ n < cap)) 1 24 h h' ∧ ce Δ h' L = some (14, 0, ob [.int (mc + 1), .ref E', .int (nI (n + 1))]) ∧ ce Δ h' E' = some (103, cap', g') ∧ (∀ i, i < n → g' i = g i) ∧ g' n = .ref a ∧ n < cap' ∧ cap' ≤ 24 ∧ n0 Δ ≤ E' ∧ (E' = E ∧ cap' = cap ∧ n < cap ∨ E' = h.1 ∧ cap' = cap2 cap ∧ n = cap)) := by
  have lL := ce_lt hL; have lE := ce_lt hE; have la := ce_lt ha; have nLE : L ≠ E := ce_ne hL hE (Or.inl (by show 14 ≠ 103; omega)); have haL : a ≠ L := ce_ne ha hL (Or.inl hta.1); have haE : a ≠ E := ce_ne ha hE (Or.inl hta.2)
  refine mt_of (lv0 := [(0, .ref L), (1, .ref a)]) rfl rfl (Nat.le_of_ble_eq_true rfl) rfl ?_
  refine g_aload_n dJ2_add_0 0 rfl ?_
  refine g_dup dJ2_add_1 rfl ?_
  refine gh_getS (x := .int mc) f_14_0 q182 q181 (hL) dJ2_add_2 rfl ?_
  refine g_iconst (x := 1) dJ2_add_5 rfl ?_
  refine g_iadd dJ2_add_6 ?_
  refine gh_putS (f2 := ob [.int (mc + 1), .ref E, .int (nI n)]) f_14_0 q182 q181 (hL) (by omega) dJ2_add_7 rfl rfl (ob_u [.int mc, .ref E, .int (nI n)] 0 (.int (mc + 1)) (Nat.le_of_ble_eq_true rfl)) ?_
  refine wp_put (Fr.refl (fun b => b = L ∨ (b = E ∧ n < cap)) _) (fun q => by first | exact absurd q (by omega) | exact Or.inl rfl | exact Or.inr rfl | exact Or.inr (Or.inl rfl) | exact Or.inr (Or.inr rfl) | exact Or.inr ⟨rfl, by omega⟩ | exact rfl | (simp only []; omega)) (hL) (by omega) (fun u12 F12 z12 c12 k12 => ?_)
  refine g_aload_n dJ2_add_10 0 rfl ?_
  refine g_aload_n dJ2_add_11 1 rfl ?_
  refine g_aload_n dJ2_add_12 0 rfl ?_
  refine gh_get (x := .ref E) f_14_1 q178 (c12) dJ2_add_13 rfl ?_
  refine g_aload_n dJ2_add_16 0 rfl ?_
  refine gh_get (x := .int (nI n)) f_14_2 q179 (c12) dJ2_add_17 rfl ?_
  have hel1 : n = cap → ∀ i, i < n → ∃ (b n1 : Nat) (f1 : Nat → Value), g i = .ref b ∧ ce Δ u12 b = some (tg, n1, f1) := fun q i hi => by obtain ⟨b, n1, f1, e1, e2⟩ := hel q i hi; exact ⟨b, n1, f1, e1, k12 _ _ e2 (ce_ne e2 hL (Or.inl htg.1))⟩
  refine g_callV (t_J2_add_2 _ (c12) (k12 _ _ (hE) (by omega)) hn h16 h22 hLn hE0 hel1 hc hw (k12 _ _ (ha) (by omega)) hca hwa haL haE) (lw_V q804 q806 qs14 q127 q807) okJ2_add_2 (c12) rfl rfl rfl rfl (Nat.le_of_ble_eq_true rfl) dJ2_add_20 (fun v1 h1 _ _ hq => ?_)
  obtain ⟨rfl, E1, cap1, g1, G1, r1, r2, r3, r4, r5, r6, r7, r8⟩ := hq
  show wp Δ (d + 6) muJ2_add 23 [(0, .ref L), (1, .ref a)] [] h1 _
  refine g_iconst (x := 1) dJ2_add_23 rfl ?_
  refine g_zret rfl (by first | exact Or.inl rfl | exact Or.inr rfl | exact bI_01 _) dJ2_add_24 ?_
  exact ⟨rfl, E1, cap1, g1, (F12.tr G1 (fun b _ q => q)).le (by omega) (by omega) (fun _ _ q => q), r1, r2, r3, r4, r5, r6, r7, by omega⟩
set_option maxRecDepth 100000 in
theorem t_J2_fastRemove {Δ : Cx} {h : Hp} {C : String} {tg nF : Nat} {TT : u_T} (d : Nat) {L E cap n : Nat} {mc : Int32} {g : Nat → Value} (hL : ce Δ h L = some (14, 0, ob [.int mc, .ref E, .int (nI n)])) (hE : ce Δ h E = some (103, cap, g)) (hn : n ≤ cap) (h22 : cap ≤ 24) (hLn : n0 Δ ≤ L) (hEn : n0 Δ ≤ E) (i : Nat) (hi : i < n) (hel : ∀ j, j < n → ∃ (b n1 : Nat) (f1 : Nat → Value), g j = .ref b ∧ ce Δ h b = some (tg, n1, f1)) (hc : clz[tg]? = some (C, TT, nF)) (hw : Cond.castable C "java/lang/Object" ∈ lw_tbl) (htg : tg ≠ 14 ∧ tg ≠ 103)  : mt Δ (d + 1) muJ2_fastRemove [.ref L, .ref E, .int (nI i)] h (fun v h' => v = none ∧ Fr Δ (fun b => b = L ∨ b = E) 0 0 h h' ∧ ce Δ h' L = some (14, 0, ob [.int (mc + 1), .ref E, .int (nI (n - 1))]) ∧ ∃ g', ce Δ h' E = some (103, cap, g') ∧ ∀ j, j < n - 1 → g' j = if j < i then g j else g (j + 1)) := by
  have lL := ce_lt hL; have lE := ce_lt hE; have nLE : L ≠ E := ce_ne hL hE (Or.inl (by show 14 ≠ 103; omega))
  refine mt_of (lv0 := [(0, .ref L), (1, .ref E), (2, .int (nI i))]) rfl rfl (Nat.le_of_ble_eq_true rfl) rfl ?_
  refine g_aload_n dJ2_fastRemove_0 0 rfl ?_
  refine g_dup dJ2_fastRemove_1 rfl ?_
  refine gh_getS (x := .int mc) f_14_0 q182 q181 (hL) dJ2_fastRemove_2 rfl ?_
  refine g_iconst (x := 1) dJ2_fastRemove_5 rfl ?_
  refine g_iadd dJ2_fastRemove_6 ?_
  refine gh_putS (f2 := ob [.int (mc + 1), .ref E, .int (nI n)]) f_14_0 q182 q181 (hL) (by omega) dJ2_fastRemove_7 rfl rfl (ob_u [.int mc, .ref E, .int (nI n)] 0 (.int (mc + 1)) (Nat.le_of_ble_eq_true rfl)) ?_
  refine wp_put (Fr.refl (fun b => b = L ∨ b = E) _) (fun q => by first | exact absurd q (by omega) | exact Or.inl rfl | exact Or.inr rfl | exact Or.inr (Or.inl rfl) | exact Or.inr (Or.inr rfl) | exact Or.inr ⟨rfl, by omega⟩ | exact rfl | (simp only []; omega)) (hL) (by omega) (fun u13 F13 z13 c13 k13 => ?_)
  refine g_aload_n dJ2_fastRemove_10 0 rfl ?_
  refine gh_get (x := .int (nI n)) f_14_2 q179 (c13) dJ2_fastRemove_11 rfl ?_
  refine g_iconst (x := 1) dJ2_fastRemove_14 rfl ?_
  refine g_isub dJ2_fastRemove_15 ?_
  refine wp_top (z := .int (nI (n - 1))) (congrArg Value.int (pk_sub (b := 1) (by omega))) ?_
  refine g_dup dJ2_fastRemove_16 rfl ?_
  refine g_istore_n (lv' := [(3, .int (nI (n - 1))), (0, .ref L), (1, .ref E), (2, .int (nI i))]) dJ2_fastRemove_17 (by decide) rfl ?_
  refine g_iload_n dJ2_fastRemove_18 3 rfl ?_
  refine gn_le (tgt := 34) (a := n - 1) (b := i) dJ2_fastRemove_19 (by decide) (rfl) (rfl) (by omega) (by omega) (fun c_1 => ?_) (fun c_1 => ?_)
  ·
    refine g_aload_n dJ2_fastRemove_34 2 rfl ?_
    refine g_aload_n dJ2_fastRemove_35 1 rfl ?_
    refine g_iload_n dJ2_fastRemove_36 0 rfl ?_
    refine g_dup_x1 dJ2_fastRemove_37 rfl rfl ?_
    refine gh_put (f2 := ob [.int (mc + 1), .ref E, .int (nI (n - 1))]) f_14_2 q179 (c13) (by omega) dJ2_fastRemove_38 rfl rfl (ob_u [.int (mc + 1), .ref E, .int (nI n)] 2 (.int (nI (n - 1))) (Nat.le_of_ble_eq_true rfl)) ?_
    refine wp_put F13 (fun q => by first | exact absurd q (by omega) | exact Or.inl rfl | exact Or.inr rfl | exact Or.inr (Or.inl rfl) | exact Or.inr (Or.inr rfl) | exact Or.inr ⟨rfl, by omega⟩ | exact rfl | (simp only []; omega)) (c13) (by omega) (fun u14 F14 z14 c14 k14 => ?_)
    refine g_null dJ2_fastRemove_41 ?_
    refine gh_aastN (j := n - 1) (k14 _ _ (k13 _ _ (hE) (by omega)) (by omega)) (by omega) (rfl) (by omega) (by omega) dJ2_fastRemove_42 ?_
    refine wp_put F14 (fun q => by first | exact absurd q (by omega) | exact Or.inl rfl | exact Or.inr rfl | exact Or.inr (Or.inl rfl) | exact Or.inr (Or.inr rfl) | exact Or.inr ⟨rfl, by omega⟩ | exact rfl | (simp only []; omega)) (k14 _ _ (k13 _ _ (hE) (by omega)) (by omega)) (by omega) (fun u15 F15 z15 c15 k15 => ?_)
    refine g_vret rfl dJ2_fastRemove_43 ?_
    exact ⟨rfl, F15, k15 _ _ (c14) (by omega), _, c15, fun j hj => (upd_ne (by omega)).trans (if_pos (by omega)).symm⟩
  ·
    refine g_aload_n dJ2_fastRemove_22 2 rfl ?_
    refine g_iload_n dJ2_fastRemove_23 3 rfl ?_
    refine g_iconst (x := 1) dJ2_fastRemove_24 rfl ?_
    refine g_iadd dJ2_fastRemove_25 ?_
    refine g_aload_n dJ2_fastRemove_26 2 rfl ?_
    refine g_iload_n dJ2_fastRemove_27 3 rfl ?_
    refine g_iload_n dJ2_fastRemove_28 0 rfl ?_
    refine g_iload_n dJ2_fastRemove_29 3 rfl ?_
    refine g_isub dJ2_fastRemove_30 ?_
    refine wp_top (z := .int (nI (n - 1 - i))) (congrArg Value.int (pk_sub (by omega))) ?_
    refine g_copyR (SP := i + 1) (DP := i) (N := n - 1 - i) (k13 _ _ (hE) (by omega)) (k13 _ _ (hE) (by omega)) (by omega) (ix_add rfl rfl) rfl (rfl) (by omega) (by omega) hc hw (fun j hj => by obtain ⟨b, n1, f1, e1, e2⟩ := hel (i + 1 + j) (by omega); exact ⟨b, n1, f1, e1, k13 _ _ e2 (ce_ne e2 hL (Or.inl htg.1))⟩) q1535 q461 q460 q140 (Nat.le_of_ble_eq_true rfl) dJ2_fastRemove_31 ?_
    refine wp_put F13 (fun q => by first | exact absurd q (by omega) | exact Or.inl rfl | exact Or.inr rfl | exact Or.inr (Or.inl rfl) | exact Or.inr (Or.inr rfl) | exact Or.inr ⟨rfl, by omega⟩ | exact rfl | (simp only []; omega)) (k13 _ _ (hE) (by omega)) (by omega) (fun u16 F16 z16 c16 k16 => ?_)
    refine g_aload_n dJ2_fastRemove_34 2 rfl ?_
    refine g_aload_n dJ2_fastRemove_35 1 rfl ?_
    refine g_iload_n dJ2_fastRemove_36 0 rfl ?_
    refine g_dup_x1 dJ2_fastRemove_37 rfl rfl ?_
    refine gh_put (f2 := ob [.int (mc + 1), .ref E, .int (nI (n - 1))]) f_14_2 q179 (k16 _ _ (c13) (by omega)) (by omega) dJ2_fastRemove_38 rfl rfl (ob_u [.int (mc + 1), .ref E, .int (nI n)] 2 (.int (nI (n - 1))) (Nat.le_of_ble_eq_true rfl)) ?_
    refine wp_put F16 (fun q => by first | exact absurd q (by omega) | exact Or.inl rfl | exact Or.inr rfl | exact Or.inr (Or.inl rfl) | exact Or.inr (Or.inr rfl) | exact Or.inr ⟨rfl, by omega⟩ | exact rfl | (simp only []; omega)) (k16 _ _ (c13) (by omega)) (by omega) (fun u17 F17 z17 c17 k17 => ?_)
    refine g_null dJ2_fastRemove_41 ?_
    refine gh_aastN (j := n - 1) (k17 _ _ (c16) (by omega)) (by omega) (rfl) (by omega) (by omega) dJ2_fastRemove_42 ?_
    refine wp_put F17 (fun q => by first | exact absurd q (by omega) | exact Or.inl rfl | exact Or.inr rfl | exact Or.inr (Or.inl rfl) | exact Or.inr (Or.inr rfl) | exact Or.inr ⟨rfl, by omega⟩ | exact rfl | (simp only []; omega)) (k17 _ _ (c16) (by omega)) (by omega) (fun u18 F18 z18 c18 k18 => ?_)
    refine g_vret rfl dJ2_fastRemove_43 ?_
    exact ⟨rfl, F18, k18 _ _ (c17) (by omega), _, c18, fun j hj => (upd_ne (by omega)).trans (cpy_sh (by omega) hj)⟩
set_option maxRecDepth 100000 in
theorem t_J2_remove {Δ : Cx} {h : Hp} {C : String} {tg nF : Nat} {TT : u_T} (d : Nat) {L E cap n : Nat} {mc : Int32} {g : Nat → Value} (hL : ce Δ h L = some (14, 0, ob [.int mc, .ref E, .int (nI n)])) (hE : ce Δ h E = some (103, cap, g)) (hn : n ≤ cap) (h22 : cap ≤ 24) (hLn : n0 Δ ≤ L) (hEn : n0 Δ ≤ E) (i : Nat) (hi : i < n) (hel : ∀ j, j < n → ∃ (b n1 : Nat) (f1 : Nat → Value), g j = .ref b ∧ ce Δ h b = some (tg, n1, f1)) (hc : clz[tg]? = some (C, TT, nF)) (hw : Cond.castable C "java/lang/Object" ∈ lw_tbl) (htg : tg ≠ 14 ∧ tg ≠ 103) {x : Nat} (hx : g i = .ref x)  : mt Δ (d + 4) muJ2_remove [.ref L, .int (nI i)] h (fun v h' => v = some (.ref x) ∧ Fr Δ (fun b => b = L ∨ b = E) 0 0 h h' ∧ ce Δ h' L = some (14, 0, ob [.int (mc + 1), .ref E, .int (nI (n - 1))]) ∧ ∃ g', ce Δ h' E = some (103, cap, g') ∧ ∀ j, j < n - 1 → g' j = if j < i then g j else g (j + 1)) := by
  have lL := ce_lt hL; have lE := ce_lt hE; have nLE : L ≠ E := ce_ne hL hE (Or.inl (by show 14 ≠ 103; omega))
  refine mt_of (lv0 := [(0, .ref L), (1, .int (nI i))]) rfl rfl (Nat.le_of_ble_eq_true rfl) rfl ?_
  refine g_iload_n dJ2_remove_0 1 rfl ?_
  refine g_aload_n dJ2_remove_1 0 rfl ?_
  refine gh_get (x := .int (nI n)) f_14_2 q179 (hL) dJ2_remove_2 rfl ?_
  refine g_callS (t_J12_checkIndex _ i n (by omega) (by omega)) (lw_S q753 q754 q144 q755) okJ12_checkIndex rfl rfl (Nat.le_of_ble_eq_true rfl) dJ2_remove_5 (fun v1 h1 _ _ hq => ?_)
  obtain ⟨rfl, hh⟩ := hq
  rw [hh]
  show wp Δ (d + 4) muJ2_remove 8 [(0, .ref L), (1, .int (nI i))] [.int (nI i)] h _
  refine g_pop dJ2_remove_8 rfl ?_
  refine g_aload_n dJ2_remove_9 0 rfl ?_
  refine gh_get (x := .ref E) f_14_1 q178 (hL) dJ2_remove_10 rfl ?_
  refine g_astore_n (lv' := [(2, .ref E), (0, .ref L), (1, .int (nI i))]) dJ2_remove_13 (by decide) rfl ?_
  refine g_aload_n dJ2_remove_14 0 rfl ?_
  refine g_iload_n dJ2_remove_15 2 rfl ?_
  refine gh_aald (j := i) (x := .ref x) (hE) (rfl) (by omega) (by omega) hx dJ2_remove_16 ?_
  refine g_astore_n (lv' := [(3, .ref x), (2, .ref E), (0, .ref L), (1, .int (nI i))]) dJ2_remove_17 (by decide) rfl ?_
  refine g_aload_n dJ2_remove_18 2 rfl ?_
  refine g_aload_n dJ2_remove_19 1 rfl ?_
  refine g_iload_n dJ2_remove_20 3 rfl ?_
  refine g_callV (t_J2_fastRemove _ hL hE hn h22 hLn hEn i hi hel hc hw htg) (lw_V q1531 q1533 qs57 q127 q1534) okJ2_fastRemove (hL) rfl rfl rfl rfl (Nat.le_of_ble_eq_true rfl) dJ2_remove_21 (fun v1 h1 _ _ hq => ?_)
  obtain ⟨rfl, G1, r1, r2⟩ := hq
  show wp Δ (d + 4) muJ2_remove 24 [(3, .ref x), (2, .ref E), (0, .ref L), (1, .int (nI i))] [] h1 _
  refine g_aload_n dJ2_remove_24 0 rfl ?_
  refine g_aret rfl (by first | exact Or.inl ⟨_, rfl⟩ | exact Or.inr ⟨_, rfl⟩) (by first | exact Or.inl rfl | exact Or.inr ⟨_, rfl⟩) dJ2_remove_25 ?_
  exact ⟨rfl, G1, r1, r2⟩
set_option maxRecDepth 100000 in
theorem t_J2_clear {Δ : Cx} {h : Hp} (d : Nat) {L E cap n : Nat} {mc : Int32} {g : Nat → Value} (hL : ce Δ h L = some (14, 0, ob [.int mc, .ref E, .int (nI n)])) (hE : ce Δ h E = some (103, cap, g)) (hn : n ≤ cap) (h22 : cap ≤ 24) (hLn : n0 Δ ≤ L) (hEn : 0 < n → n0 Δ ≤ E)  : mt Δ d muJ2_clear [.ref L] h (fun v h' => v = none ∧ Fr Δ (fun b => b = L ∨ (b = E ∧ 0 < n)) 0 0 h h' ∧ ce Δ h' L = some (14, 0, ob [.int (mc + 1), .ref E, .int (nI 0)]) ∧ ∃ g', ce Δ h' E = some (103, cap, g')) := by
  have lL := ce_lt hL; have lE := ce_lt hE; have nLE : L ≠ E := ce_ne hL hE (Or.inl (by show 14 ≠ 103; omega))
  refine mt_of (lv0 := [(0, .ref L)]) rfl rfl (Nat.le_of_ble_eq_true rfl) rfl ?_
  refine g_aload_n dJ2_clear_0 0 rfl ?_
  refine g_dup dJ2_clear_1 rfl ?_
  refine gh_getS (x := .int mc) f_14_0 q182 q181 (hL) dJ2_clear_2 rfl ?_
  refine g_iconst (x := 1) dJ2_clear_5 rfl ?_
  refine g_iadd dJ2_clear_6 ?_
  refine gh_putS (f2 := ob [.int (mc + 1), .ref E, .int (nI n)]) f_14_0 q182 q181 (hL) (by omega) dJ2_clear_7 rfl rfl (ob_u [.int mc, .ref E, .int (nI n)] 0 (.int (mc + 1)) (Nat.le_of_ble_eq_true rfl)) ?_
  refine wp_put (Fr.refl (fun b => b = L ∨ (b = E ∧ 0 < n)) _) (fun q => by first | exact absurd q (by omega) | exact Or.inl rfl | exact Or.inr rfl | exact Or.inr (Or.inl rfl) | exact Or.inr (Or.inr rfl) | exact Or.inr ⟨rfl, by omega⟩ | exact rfl | (simp only []; omega)) (hL) (by omega) (fun u19 F19 z19 c19 k19 => ?_)
  refine g_aload_n dJ2_clear_10 0 rfl ?_
  refine gh_get (x := .ref E) f_14_1 q178 (c19) dJ2_clear_11 rfl ?_
  refine g_astore_n (lv' := [(1, .ref E), (0, .ref L)]) dJ2_clear_14 (by decide) rfl ?_
  refine g_aload_n dJ2_clear_15 1 rfl ?_
  refine gh_get (x := .int (nI n)) f_14_2 q179 (c19) dJ2_clear_16 rfl ?_
  refine g_istore_n (lv' := [(2, .int (nI n)), (1, .ref E), (0, .ref L)]) dJ2_clear_19 (by decide) rfl ?_
  refine g_aload_n dJ2_clear_20 2 rfl ?_
  refine g_iconst (x := 0) dJ2_clear_21 rfl ?_
  refine g_dup_x1 dJ2_clear_22 rfl rfl ?_
  refine gh_put (f2 := ob [.int (mc + 1), .ref E, .int 0]) f_14_2 q179 (c19) (by omega) dJ2_clear_23 rfl rfl (ob_u [.int (mc + 1), .ref E, .int (nI n)] 2 (.int 0) (Nat.le_of_ble_eq_true rfl)) ?_
  refine wp_put F19 (fun q => by first | exact absurd q (by omega) | exact Or.inl rfl | exact Or.inr rfl | exact Or.inr (Or.inl rfl) | exact Or.inr (Or.inr rfl) | exact Or.inr ⟨rfl, by omega⟩ | exact rfl | (simp only []; omega)) (c19) (by omega) (fun u20 F20 z20 c20 k20 => ?_)
  refine g_istore_n (lv' := [(3, .int 0), (2, .int (nI n)), (1, .ref E), (0, .ref L)]) dJ2_clear_26 (by decide) rfl ?_
  have C27f : ∀ (fuel : Nat) (i : Nat) (u : Hp) (g1 : Nat → Value), n - i < fuel → (i ≤ n) → (Fr Δ (fun b => b = L ∨ (b = E ∧ 0 < n)) 0 0 h u) → (ce Δ u L = some (14, 0, ob [.int (mc + 1), .ref E, .int (nI 0)])) → (ce Δ u E = some (103, cap, g1)) → wp Δ d muJ2_clear 27 [(3, .int (nI i)), (2, .int (nI n)), (1, .ref E), (0, .ref L)] [] u (fun v h' => v = none ∧ Fr Δ (fun b => b = L ∨ (b = E ∧ 0 < n)) 0 0 h h' ∧ ce Δ h' L = some (14, 0, ob [.int (mc + 1), .ref E, .int (nI 0)]) ∧ ∃ g', ce Δ h' E = some (103, cap, g')) := by
    intro fuel
    induction fuel with
    | zero => intros; omega
    | succ fuel ih27 =>
      intro i u g1 hfuel27 h27_0 h27_1 h27_2 h27_3
      refine g_iload_n dJ2_clear_27 0 rfl ?_
      refine g_iload_n dJ2_clear_28 1 rfl ?_
      refine gn_ge (tgt := 42) (a := i) (b := n) dJ2_clear_29 (by decide) (rfl) (rfl) (by omega) (by omega) (fun c_1 => ?_) (fun c_1 => ?_)
      ·
        refine g_vret rfl dJ2_clear_42 ?_
        exact ⟨rfl, h27_1, h27_2, _, h27_3⟩
      ·
        refine g_aload_n dJ2_clear_32 2 rfl ?_
        refine g_iload_n dJ2_clear_33 0 rfl ?_
        refine g_null dJ2_clear_34 ?_
        refine gh_aastN (j := i) (h27_3) (by omega) (rfl) (by omega) (by omega) dJ2_clear_35 ?_
        refine wp_put h27_1 (fun q => by first | exact absurd q (by omega) | exact Or.inl rfl | exact Or.inr rfl | exact Or.inr (Or.inl rfl) | exact Or.inr (Or.inr rfl) | exact Or.inr ⟨rfl, by omega⟩ | exact rfl | (simp only []; omega)) (h27_3) (by omega) (fun u21 F21 z21 c21 k21 => ?_)
        refine g_iinc (z := nI (i + 1)) (lv' := [(3, .int (nI (i + 1))), (2, .int (nI n)), (1, .ref E), (0, .ref L)]) dJ2_clear_36 0 rfl (nI_add _ 1) (by decide) rfl ?_
        refine g_goto (tgt := 27) dJ2_clear_39 (by decide) ?_
        exact ih27 (i + 1) _ _ (by omega) (by omega) F21 (k21 _ _ (h27_2) (by omega)) (c21)
  have C27 : ∀ (i : Nat) (u : Hp) (g1 : Nat → Value), (i ≤ n) → (Fr Δ (fun b => b = L ∨ (b = E ∧ 0 < n)) 0 0 h u) → (ce Δ u L = some (14, 0, ob [.int (mc + 1), .ref E, .int (nI 0)])) → (ce Δ u E = some (103, cap, g1)) → wp Δ d muJ2_clear 27 [(3, .int (nI i)), (2, .int (nI n)), (1, .ref E), (0, .ref L)] [] u (fun v h' => v = none ∧ Fr Δ (fun b => b = L ∨ (b = E ∧ 0 < n)) 0 0 h h' ∧ ce Δ h' L = some (14, 0, ob [.int (mc + 1), .ref E, .int (nI 0)]) ∧ ∃ g', ce Δ h' E = some (103, cap, g')) := fun i u g1 h27_0 h27_1 h27_2 h27_3 => C27f _ i u g1 (Nat.lt_succ_self _) h27_0 h27_1 h27_2 h27_3
  exact C27 0 _ _ (by omega) F20 (c20) (k20 _ _ (k19 _ _ (hE) (by omega)) (by omega))
set_option maxRecDepth 100000 in
theorem t_J0_init {Δ : Cx} {h : Hp} (d : Nat) (L : Nat) : mt Δ (d + 1) muJ0_init [.ref L] h (fun v h' => v = none ∧ h' = h) := by
  refine mt_of (lv0 := [(0, .ref L)]) rfl rfl (Nat.le_of_ble_eq_true rfl) rfl ?_
  refine g_aload_n dJ0_init_0 0 rfl ?_
  refine g_objInit q175 q162 q163 (Nat.le_of_ble_eq_true rfl) dJ0_init_1 ?_
  refine g_vret rfl dJ0_init_4 ?_
  exact ⟨rfl, rfl⟩
set_option maxRecDepth 100000 in
theorem t_J1_init {Δ : Cx} {h : Hp} (d : Nat) (L : Nat) (hL : ce Δ h L = some (14, 0, ob [.int 0, .null, .int 0])) (hLn : n0 Δ ≤ L) : mt Δ (d + 2) muJ1_init [.ref L] h (fun v h' => v = none ∧ Fr Δ (fun b => b = L) 0 0 h h' ∧ ce Δ h' L = some (14, 0, ob [.int 0, .null, .int 0])) := by
  refine mt_of (lv0 := [(0, .ref L)]) rfl rfl (Nat.le_of_ble_eq_true rfl) rfl ?_
  refine g_aload_n dJ1_init_0 0 rfl ?_
  refine g_callI (t_J0_init _ L) (lw_meth q174) rfl q125 q172 q173 rfl okJ0_init rfl rfl (Nat.le_of_ble_eq_true rfl) dJ1_init_1 (fun v1 h1 _ _ hq => ?_)
  obtain ⟨rfl, hh⟩ := hq
  rw [hh]
  show wp Δ (d + 2) muJ1_init 4 [(0, .ref L)] [] h _
  refine g_aload_n dJ1_init_4 0 rfl ?_
  refine g_iconst (x := 0) dJ1_init_5 rfl ?_
  refine gh_put (f2 := ob [.int 0, .null, .int 0]) f_14_0 q180 (hL) (by omega) dJ1_init_6 rfl rfl (ob_u [.int 0, .null, .int 0] 0 (.int 0) (Nat.le_of_ble_eq_true rfl)) ?_
  refine wp_put (Fr.refl (fun b => b = L) _) (fun q => by first | exact absurd q (by omega) | exact Or.inl rfl | exact Or.inr rfl | exact Or.inr (Or.inl rfl) | exact Or.inr (Or.inr rfl) | exact Or.inr ⟨rfl, by omega⟩ | exact rfl | (simp only []; omega)) (hL) (by omega) (fun u22 F22 z22 c22 k22 => ?_)
  refine g_vret rfl dJ1_init_9 ?_
  exact ⟨rfl, F22, c22⟩
set_option maxRecDepth 100000 in
theorem t_J2_init {Δ : Cx} {h : Hp} (d : Nat) (L : Nat) (hL : ce Δ h L = some (14, 0, ob [.int 0, .null, .int 0])) (hLn : n0 Δ ≤ L) : mt Δ (d + 3) muJ2_init [.ref L] h (fun v h' => v = none ∧ Fr Δ (fun b => b = L) 0 0 h h' ∧ ce Δ h' L = some (14, 0, ob [.int 0, .ref (cT Δ 99), .int (nI 0)])) := by
  refine mt_of (lv0 := [(0, .ref L)]) rfl rfl (Nat.le_of_ble_eq_true rfl) rfl ?_
  refine g_aload_n dJ2_init_0 0 rfl ?_
  refine g_callI (t_J1_init _ L hL hLn) (lw_meth q171) rfl q126 q169 q170 rfl okJ1_init rfl rfl (Nat.le_of_ble_eq_true rfl) dJ2_init_1 (fun v1 h1 _ _ hq => ?_)
  obtain ⟨rfl, G1, r1⟩ := hq
  show wp Δ (d + 3) muJ2_init 4 [(0, .ref L)] [] h1 _
  refine g_aload_n dJ2_init_4 0 rfl ?_
  refine g_gtEM ⟨rfl, rfl, rfl⟩ q176 dJ2_init_5 ?_
  refine gh_put (f2 := ob [.int 0, .ref (cT Δ 99), .int 0]) f_14_1 q178 (r1) (by omega) dJ2_init_8 rfl rfl (ob_u [.int 0, .null, .int 0] 1 (.ref (cT Δ 99)) (Nat.le_of_ble_eq_true rfl)) ?_
  refine wp_put G1 (fun q => by first | exact absurd q (by omega) | exact Or.inl rfl | exact Or.inr rfl | exact Or.inr (Or.inl rfl) | exact Or.inr (Or.inr rfl) | exact Or.inr ⟨rfl, by omega⟩ | exact rfl | (simp only []; omega)) (r1) (by omega) (fun u23 F23 z23 c23 k23 => ?_)
  refine g_vret rfl dJ2_init_11 ?_
  exact ⟨rfl, F23, c23⟩
