set_option maxRecDepth 100000 in
theorem t_X6_init {Δ : Cx} {h : Hp} (d : Nat) (o : Nat) (a b c : Int32) (s : Nat) (ho : ce Δ h o = some (5, 0, ob [.int 0, .int 0, .int 0, .null])) (hn : n0 Δ ≤ o) : mt Δ (d + 1) muX6_init [.ref o, .int a, .int b, .int c, .ref s] h (fun v h' => v = none ∧ Fr Δ (fun b => b = o) 0 0 h h' ∧ ce Δ h' o = some (5, 0, ob [.int a, .int b, .int c, .ref s])) := by
  refine mt_of (lv0 := [(0, .ref o), (1, .int a), (2, .int b), (3, .int c), (4, .ref s)]) rfl rfl (Nat.le_of_ble_eq_true rfl) rfl ?_
  refine g_aload_n dX6_init_0 0 rfl ?_
  refine g_objInit q370 q162 q163 (Nat.le_of_ble_eq_true rfl) dX6_init_1 ?_
  refine g_aload_n dX6_init_4 0 rfl ?_
  refine g_iload_n dX6_init_5 1 rfl ?_
  refine gh_putF (f2 := ob [.int a, .int 0, .int 0, .null]) f_5_0 q371 (ho) (by omega) rfl rfl dX6_init_6 rfl rfl (ob_u [.int 0, .int 0, .int 0, .null] 0 (.int a) (Nat.le_of_ble_eq_true rfl)) ?_
  refine wp_put (Fr.refl (fun b => b = o) _) (fun q => by first | exact absurd q (by omega) | exact Or.inl rfl | exact Or.inr rfl | exact Or.inr (Or.inl rfl) | exact Or.inr (Or.inr rfl) | exact Or.inr ⟨rfl, by omega⟩ | exact rfl | (simp only []; omega)) (ho) (by omega) (fun u35 F35 z35 c35 k35 => ?_)
  refine g_aload_n dX6_init_9 0 rfl ?_
  refine g_iload_n dX6_init_10 2 rfl ?_
  refine gh_putF (f2 := ob [.int a, .int b, .int 0, .null]) f_5_1 q373 (c35) (by omega) rfl rfl dX6_init_11 rfl rfl (ob_u [.int a, .int 0, .int 0, .null] 1 (.int b) (Nat.le_of_ble_eq_true rfl)) ?_
  refine wp_put F35 (fun q => by first | exact absurd q (by omega) | exact Or.inl rfl | exact Or.inr rfl | exact Or.inr (Or.inl rfl) | exact Or.inr (Or.inr rfl) | exact Or.inr ⟨rfl, by omega⟩ | exact rfl | (simp only []; omega)) (c35) (by omega) (fun u36 F36 z36 c36 k36 => ?_)
  refine g_aload_n dX6_init_14 0 rfl ?_
  refine g_iload_n dX6_init_15 3 rfl ?_
  refine gh_putF (f2 := ob [.int a, .int b, .int c, .null]) f_5_2 q375 (c36) (by omega) rfl rfl dX6_init_16 rfl rfl (ob_u [.int a, .int b, .int 0, .null] 2 (.int c) (Nat.le_of_ble_eq_true rfl)) ?_
  refine wp_put F36 (fun q => by first | exact absurd q (by omega) | exact Or.inl rfl | exact Or.inr rfl | exact Or.inr (Or.inl rfl) | exact Or.inr (Or.inr rfl) | exact Or.inr ⟨rfl, by omega⟩ | exact rfl | (simp only []; omega)) (c36) (by omega) (fun u37 F37 z37 c37 k37 => ?_)
  refine g_aload_n dX6_init_19 0 rfl ?_
  refine g_aload dX6_init_20 4 rfl ?_
  refine gh_putF (f2 := ob [.int a, .int b, .int c, .ref s]) f_5_3 q377 (c37) (by omega) rfl rfl dX6_init_22 rfl rfl (ob_u [.int a, .int b, .int c, .null] 3 (.ref s) (Nat.le_of_ble_eq_true rfl)) ?_
  refine wp_put F37 (fun q => by first | exact absurd q (by omega) | exact Or.inl rfl | exact Or.inr rfl | exact Or.inr (Or.inl rfl) | exact Or.inr (Or.inr rfl) | exact Or.inr ⟨rfl, by omega⟩ | exact rfl | (simp only []; omega)) (c37) (by omega) (fun u38 F38 z38 c38 k38 => ?_)
  refine g_vret rfl dX6_init_25 ?_
  exact ⟨rfl, F38, c38⟩
set_option maxRecDepth 100000 in
theorem t_X7_init {Δ : Cx} {h : Hp} (d : Nat) (o : Nat) (s : Nat) (ho : ce Δ h o = some (6, 0, ob [.null, .int 0, .int 0])) (hn : n0 Δ ≤ o) : mt Δ (d + 1) muX7_init [.ref o, .ref s] h (fun v h' => v = none ∧ Fr Δ (fun b => b = o) 0 0 h h' ∧ ce Δ h' o = some (6, 0, ob [.ref s, .int 0, .int 0])) := by
  refine mt_of (lv0 := [(0, .ref o), (1, .ref s)]) rfl rfl (Nat.le_of_ble_eq_true rfl) rfl ?_
  refine g_aload_n dX7_init_0 0 rfl ?_
  refine g_objInit q776 q162 q163 (Nat.le_of_ble_eq_true rfl) dX7_init_1 ?_
  refine g_aload_n dX7_init_4 0 rfl ?_
  refine g_aload_n dX7_init_5 1 rfl ?_
  refine gh_putF (f2 := ob [.ref s, .int 0, .int 0]) f_6_0 q777 (ho) (by omega) rfl rfl dX7_init_6 rfl rfl (ob_u [.null, .int 0, .int 0] 0 (.ref s) (Nat.le_of_ble_eq_true rfl)) ?_
  refine wp_put (Fr.refl (fun b => b = o) _) (fun q => by first | exact absurd q (by omega) | exact Or.inl rfl | exact Or.inr rfl | exact Or.inr (Or.inl rfl) | exact Or.inr (Or.inr rfl) | exact Or.inr ⟨rfl, by omega⟩ | exact rfl | (simp only []; omega)) (ho) (by omega) (fun u39 F39 z39 c39 k39 => ?_)
  refine g_vret rfl dX7_init_9 ?_
  exact ⟨rfl, F39, c39⟩
set_option maxRecDepth 100000 in
theorem t_X8_init {Δ : Cx} {h : Hp} (d : Nat) (o : Nat) (s : Nat) (ho : ce Δ h o = some (7, 0, ob [.null, .int 0, .int 0, .int 0])) (hn : n0 Δ ≤ o) : mt Δ (d + 1) muX8_init [.ref o, .ref s] h (fun v h' => v = none ∧ Fr Δ (fun b => b = o) 0 0 h h' ∧ ce Δ h' o = some (7, 0, ob [.ref s, .int 0, .int 0, .int 0])) := by
  refine mt_of (lv0 := [(0, .ref o), (1, .ref s)]) rfl rfl (Nat.le_of_ble_eq_true rfl) rfl ?_
  refine g_aload_n dX8_init_0 0 rfl ?_
  refine g_objInit q868 q162 q163 (Nat.le_of_ble_eq_true rfl) dX8_init_1 ?_
  refine g_aload_n dX8_init_4 0 rfl ?_
  refine g_aload_n dX8_init_5 1 rfl ?_
  refine gh_putF (f2 := ob [.ref s, .int 0, .int 0, .int 0]) f_7_0 q869 (ho) (by omega) rfl rfl dX8_init_6 rfl rfl (ob_u [.null, .int 0, .int 0, .int 0] 0 (.ref s) (Nat.le_of_ble_eq_true rfl)) ?_
  refine wp_put (Fr.refl (fun b => b = o) _) (fun q => by first | exact absurd q (by omega) | exact Or.inl rfl | exact Or.inr rfl | exact Or.inr (Or.inl rfl) | exact Or.inr (Or.inr rfl) | exact Or.inr ⟨rfl, by omega⟩ | exact rfl | (simp only []; omega)) (ho) (by omega) (fun u40 F40 z40 c40 k40 => ?_)
  refine g_vret rfl dX8_init_9 ?_
  exact ⟨rfl, F40, c40⟩
set_option maxRecDepth 100000 in
theorem t_X12_init {Δ : Cx} {h : Hp} (d : Nat) (o : Nat) (s : Nat) (ho : ce Δ h o = some (11, 0, ob [.null, .int 0, .int 0, .int 0, .int 0])) (hn : n0 Δ ≤ o) : mt Δ (d + 1) muX12_init [.ref o, .ref s] h (fun v h' => v = none ∧ Fr Δ (fun b => b = o) 0 0 h h' ∧ ce Δ h' o = some (11, 0, ob [.ref s, .int 0, .int 0, .int (-2), .int 0])) := by
  refine mt_of (lv0 := [(0, .ref o), (1, .ref s)]) rfl rfl (Nat.le_of_ble_eq_true rfl) rfl ?_
  refine g_aload_n dX12_init_0 0 rfl ?_
  refine g_objInit q933 q162 q163 (Nat.le_of_ble_eq_true rfl) dX12_init_1 ?_
  refine g_aload_n dX12_init_4 0 rfl ?_
  refine g_bipush (x := -2) dX12_init_5 rfl ?_
  refine gh_put (f2 := ob [.null, .int 0, .int 0, .int (-2), .int 0]) f_11_3 q942 (ho) (by omega) dX12_init_7 rfl rfl (ob_u [.null, .int 0, .int 0, .int 0, .int 0] 3 (.int (-2)) (Nat.le_of_ble_eq_true rfl)) ?_
  refine wp_put (Fr.refl (fun b => b = o) _) (fun q => by first | exact absurd q (by omega) | exact Or.inl rfl | exact Or.inr rfl | exact Or.inr (Or.inl rfl) | exact Or.inr (Or.inr rfl) | exact Or.inr ⟨rfl, by omega⟩ | exact rfl | (simp only []; omega)) (ho) (by omega) (fun u41 F41 z41 c41 k41 => ?_)
  refine g_aload_n dX12_init_10 0 rfl ?_
  refine g_aload_n dX12_init_11 1 rfl ?_
  refine gh_putF (f2 := ob [.ref s, .int 0, .int 0, .int (-2), .int 0]) f_11_0 q934 (c41) (by omega) rfl rfl dX12_init_12 rfl rfl (ob_u [.null, .int 0, .int 0, .int (-2), .int 0] 0 (.ref s) (Nat.le_of_ble_eq_true rfl)) ?_
  refine wp_put F41 (fun q => by first | exact absurd q (by omega) | exact Or.inl rfl | exact Or.inr rfl | exact Or.inr (Or.inl rfl) | exact Or.inr (Or.inr rfl) | exact Or.inr ⟨rfl, by omega⟩ | exact rfl | (simp only []; omega)) (c41) (by omega) (fun u42 F42 z42 c42 k42 => ?_)
  refine g_vret rfl dX12_init_15 ?_
  exact ⟨rfl, F42, c42⟩
set_option maxRecDepth 100000 in
theorem t_X13_init {Δ : Cx} {h : Hp} (d : Nat) (o : Nat) (a b c : Int32) (ho : ce Δ h o = some (12, 0, ob [.int 0, .int 0, .int 0])) (hn : n0 Δ ≤ o) : mt Δ (d + 1) muX13_init [.ref o, .int a, .int b, .int c] h (fun v h' => v = none ∧ Fr Δ (fun b => b = o) 0 0 h h' ∧ ce Δ h' o = some (12, 0, ob [.int a, .int b, .int c])) := by
  refine mt_of (lv0 := [(0, .ref o), (1, .int a), (2, .int b), (3, .int c)]) rfl rfl (Nat.le_of_ble_eq_true rfl) rfl ?_
  refine g_aload_n dX13_init_0 0 rfl ?_
  refine g_objInit q1007 q162 q163 (Nat.le_of_ble_eq_true rfl) dX13_init_1 ?_
  refine g_aload_n dX13_init_4 0 rfl ?_
  refine g_iload_n dX13_init_5 1 rfl ?_
  refine gh_putF (f2 := ob [.int a, .int 0, .int 0]) f_12_0 q1008 (ho) (by omega) rfl rfl dX13_init_6 rfl rfl (ob_u [.int 0, .int 0, .int 0] 0 (.int a) (Nat.le_of_ble_eq_true rfl)) ?_
  refine wp_put (Fr.refl (fun b => b = o) _) (fun q => by first | exact absurd q (by omega) | exact Or.inl rfl | exact Or.inr rfl | exact Or.inr (Or.inl rfl) | exact Or.inr (Or.inr rfl) | exact Or.inr ⟨rfl, by omega⟩ | exact rfl | (simp only []; omega)) (ho) (by omega) (fun u43 F43 z43 c43 k43 => ?_)
  refine g_aload_n dX13_init_9 0 rfl ?_
  refine g_iload_n dX13_init_10 2 rfl ?_
  refine gh_putF (f2 := ob [.int a, .int b, .int 0]) f_12_1 q1010 (c43) (by omega) rfl rfl dX13_init_11 rfl rfl (ob_u [.int a, .int 0, .int 0] 1 (.int b) (Nat.le_of_ble_eq_true rfl)) ?_
  refine wp_put F43 (fun q => by first | exact absurd q (by omega) | exact Or.inl rfl | exact Or.inr rfl | exact Or.inr (Or.inl rfl) | exact Or.inr (Or.inr rfl) | exact Or.inr ⟨rfl, by omega⟩ | exact rfl | (simp only []; omega)) (c43) (by omega) (fun u44 F44 z44 c44 k44 => ?_)
  refine g_aload_n dX13_init_14 0 rfl ?_
  refine g_iload_n dX13_init_15 3 rfl ?_
  refine gh_putF (f2 := ob [.int a, .int b, .int c]) f_12_2 q1012 (c44) (by omega) rfl rfl dX13_init_16 rfl rfl (ob_u [.int a, .int b, .int 0] 2 (.int c) (Nat.le_of_ble_eq_true rfl)) ?_
  refine wp_put F44 (fun q => by first | exact absurd q (by omega) | exact Or.inl rfl | exact Or.inr rfl | exact Or.inr (Or.inl rfl) | exact Or.inr (Or.inr rfl) | exact Or.inr ⟨rfl, by omega⟩ | exact rfl | (simp only []; omega)) (c44) (by omega) (fun u45 F45 z45 c45 k45 => ?_)
  refine g_vret rfl dX13_init_19 ?_
  exact ⟨rfl, F45, c45⟩
set_option maxRecDepth 100000 in
theorem t_X4_init {Δ : Cx} {h : Hp} (d : Nat) (o : Nat) (s : Nat) (a : Int32) (ho : ce Δ h o = some (3, 0, ob [.null, .int 0, .int 0])) (hn : n0 Δ ≤ o) : mt Δ (d + 1) muX4_init [.ref o, .ref s, .int a] h (fun v h' => v = none ∧ Fr Δ (fun b => b = o) 0 0 h h' ∧ ce Δ h' o = some (3, 0, ob [.ref s, .int a, .int 0])) := by
  refine mt_of (lv0 := [(0, .ref o), (1, .ref s), (2, .int a)]) rfl rfl (Nat.le_of_ble_eq_true rfl) rfl ?_
  refine g_aload_n dX4_init_0 0 rfl ?_
  refine g_objInit q272 q162 q163 (Nat.le_of_ble_eq_true rfl) dX4_init_1 ?_
  refine g_aload_n dX4_init_4 0 rfl ?_
  refine g_aload_n dX4_init_5 1 rfl ?_
  refine gh_putF (f2 := ob [.ref s, .int 0, .int 0]) f_3_0 q273 (ho) (by omega) rfl rfl dX4_init_6 rfl rfl (ob_u [.null, .int 0, .int 0] 0 (.ref s) (Nat.le_of_ble_eq_true rfl)) ?_
  refine wp_put (Fr.refl (fun b => b = o) _) (fun q => by first | exact absurd q (by omega) | exact Or.inl rfl | exact Or.inr rfl | exact Or.inr (Or.inl rfl) | exact Or.inr (Or.inr rfl) | exact Or.inr ⟨rfl, by omega⟩ | exact rfl | (simp only []; omega)) (ho) (by omega) (fun u46 F46 z46 c46 k46 => ?_)
  refine g_aload_n dX4_init_9 0 rfl ?_
  refine g_iload_n dX4_init_10 2 rfl ?_
  refine gh_putF (f2 := ob [.ref s, .int a, .int 0]) f_3_1 q274 (c46) (by omega) rfl rfl dX4_init_11 rfl rfl (ob_u [.ref s, .int 0, .int 0] 1 (.int a) (Nat.le_of_ble_eq_true rfl)) ?_
  refine wp_put F46 (fun q => by first | exact absurd q (by omega) | exact Or.inl rfl | exact Or.inr rfl | exact Or.inr (Or.inl rfl) | exact Or.inr (Or.inr rfl) | exact Or.inr ⟨rfl, by omega⟩ | exact rfl | (simp only []; omega)) (c46) (by omega) (fun u47 F47 z47 c47 k47 => ?_)
  refine g_vret rfl dX4_init_14 ?_
  exact ⟨rfl, F47, c47⟩
