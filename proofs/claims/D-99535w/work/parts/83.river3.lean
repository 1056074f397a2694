theorem updI (f : Nat → Int32) (k : Nat) (x : Int32) : updV (fun i => Value.int (f i)) k (.int x) = fun i => .int (fu f k x i) := by
  funext i
  unfold updV fu
  by_cases h : i = k
  · rw [if_pos h, if_pos h]
  · rw [if_neg h, if_neg h]
theorem cpyI {f g : Nat → Int32} {n : Nat} : va_cpy (fun i => Value.int (f i)) (fun i => Value.int (g i)) 0 0 n = fun i => .int (cpI f g n i) := cp_I
set_option maxRecDepth 100000 in
theorem t_X14_init {Δ : Cx} {h : Hp} (d : Nat) (rv rg : Nat) (hrv : ce Δ h rv = some (13, 0, ob [.null, .null, .null, .int 0, .int 0])) (hn : n0 Δ ≤ rv) (hx : h.1 = rv + 1) : mt Δ (d + 1) muX14_init [.ref rv, .ref rg] h (fun v h' => v = none ∧ Fr Δ (fun b => b = rv) 2 9 h h' ∧ ce Δ h' rv = some (13, 0, ob [.ref rg, .ref (rv + 1), .ref (rv + 2), .int 0, .int 0]) ∧ ce Δ h' (rv + 1) = some (100, 5, fun _ => .int 0) ∧ ce Δ h' (rv + 2) = some (100, 4, fun _ => .int 0)) := by
  have lrv := ce_lt hrv
  refine mt_of (lv0 := [(0, .ref rv), (1, .ref rg)]) rfl rfl (Nat.le_of_ble_eq_true rfl) rfl ?_
  refine g_aload_n dX14_init_0 0 rfl ?_
  refine g_objInit q1034 q162 q163 (Nat.le_of_ble_eq_true rfl) dX14_init_1 ?_
  refine g_aload_n dX14_init_4 0 rfl ?_
  refine g_iconst (x := 5) dX14_init_5 rfl ?_
  refine g_newa (atype := .int) (t := 0) (N := 5) (by decide) rfl q249 (by decide) (by decide) (by first | decide | (show _ * _ ≤ _; omega)) (by omega) dX14_init_6 (fun n24 => ?_)
  refine wp_new (Fr.refl (fun b => b = rv) _) n24 (fun u24 F24 z24 c24 k24 => ?_)
  refine gh_putF (f2 := ob [.null, .ref h.1, .null, .int 0, .int 0]) f_13_1 q1036 (k24 _ _ (hrv)) (by omega) rfl rfl dX14_init_8 rfl rfl (ob_u [.null, .null, .null, .int 0, .int 0] 1 (.ref h.1) (Nat.le_of_ble_eq_true rfl)) ?_
  refine wp_put F24 (fun q => by first | exact absurd q (by omega) | exact Or.inl rfl | exact Or.inr rfl | exact Or.inr (Or.inl rfl) | exact Or.inr (Or.inr rfl) | exact Or.inr ⟨rfl, by omega⟩ | exact rfl | (simp only []; omega)) (k24 _ _ (hrv)) (by omega) (fun u25 F25 z25 c25 k25 => ?_)
  refine g_aload_n dX14_init_11 0 rfl ?_
  refine g_iconst (x := 4) dX14_init_12 rfl ?_
  refine g_newa (atype := .int) (t := 0) (N := 4) (by decide) rfl q249 (by decide) (by decide) (by first | decide | (show _ * _ ≤ _; omega)) (by omega) dX14_init_13 (fun n26 => ?_)
  refine wp_new F25 n26 (fun u26 F26 z26 c26 k26 => ?_)
  refine gh_putF (f2 := ob [.null, .ref h.1, .ref u25.1, .int 0, .int 0]) f_13_2 q1038 (k26 _ _ (c25)) (by omega) rfl rfl dX14_init_15 rfl rfl (ob_u [.null, .ref h.1, .null, .int 0, .int 0] 2 (.ref u25.1) (Nat.le_of_ble_eq_true rfl)) ?_
  refine wp_put F26 (fun q => by first | exact absurd q (by omega) | exact Or.inl rfl | exact Or.inr rfl | exact Or.inr (Or.inl rfl) | exact Or.inr (Or.inr rfl) | exact Or.inr ⟨rfl, by omega⟩ | exact rfl | (simp only []; omega)) (k26 _ _ (c25)) (by omega) (fun u27 F27 z27 c27 k27 => ?_)
  refine g_aload_n dX14_init_18 0 rfl ?_
  refine g_aload_n dX14_init_19 1 rfl ?_
  refine gh_putF (f2 := ob [.ref rg, .ref h.1, .ref u25.1, .int 0, .int 0]) f_13_0 q1035 (c27) (by omega) rfl rfl dX14_init_20 rfl rfl (ob_u [.null, .ref h.1, .ref u25.1, .int 0, .int 0] 0 (.ref rg) (Nat.le_of_ble_eq_true rfl)) ?_
  refine wp_put F27 (fun q => by first | exact absurd q (by omega) | exact Or.inl rfl | exact Or.inr rfl | exact Or.inr (Or.inl rfl) | exact Or.inr (Or.inr rfl) | exact Or.inr ⟨rfl, by omega⟩ | exact rfl | (simp only []; omega)) (c27) (by omega) (fun u28 F28 z28 c28 k28 => ?_)
  refine g_vret rfl dX14_init_23 ?_
  rw [show rv + 1 = h.1 by omega, show rv + 2 = u25.1 by omega]
  exact ⟨rfl, F28, c28, k28 _ _ (k27 _ _ (k26 _ _ (k25 _ _ (c24) (by omega))) (by omega)) (by omega), k28 _ _ (k27 _ _ (c26) (by omega)) (by omega)⟩
set_option maxRecDepth 100000 in
theorem t_X14_takes {Δ : Cx} {h : Hp} (d : Nat) (rt rv rg : Nat) (l0 w0 : Int32) (th tl row : Nat → Int32) (ht : ce Δ h rt = some (13, 0, ob [.ref rg, .ref (rt + 1), .ref (rt + 2), .int l0, .int w0])) (ht1 : ce Δ h (rt + 1) = some (100, 5, fun i => .int (th i))) (ht2 : ce Δ h (rt + 2) = some (100, 4, fun i => .int (tl i))) (V : RVr (ce Δ h) rv rg row) (hn : n0 Δ ≤ rt) (hd : rv + 2 < rt ∨ rt + 2 < rv) : mt Δ (d + 1) muX14_takes [.ref rt, .ref rv] h (fun v h' => v = none ∧ Fr Δ (fun b => b = rt ∨ b = rt + 1 ∨ b = rt + 2) 0 0 h h' ∧ RVr (ce Δ h') rt rg row) := by
  obtain ⟨hf, lf, v0, v1, v2, v3, v4⟩ := V
  refine mt_of (lv0 := [(0, .ref rt), (1, .ref rv)]) rfl rfl (Nat.le_of_ble_eq_true rfl) rfl ?_
  refine g_aload_n dX14_takes_0 1 rfl ?_
  refine gh_get (x := .ref (rv + 1)) f_13_1 q1036 (v0) dX14_takes_1 rfl ?_
  refine g_iconst (x := 0) dX14_takes_4 rfl ?_
  refine g_aload_n dX14_takes_5 0 rfl ?_
  refine gh_get (x := .ref (rt + 1)) f_13_1 q1036 (ht) dX14_takes_6 rfl ?_
  refine g_iconst (x := 0) dX14_takes_9 rfl ?_
  refine g_iconst (x := 5) dX14_takes_10 rfl ?_
  refine g_copyP (t := 0) (SP := 0) (DP := 0) (N := 5) rfl (v1) (ht1) (by omega) rfl rfl rfl (by omega) (by omega) (fun i _ => ⟨_, rfl, rfl⟩) q1073 q461 q460 q140 (Nat.le_of_ble_eq_true rfl) dX14_takes_11 ?_
  rw [cpyI]
  refine wp_put (Fr.refl (fun b => b = rt ∨ b = rt + 1 ∨ b = rt + 2) _) (fun q => by first | exact absurd q (by omega) | exact Or.inl rfl | exact Or.inr rfl | exact Or.inr (Or.inl rfl) | exact Or.inr (Or.inr rfl) | exact Or.inr ⟨rfl, by omega⟩ | exact rfl | (simp only []; omega)) (ht1) (by omega) (fun u29 F29 z29 c29 k29 => ?_)
  refine g_aload_n dX14_takes_14 1 rfl ?_
  refine gh_get (x := .ref (rv + 2)) f_13_2 q1038 (k29 _ _ (v0) (by omega)) dX14_takes_15 rfl ?_
  refine g_iconst (x := 0) dX14_takes_18 rfl ?_
  refine g_aload_n dX14_takes_19 0 rfl ?_
  refine gh_get (x := .ref (rt + 2)) f_13_2 q1038 (k29 _ _ (ht) (by omega)) dX14_takes_20 rfl ?_
  refine g_iconst (x := 0) dX14_takes_23 rfl ?_
  refine g_iconst (x := 4) dX14_takes_24 rfl ?_
  refine g_copyP (t := 0) (SP := 0) (DP := 0) (N := 4) rfl (k29 _ _ (v2) (by omega)) (k29 _ _ (ht2) (by omega)) (by omega) rfl rfl rfl (by omega) (by omega) (fun i _ => ⟨_, rfl, rfl⟩) q1073 q461 q460 q140 (Nat.le_of_ble_eq_true rfl) dX14_takes_25 ?_
  rw [cpyI]
  refine wp_put F29 (fun q => by first | exact absurd q (by omega) | exact Or.inl rfl | exact Or.inr rfl | exact Or.inr (Or.inl rfl) | exact Or.inr (Or.inr rfl) | exact Or.inr ⟨rfl, by omega⟩ | exact rfl | (simp only []; omega)) (k29 _ _ (ht2) (by omega)) (by omega) (fun u30 F30 z30 c30 k30 => ?_)
  refine g_aload_n dX14_takes_28 0 rfl ?_
  refine g_aload_n dX14_takes_29 1 rfl ?_
  refine gh_get (x := .int (row 6)) f_13_3 q1040 (k30 _ _ (k29 _ _ (v0) (by omega)) (by omega)) dX14_takes_30 rfl ?_
  refine gh_put (f2 := ob [.ref rg, .ref (rt + 1), .ref (rt + 2), .int (row 6), .int w0]) f_13_3 q1040 (k30 _ _ (k29 _ _ (ht) (by omega)) (by omega)) (by omega) dX14_takes_33 rfl rfl (ob_u [.ref rg, .ref (rt + 1), .ref (rt + 2), .int l0, .int w0] 3 (.int (row 6)) (Nat.le_of_ble_eq_true rfl)) ?_
  refine wp_put F30 (fun q => by first | exact absurd q (by omega) | exact Or.inl rfl | exact Or.inr rfl | exact Or.inr (Or.inl rfl) | exact Or.inr (Or.inr rfl) | exact Or.inr ⟨rfl, by omega⟩ | exact rfl | (simp only []; omega)) (k30 _ _ (k29 _ _ (ht) (by omega)) (by omega)) (by omega) (fun u31 F31 z31 c31 k31 => ?_)
  refine g_aload_n dX14_takes_36 0 rfl ?_
  refine g_aload_n dX14_takes_37 1 rfl ?_
  refine gh_get (x := .int (row 7)) f_13_4 q1042 (k31 _ _ (k30 _ _ (k29 _ _ (v0) (by omega)) (by omega)) (by omega)) dX14_takes_38 rfl ?_
  refine gh_put (f2 := ob [.ref rg, .ref (rt + 1), .ref (rt + 2), .int (row 6), .int (row 7)]) f_13_4 q1042 (c31) (by omega) dX14_takes_41 rfl rfl (ob_u [.ref rg, .ref (rt + 1), .ref (rt + 2), .int (row 6), .int w0] 4 (.int (row 7)) (Nat.le_of_ble_eq_true rfl)) ?_
  refine wp_put F31 (fun q => by first | exact absurd q (by omega) | exact Or.inl rfl | exact Or.inr rfl | exact Or.inr (Or.inl rfl) | exact Or.inr (Or.inr rfl) | exact Or.inr ⟨rfl, by omega⟩ | exact rfl | (simp only []; omega)) (c31) (by omega) (fun u32 F32 z32 c32 k32 => ?_)
  refine g_vret rfl dX14_takes_44 ?_
  exact ⟨rfl, F32, _, _, c32, k32 _ _ (k31 _ _ (k30 _ _ (c29) (by omega)) (by omega)) (by omega), k32 _ _ (k31 _ _ (c30) (by omega)) (by omega), fun i hi => (if_pos hi).trans (v3 i hi), fun i hi => (if_pos hi).trans (v4 i hi)⟩
set_option maxRecDepth 100000 in
theorem t_X14_copy {Δ : Cx} {h : Hp} (d : Nat) (rv rg : Nat) (row : Nat → Int32) (V : RVr (ce Δ h) rv rg row) : mt Δ (d + 2) muX14_copy [.ref rv] h (fun v h' => v = some (.ref h.1) ∧ Fr Δ (fun _ => False) 3 14 h h' ∧ RVr (ce Δ h') h.1 rg row) := by
  obtain ⟨hf, lf, v0, v1, v2, v3, v4⟩ := V; have lv2 := ce_lt v2; have lv0 := ce_lt v0; have lv1 := ce_lt v1
  refine mt_of (lv0 := [(0, .ref rv)]) rfl rfl (Nat.le_of_ble_eq_true rfl) rfl ?_
  refine g_new (f := ob [.null, .null, .null, .int 0, .int 0]) k_13 df_13 q1067 q1030 q151 dX14_copy_0 (fun n33 => ?_)
  refine wp_new (Fr.refl (fun _ => False) _) n33 (fun u33 F33 z33 c33 k33 => ?_)
  refine g_dup dX14_copy_3 rfl ?_
  refine g_aload_n dX14_copy_4 0 rfl ?_
  refine gh_get (x := .ref rg) f_13_0 q1035 (k33 _ _ (v0)) dX14_copy_5 rfl ?_
  refine g_callI (t_X14_init _ (h.1) (rg) (c33) (by omega) (by omega)) (lw_meth q1033) rfl q151 q1068 q1032 rfl okX14_init rfl rfl (Nat.le_of_ble_eq_true rfl) dX14_copy_8 (fun v1 h34 _ _ hq => ?_)
  obtain ⟨rfl, G34, r34_1, r34_2, r34_3⟩ := hq
  have lr34 := ce_lt r34_3
  have F34 := F33.tr G34 (fun b hb q => absurd hb (by omega))
  show wp Δ (d + 2) muX14_copy 11 [(0, .ref rv)] [.ref h.1] h34 _
  refine g_astore_n (lv' := [(1, .ref h.1), (0, .ref rv)]) dX14_copy_11 (by decide) rfl ?_
  refine g_aload_n dX14_copy_12 0 rfl ?_
  refine g_aload_n dX14_copy_13 1 rfl ?_
  have V34 : RVr (ce Δ h34) rv rg row := ⟨hf, lf, G34.2 _ _ (k33 _ _ (v0)) (by omega), G34.2 _ _ (k33 _ _ (v1)) (by omega), G34.2 _ _ (k33 _ _ (v2)) (by omega), v3, v4⟩
  refine g_callV (t_X14_takes _ (h.1) rv rg 0 0 (fun _ => 0) (fun _ => 0) row r34_1 r34_2 r34_3 V34 (by omega) (by omega)) (lw_V q1069 q1070 q1071 q151 q1072) okX14_takes r34_1 rfl rfl rfl rfl (Nat.le_of_ble_eq_true rfl) dX14_copy_14 (fun v1 h1 _ _ hq => ?_)
  obtain ⟨rfl, G1, R1⟩ := hq
  show wp Δ (d + 2) muX14_copy 17 [(1, .ref h.1), (0, .ref rv)] [] h1 _
  refine g_aload_n dX14_copy_17 0 rfl ?_
  refine g_aret rfl (by first | exact Or.inl ⟨_, rfl⟩ | exact Or.inr ⟨_, rfl⟩) (by first | exact Or.inl rfl | exact Or.inr ⟨_, rfl⟩) dX14_copy_18 ?_
  exact ⟨rfl, (F34.tr G1 (fun b hb q => absurd hb (by omega))), R1⟩
