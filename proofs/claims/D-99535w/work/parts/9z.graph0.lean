theorem df_4 : ∀ k, k < 12 → defaultValue (tyX5 k) = ob [.int 0, .int 0, .int 0, .int 0, .int 0, .int 0, .int 0, .null, .null, .null, .null, .null] k := by
  intro k hk
  rcases k with _ | _ | _ | _ | _ | _ | _ | _ | _ | _ | _ | _ | k <;> first | rfl | omega
theorem df_2 : ∀ k, k < 5 → defaultValue (tyX3 k) = ob [.null, .null, .null, .int 0, .int 0] k := by
  intro k hk
  rcases k with _ | _ | _ | _ | _ | k <;> first | rfl | omega
theorem df_3 : ∀ k, k < 3 → defaultValue (tyX4 k) = ob [.null, .int 0, .int 0] k := by
  intro k hk
  rcases k with _ | _ | _ | k <;> first | rfl | omega
set_option maxRecDepth 100000 in
theorem t_X5_init {Δ : Cx} {h : Hp} (d : Nat) (o : Nat) (ho : ce Δ h o = some (4, 0, ob [.int 0, .int 0, .int 0, .int 0, .int 0, .int 0, .int 0, .null, .null, .null, .null, .null])) (hn : n0 Δ ≤ o) (hx : h.1 = o + 1) : mt Δ (d + 5) muX5_init [.ref o] h (fun v h' => v = none ∧ Fr Δ (fun b => b = o) 5 16 h h' ∧ ce Δ h' o = some (4, 0, ob [.int 0, .int 0, .int 0, .int 0, .int 0, .int 0, .int 0, .ref (o + 1), .ref (o + 2), .ref (o + 3), .ref (o + 4), .ref (o + 5)]) ∧ ce Δ h' (o + 1) = some (100, 4, fun _ => .int 0) ∧ ce Δ h' (o + 2) = some (14, 0, ob [.int 0, .ref (cT Δ 99), .int 0]) ∧ ce Δ h' (o + 3) = some (14, 0, ob [.int 0, .ref (cT Δ 99), .int 0]) ∧ ce Δ h' (o + 4) = some (14, 0, ob [.int 0, .ref (cT Δ 99), .int 0]) ∧ ce Δ h' (o + 5) = some (14, 0, ob [.int 0, .ref (cT Δ 99), .int 0])) := by
  refine mt_of (lv0 := [(0, .ref o)]) rfl rfl (Nat.le_of_ble_eq_true rfl) rfl ?_
  refine g_aload_n dX5_init_0 0 rfl ?_
  refine g_objInit q292 q162 q163 (Nat.le_of_ble_eq_true rfl) dX5_init_1 ?_
  refine g_aload_n dX5_init_4 0 rfl ?_
  refine g_iconst (x := 4) dX5_init_5 rfl ?_
  refine g_newa (atype := .int) (t := 0) (N := 4) (by decide) rfl q249 (by decide) (by decide) (by first | decide | (show _ * _ ≤ _; omega)) (by omega) dX5_init_6 (fun n366 => ?_)
  refine wp_new (Fr.refl (fun b => b = o) _) n366 (fun u366 F366 z366 c366 k366 => ?_)
  refine gh_putF (f2 := ob [.int 0, .int 0, .int 0, .int 0, .int 0, .int 0, .int 0, .ref h.1, .null, .null, .null, .null]) f_4_7 q313 (k366 _ _ (ho)) (by omega) rfl rfl dX5_init_8 rfl rfl (ob_u [.int 0, .int 0, .int 0, .int 0, .int 0, .int 0, .int 0, .null, .null, .null, .null, .null] 7 (.ref h.1) (Nat.le_of_ble_eq_true rfl)) ?_
  refine wp_put F366 (fun q => by first | exact absurd q (by omega) | exact Or.inl rfl | exact Or.inr rfl | exact Or.inr (Or.inl rfl) | exact Or.inr (Or.inr rfl) | exact Or.inr ⟨rfl, by omega⟩ | exact rfl | (simp only []; omega)) (k366 _ _ (ho)) (by omega) (fun u367 F367 z367 c367 k367 => ?_)
  refine g_aload_n dX5_init_11 0 rfl ?_
  refine g_new (f := ob [.int 0, .null, .int 0]) k_14 df_14 q293 q165 q127 dX5_init_12 (fun n368 => ?_)
  refine wp_new F367 n368 (fun u368 F368 z368 c368 k368 => ?_)
  refine g_dup dX5_init_15 rfl ?_
  refine g_callI (t_J2_init _ (u367.1) (c368) (by omega)) (lw_meth q168) rfl q127 q294 q167 rfl okJ2_init rfl rfl (Nat.le_of_ble_eq_true rfl) dX5_init_16 (fun v1 h369 _ _ hq => ?_)
  obtain ⟨rfl, G369, r369⟩ := hq
  have zz369 := G369.1
  have F369 := F368.tr G369 (fun b hb q => absurd hb (by first | omega | (have q : b = _ := q; omega)))
  show wp Δ (d + 5) muX5_init 19 [(0, .ref o)] [.ref u367.1, .ref o] h369 _
  refine gh_putF (f2 := ob [.int 0, .int 0, .int 0, .int 0, .int 0, .int 0, .int 0, .ref h.1, .ref u367.1, .null, .null, .null]) f_4_8 q316 (G369.2 _ _ (k368 _ _ (c367)) (fun q => by have q : _ = u367.1 := q; omega)) (by omega) rfl rfl dX5_init_19 rfl rfl (ob_u [.int 0, .int 0, .int 0, .int 0, .int 0, .int 0, .int 0, .ref h.1, .null, .null, .null, .null] 8 (.ref u367.1) (Nat.le_of_ble_eq_true rfl)) ?_
  refine wp_put F369 (fun q => by first | exact absurd q (by omega) | exact Or.inl rfl | exact Or.inr rfl | exact Or.inr (Or.inl rfl) | exact Or.inr (Or.inr rfl) | exact Or.inr ⟨rfl, by omega⟩ | exact rfl | (simp only []; omega)) (G369.2 _ _ (k368 _ _ (c367)) (fun q => by have q : _ = u367.1 := q; omega)) (by omega) (fun u370 F370 z370 c370 k370 => ?_)
  refine g_aload_n dX5_init_22 0 rfl ?_
  refine g_new (f := ob [.int 0, .null, .int 0]) k_14 df_14 q293 q165 q127 dX5_init_23 (fun n371 => ?_)
  refine wp_new F370 n371 (fun u371 F371 z371 c371 k371 => ?_)
  refine g_dup dX5_init_26 rfl ?_
  refine g_callI (t_J2_init _ (u370.1) (c371) (by omega)) (lw_meth q168) rfl q127 q294 q167 rfl okJ2_init rfl rfl (Nat.le_of_ble_eq_true rfl) dX5_init_27 (fun v1 h372 _ _ hq => ?_)
  obtain ⟨rfl, G372, r372⟩ := hq
  have zz372 := G372.1
  have F372 := F371.tr G372 (fun b hb q => absurd hb (by first | omega | (have q : b = _ := q; omega)))
  show wp Δ (d + 5) muX5_init 30 [(0, .ref o)] [.ref u370.1, .ref o] h372 _
  refine gh_putF (f2 := ob [.int 0, .int 0, .int 0, .int 0, .int 0, .int 0, .int 0, .ref h.1, .ref u367.1, .ref u370.1, .null, .null]) f_4_9 q320 (G372.2 _ _ (k371 _ _ (c370)) (fun q => by have q : _ = u370.1 := q; omega)) (by omega) rfl rfl dX5_init_30 rfl rfl (ob_u [.int 0, .int 0, .int 0, .int 0, .int 0, .int 0, .int 0, .ref h.1, .ref u367.1, .null, .null, .null] 9 (.ref u370.1) (Nat.le_of_ble_eq_true rfl)) ?_
  refine wp_put F372 (fun q => by first | exact absurd q (by omega) | exact Or.inl rfl | exact Or.inr rfl | exact Or.inr (Or.inl rfl) | exact Or.inr (Or.inr rfl) | exact Or.inr ⟨rfl, by omega⟩ | exact rfl | (simp only []; omega)) (G372.2 _ _ (k371 _ _ (c370)) (fun q => by have q : _ = u370.1 := q; omega)) (by omega) (fun u373 F373 z373 c373 k373 => ?_)
  refine g_aload_n dX5_init_33 0 rfl ?_
  refine g_new (f := ob [.int 0, .null, .int 0]) k_14 df_14 q293 q165 q127 dX5_init_34 (fun n374 => ?_)
  refine wp_new F373 n374 (fun u374 F374 z374 c374 k374 => ?_)
  refine g_dup dX5_init_37 rfl ?_
  refine g_callI (t_J2_init _ (u373.1) (c374) (by omega)) (lw_meth q168) rfl q127 q294 q167 rfl okJ2_init rfl rfl (Nat.le_of_ble_eq_true rfl) dX5_init_38 (fun v1 h375 _ _ hq => ?_)
  obtain ⟨rfl, G375, r375⟩ := hq
  have zz375 := G375.1
  have F375 := F374.tr G375 (fun b hb q => absurd hb (by first | omega | (have q : b = _ := q; omega)))
  show wp Δ (d + 5) muX5_init 41 [(0, .ref o)] [.ref u373.1, .ref o] h375 _
  refine gh_putF (f2 := ob [.int 0, .int 0, .int 0, .int 0, .int 0, .int 0, .int 0, .ref h.1, .ref u367.1, .ref u370.1, .ref u373.1, .null]) f_4_10 q324 (G375.2 _ _ (k374 _ _ (c373)) (fun q => by have q : _ = u373.1 := q; omega)) (by omega) rfl rfl dX5_init_41 rfl rfl (ob_u [.int 0, .int 0, .int 0, .int 0, .int 0, .int 0, .int 0, .ref h.1, .ref u367.1, .ref u370.1, .null, .null] 10 (.ref u373.1) (Nat.le_of_ble_eq_true rfl)) ?_
  refine wp_put F375 (fun q => by first | exact absurd q (by omega) | exact Or.inl rfl | exact Or.inr rfl | exact Or.inr (Or.inl rfl) | exact Or.inr (Or.inr rfl) | exact Or.inr ⟨rfl, by omega⟩ | exact rfl | (simp only []; omega)) (G375.2 _ _ (k374 _ _ (c373)) (fun q => by have q : _ = u373.1 := q; omega)) (by omega) (fun u376 F376 z376 c376 k376 => ?_)
  refine g_aload_n dX5_init_44 0 rfl ?_
  refine g_new (f := ob [.int 0, .null, .int 0]) k_14 df_14 q293 q165 q127 dX5_init_45 (fun n377 => ?_)
  refine wp_new F376 n377 (fun u377 F377 z377 c377 k377 => ?_)
  refine g_dup dX5_init_48 rfl ?_
  refine g_callI (t_J2_init _ (u376.1) (c377) (by omega)) (lw_meth q168) rfl q127 q294 q167 rfl okJ2_init rfl rfl (Nat.le_of_ble_eq_true rfl) dX5_init_49 (fun v1 h378 _ _ hq => ?_)
  obtain ⟨rfl, G378, r378⟩ := hq
  have zz378 := G378.1
  have F378 := F377.tr G378 (fun b hb q => absurd hb (by first | omega | (have q : b = _ := q; omega)))
  show wp Δ (d + 5) muX5_init 52 [(0, .ref o)] [.ref u376.1, .ref o] h378 _
  refine gh_putF (f2 := ob [.int 0, .int 0, .int 0, .int 0, .int 0, .int 0, .int 0, .ref h.1, .ref u367.1, .ref u370.1, .ref u373.1, .ref u376.1]) f_4_11 q328 (G378.2 _ _ (k377 _ _ (c376)) (fun q => by have q : _ = u376.1 := q; omega)) (by omega) rfl rfl dX5_init_52 rfl rfl (ob_u [.int 0, .int 0, .int 0, .int 0, .int 0, .int 0, .int 0, .ref h.1, .ref u367.1, .ref u370.1, .ref u373.1, .null] 11 (.ref u376.1) (Nat.le_of_ble_eq_true rfl)) ?_
  refine wp_put F378 (fun q => by first | exact absurd q (by omega) | exact Or.inl rfl | exact Or.inr rfl | exact Or.inr (Or.inl rfl) | exact Or.inr (Or.inr rfl) | exact Or.inr ⟨rfl, by omega⟩ | exact rfl | (simp only []; omega)) (G378.2 _ _ (k377 _ _ (c376)) (fun q => by have q : _ = u376.1 := q; omega)) (by omega) (fun u379 F379 z379 c379 k379 => ?_)
  refine g_vret rfl dX5_init_55 ?_
  have q1 : h.1 = o + 1 := by omega
  have q2 : u367.1 = o + 2 := by omega
  have q3 : u370.1 = o + 3 := by omega
  have q4 : u373.1 = o + 4 := by omega
  have q5 : u376.1 = o + 5 := by omega
  have e0 := c379
  have e1 := k379 _ _ (G378.2 _ _ (k377 _ _ (k376 _ _ (G375.2 _ _ (k374 _ _ (k373 _ _ (G372.2 _ _ (k371 _ _ (k370 _ _ (G369.2 _ _ (k368 _ _ (k367 _ _ (c366) (by omega))) (fun q => by have q : _ = u367.1 := q; omega)) (by omega))) (fun q => by have q : _ = u370.1 := q; omega)) (by omega))) (fun q => by have q : _ = u373.1 := q; omega)) (by omega))) (fun q => by have q : _ = u376.1 := q; omega)) (by omega)
  have e2 := k379 _ _ (G378.2 _ _ (k377 _ _ (k376 _ _ (G375.2 _ _ (k374 _ _ (k373 _ _ (G372.2 _ _ (k371 _ _ (k370 _ _ (r369) (by omega))) (fun q => by have q : _ = u370.1 := q; omega)) (by omega))) (fun q => by have q : _ = u373.1 := q; omega)) (by omega))) (fun q => by have q : _ = u376.1 := q; omega)) (by omega)
  have e3 := k379 _ _ (G378.2 _ _ (k377 _ _ (k376 _ _ (G375.2 _ _ (k374 _ _ (k373 _ _ (r372) (by omega))) (fun q => by have q : _ = u373.1 := q; omega)) (by omega))) (fun q => by have q : _ = u376.1 := q; omega)) (by omega)
  have e4 := k379 _ _ (G378.2 _ _ (k377 _ _ (k376 _ _ (r375) (by omega))) (fun q => by have q : _ = u376.1 := q; omega)) (by omega)
  have e5 := k379 _ _ (r378) (by omega)
  rw [q1, q2, q3, q4, q5] at e0
  rw [q1] at e1
  rw [q2] at e2
  rw [q3] at e3
  rw [q4] at e4
  rw [q5] at e5
  exact ⟨rfl, F379, e0, e1, e2, e3, e4, e5⟩
