theorem cap2_p {c : Nat} (h : 0 < c) : cap2 c = c + max 1 (c / 2) := if_neg (by omega)
theorem cap2_0 {c : Nat} (h : c = 0) : cap2 c = 10 := if_pos h
theorem cap2_b {c : Nat} (h : c ≤ 16) : c < cap2 c ∧ cap2 c ≤ 24 := by
  unfold cap2
  split <;> omega
theorem upd_at {f : Nat → Value} {k : Nat} {x : Value} : updV f k x k = x := if_pos rfl
theorem upd_ne {f : Nat → Value} {k i : Nat} {x : Value} (h : i ≠ k) : updV f k x i = f i := if_neg h
theorem pre1 {n : Nat} : nI (n + 1) - nI n = 1 := (pk_sub (by omega)).trans (by rw [show n + 1 - n = 1 by omega]; rfl)
set_option maxRecDepth 100000 in
theorem t_J2_grow_2 {Δ : Cx} {h : Hp} {C : String} {tg nF : Nat} {TT : u_T} (d : Nat) {L E cap : Nat} {mc : Int32} {g : Nat → Value} (hL : ce Δ h L = some (14, 0, ob [.int mc, .ref E, .int (nI cap)])) (hE : ce Δ h E = some (103, cap, g)) (h16 : cap ≤ 16) (hLn : n0 Δ ≤ L) (hE0 : (0 < cap ∧ n0 Δ ≤ E) ∨ (cap = 0 ∧ E = cT Δ 99)) (hel : ∀ i, i < cap → ∃ (b n1 : Nat) (f1 : Nat → Value), g i = .ref b ∧ ce Δ h b = some (tg, n1, f1)) (hc : clz[tg]? = some (C, TT, nF)) (hw : Cond.castable C "java/lang/Object" ∈ lw_tbl) : mt Δ (d + 3) muJ2_grow_2 [.ref L, .int (nI (cap + 1))] h (fun v h' => v = some (.ref h.1) ∧ Fr Δ (fun b => b = L) 1 (cap2 cap) h h' ∧ ce Δ h' L = some (14, 0, ob [.int mc, .ref h.1, .int (nI cap)]) ∧ ∃ g', ce Δ h' h.1 = some (103, cap2 cap, g') ∧ ∀ i, i < cap → g' i = g i) := by
  have lL := ce_lt hL; have lE := ce_lt hE; have nLE : L ≠ E := ce_ne hL hE (Or.inl (by show 14 ≠ 103; omega))
  refine mt_of (lv0 := [(0, .ref L), (1, .int (nI (cap + 1)))]) rfl rfl (Nat.le_of_ble_eq_true rfl) rfl ?_
  refine g_aload_n dJ2_grow_2_0 0 rfl ?_
  refine gh_get (x := .ref E) f_14_1 q178 (hL) dJ2_grow_2_1 rfl ?_
  refine g_alen (t := 3) (hE) dJ2_grow_2_4 ?_
  refine g_istore_n (lv' := [(2, .int (nI cap)), (0, .ref L), (1, .int (nI (cap + 1)))]) dJ2_grow_2_5 (by decide) rfl ?_
  refine g_iload_n dJ2_grow_2_6 0 rfl ?_
  refine g_if_gt (tgt := 20) dJ2_grow_2_7 (by decide) (fun c_1 => ?_) (fun c_1 => ?_)
  ·
    have h7 : 0 < cap := Nat.pos_of_ne_zero (fun z => by rw [z] at c_1; exact absurd c_1 (by decide))
    have hEn := (hE0.resolve_right (fun z => by omega)).2
    refine g_iload_n dJ2_grow_2_20 0 rfl ?_
    refine g_iload_n dJ2_grow_2_21 2 rfl ?_
    refine g_iload_n dJ2_grow_2_22 0 rfl ?_
    refine g_isub dJ2_grow_2_23 ?_
    refine wp_top (z := .int 1) (congrArg Value.int (pre1)) ?_
    refine g_iload_n dJ2_grow_2_24 0 rfl ?_
    refine g_iconst (x := 1) dJ2_grow_2_25 rfl ?_
    refine g_ishr dJ2_grow_2_26 ?_
    refine wp_top (z := .int (nI (cap / 2))) (congrArg Value.int (shr1 ⟨cap, by omega⟩)) ?_
    refine g_callS (t_J7_newLength _ cap h7 (by omega)) (lw_S q816 q436 q137 q437) okJ7_newLength rfl rfl (Nat.le_of_ble_eq_true rfl) dJ2_grow_2_27 (fun v1 h1 _ _ hq => ?_)
    obtain ⟨rfl, hh⟩ := hq
    rw [hh]
    show wp Δ (d + 3) muJ2_grow_2 30 [(2, .int (nI cap)), (0, .ref L), (1, .int (nI (cap + 1)))] [.int (nI (cap + max 1 (cap / 2)))] h _
    refine g_istore_n (lv' := [(3, .int (nI (cap + max 1 (cap / 2)))), (2, .int (nI cap)), (0, .ref L), (1, .int (nI (cap + 1)))]) dJ2_grow_2_30 (by decide) rfl ?_
    refine g_aload_n dJ2_grow_2_31 2 rfl ?_
    refine g_aload_n dJ2_grow_2_32 2 rfl ?_
    refine gh_get (x := .ref E) f_14_1 q178 (hL) dJ2_grow_2_33 rfl ?_
    refine g_iload_n dJ2_grow_2_36 0 rfl ?_
    refine g_callS (t_J9_copyOf_2 _ (m := cap + max 1 (cap / 2)) hE hEn (by omega) (by omega) hel hc hw) (lw_S q817 q818 q139 q819) okJ9_copyOf_2 rfl rfl (Nat.le_of_ble_eq_true rfl) dJ2_grow_2_37 (fun v1 h1 _ _ hq => ?_)
    obtain ⟨rfl, F0, g1, c1, e1⟩ := hq
    have F1 : Fr Δ (fun b => b = L) 1 (cap + max 1 (cap / 2)) h h1 := F0.le (Nat.le_refl _) (Nat.le_refl _) (fun _ _ q => q.elim)
    have l1 := ce_lt c1
    have hL1 : ce Δ h1 L = some (14, 0, ob [.int mc, .ref E, .int (nI cap)]) := F0.2 _ _ hL (fun q => q)
    show wp Δ (d + 3) muJ2_grow_2 40 [(3, .int (nI (cap + max 1 (cap / 2)))), (2, .int (nI cap)), (0, .ref L), (1, .int (nI (cap + 1)))] [.ref h.1, .ref L] h1 _
    refine g_dup_x1 dJ2_grow_2_40 rfl rfl ?_
    refine gh_put (f2 := ob [.int mc, .ref h.1, .int (nI cap)]) f_14_1 q178 (hL1) (by omega) dJ2_grow_2_41 rfl rfl (ob_u [.int mc, .ref E, .int (nI cap)] 1 (.ref h.1) (Nat.le_of_ble_eq_true rfl)) ?_
    refine wp_put F1 (fun q => by first | exact absurd q (by omega) | exact Or.inl rfl | exact Or.inr rfl | exact Or.inr (Or.inl rfl) | exact Or.inr (Or.inr rfl) | exact Or.inr ⟨rfl, by omega⟩ | exact rfl | (simp only []; omega)) (hL1) (by omega) (fun u3 F3 z3 c3 k3 => ?_)
    refine g_aret rfl (by first | exact Or.inl ⟨_, rfl⟩ | exact Or.inr ⟨_, rfl⟩) (by first | exact Or.inl rfl | exact Or.inr ⟨_, rfl⟩) dJ2_grow_2_44 ?_
    exact ⟨rfl, by rw [cap2_p h7]; exact F3, c3, _, by rw [cap2_p h7]; exact k3 _ _ (c1) (by omega), e1⟩
  ·
    have h7 : cap = 0 := Nat.eq_zero_of_not_pos (fun z => c_1 ((nI_ltI (a := 0) (by decide) (by omega)).mpr z))
    obtain ⟨hz, hzE⟩ := hE0.resolve_left (fun z => by omega)
    refine g_aload_n dJ2_grow_2_10 1 rfl ?_
    refine gh_get (x := .ref E) f_14_1 q178 (hL) dJ2_grow_2_11 rfl ?_
    refine g_gtEM ⟨rfl, rfl, rfl⟩ q176 dJ2_grow_2_14 ?_
    refine gr_eq (tgt := 45) dJ2_grow_2_17 (by decide) (fun c_2 => ?_) (fun c_2 => ?_)
    ·
      refine g_aload_n dJ2_grow_2_45 1 rfl ?_
      refine g_bipush (x := 10) dJ2_grow_2_46 rfl ?_
      refine g_iload_n dJ2_grow_2_48 2 rfl ?_
      refine g_mmax q849 q439 q138 q440 (Nat.le_of_ble_eq_true rfl) dJ2_grow_2_49 ?_
      refine wp_top (z := .int 10) (congrArg Value.int (by rw [hz]; decide)) ?_
      refine g_anewa (N := 10) q850 (rfl) (by omega) dJ2_grow_2_52 (fun n4 => ?_)
      refine wp_new (Fr.refl (fun b => b = L) _) n4 (fun u4 F4 z4 c4 k4 => ?_)
      refine g_dup_x1 dJ2_grow_2_55 rfl rfl ?_
      refine gh_put (f2 := ob [.int mc, .ref h.1, .int (nI cap)]) f_14_1 q178 (k4 _ _ (hL)) (by omega) dJ2_grow_2_56 rfl rfl (ob_u [.int mc, .ref E, .int (nI cap)] 1 (.ref h.1) (Nat.le_of_ble_eq_true rfl)) ?_
      refine wp_put F4 (fun q => by first | exact absurd q (by omega) | exact Or.inl rfl | exact Or.inr rfl | exact Or.inr (Or.inl rfl) | exact Or.inr (Or.inr rfl) | exact Or.inr ⟨rfl, by omega⟩ | exact rfl | (simp only []; omega)) (k4 _ _ (hL)) (by omega) (fun u5 F5 z5 c5 k5 => ?_)
      refine g_aret rfl (by first | exact Or.inl ⟨_, rfl⟩ | exact Or.inr ⟨_, rfl⟩) (by first | exact Or.inl rfl | exact Or.inr ⟨_, rfl⟩) dJ2_grow_2_59 ?_
      exact ⟨rfl, by rw [cap2_0 hz]; exact F5.le (by omega) (by omega) (fun _ _ q => q), c5, _, by rw [cap2_0 hz]; exact k5 _ _ (c4) (by omega), fun i hi => absurd hi (by omega)⟩
    · exfalso; exact absurd hzE (by assumption)
set_option maxRecDepth 100000 in
theorem t_J2_grow {Δ : Cx} {h : Hp} {C : String} {tg nF : Nat} {TT : u_T} (d : Nat) {L E cap : Nat} {mc : Int32} {g : Nat → Value} (hL : ce Δ h L = some (14, 0, ob [.int mc, .ref E, .int (nI cap)])) (hE : ce Δ h E = some (103, cap, g)) (h16 : cap ≤ 16) (hLn : n0 Δ ≤ L) (hE0 : (0 < cap ∧ n0 Δ ≤ E) ∨ (cap = 0 ∧ E = cT Δ 99)) (hel : ∀ i, i < cap → ∃ (b n1 : Nat) (f1 : Nat → Value), g i = .ref b ∧ ce Δ h b = some (tg, n1, f1)) (hc : clz[tg]? = some (C, TT, nF)) (hw : Cond.castable C "java/lang/Object" ∈ lw_tbl) : mt Δ (d + 4) muJ2_grow [.ref L] h (fun v h' => v = some (.ref h.1) ∧ Fr Δ (fun b => b = L) 1 (cap2 cap) h h' ∧ ce Δ h' L = some (14, 0, ob [.int mc, .ref h.1, .int (nI cap)]) ∧ ∃ g', ce Δ h' h.1 = some (103, cap2 cap, g') ∧ ∀ i, i < cap → g' i = g i) := by
  refine mt_of (lv0 := [(0, .ref L)]) rfl rfl (Nat.le_of_ble_eq_true rfl) rfl ?_
  refine g_aload_n dJ2_grow_0 0 rfl ?_
  refine g_aload_n dJ2_grow_1 0 rfl ?_
  refine gh_get (x := .int (nI cap)) f_14_2 q179 (hL) dJ2_grow_2 rfl ?_
  refine g_iconst (x := 1) dJ2_grow_5 rfl ?_
  refine g_iadd dJ2_grow_6 ?_
  refine wp_top (z := .int (nI (cap + 1))) (congrArg Value.int (nI_add _ 1)) ?_
  refine g_callV (t_J2_grow_2 _ (hL) (hE) h16 hLn hE0 hel hc hw) (lw_V q812 q814 qs16 q127 q815) okJ2_grow_2 (hL) rfl rfl rfl rfl (Nat.le_of_ble_eq_true rfl) dJ2_grow_7 (fun v1 h1 _ _ hq => ?_)
  obtain ⟨rfl, F6, cL6, gg, cE6, ge⟩ := hq
  show wp Δ (d + 4) muJ2_grow 10 [(0, .ref L)] [.ref h.1] h1 _
  have lN := ce_lt cE6
  refine g_aret rfl (by first | exact Or.inl ⟨_, rfl⟩ | exact Or.inr ⟨_, rfl⟩) (by first | exact Or.inl rfl | exact Or.inr ⟨_, rfl⟩) dJ2_grow_10 ?_
  exact ⟨rfl, F6, cL6, gg, cE6, ge⟩
set_option maxRecDepth 100000 in
theorem t_J2_add_2 {Δ : Cx} {h : Hp} {C : String} {tg nF : Nat} {TT : u_T} (d : Nat) {L E cap n a : Nat} {mc : Int32} {g : Nat → Value} (hL : ce Δ h L = some (14, 0, ob [.int mc, .ref E, .int (nI n)])) (hE : ce Δ h E = some (103, cap, g)) (hn : n ≤ cap) (h16 : n = cap → cap ≤ 16) (h22 : cap ≤ 22) (hLn : n0 Δ ≤ L) (hE0 : (0 < cap ∧ n0 Δ ≤ E) ∨ (cap = 0 ∧ E = cT Δ 99)) (hel : n = cap → ∀ i, i < n → ∃ (b n1 : Nat) (f1 : Nat → Value), g i = .ref b ∧ ce Δ h b = some (tg, n1, f1)) (hc : clz[tg]? = some (C, TT, nF)) (hw : Cond.castable C "java/lang/Object" ∈ lw_tbl) {Ca : String} {ta na Na : Nat} {Ta : u_T} {fa : Nat → Value} (ha : ce Δ h a = some (ta, na, fa)) (hca : clz[ta]? = some (Ca, Ta, Na)) (hwa : Cond.castable Ca "java/lang/Object" ∈ lw_tbl) (haL : a ≠ L) (haE : a ≠ E) : mt Δ (d + 5) muJ2_add_2 [.ref L, .ref a, .ref E, .int (nI n)] h (fun v h' => v = none ∧ ∃ (E' cap' : Nat) (g' : Nat → Value), Fr Δ (fun b => b = L ∨ (b = E ∧ n < cap)) 1 24 h h' ∧ ce Δ h' L = some (14, 0, ob [.int mc, .ref E', .int (nI (n + 1))]) ∧ ce Δ h' E' = some (103, cap', g') ∧ (∀ i, i < n → g' i = g i) ∧ g' n = .ref a ∧ n < cap' ∧ cap' ≤ 24 ∧ n0 Δ ≤ E' ∧ (E' = E ∧ cap' = cap ∧ n < cap ∨ E' = h.1 ∧ cap' = cap2 cap ∧ n = cap)) := by
  have lL := ce_lt hL; have lE := ce_lt hE; have la := ce_lt ha; have nLE : L ≠ E := ce_ne hL hE (Or.inl (by show 14 ≠ 103; omega))
  refine mt_of (lv0 := [(0, .ref L), (1, .ref a), (2, .ref E), (3, .int (nI n))]) rfl rfl (Nat.le_of_ble_eq_true rfl) rfl ?_
  refine g_iload_n dJ2_add_2_0 3 rfl ?_
  refine g_aload_n dJ2_add_2_1 2 rfl ?_
  refine g_alen (t := 3) (hE) dJ2_add_2_2 ?_
  refine gn_ne (tgt := 11) (a := n) (b := cap) dJ2_add_2_3 (by decide) (rfl) (rfl) (by omega) (by omega) (fun c_1 => ?_) (fun c_1 => ?_)
  ·
    have hnc : ¬ n = cap := c_1
    have hEn := (hE0.resolve_right (fun z => by omega)).2
    refine g_aload_n dJ2_add_2_11 2 rfl ?_
    refine g_iload_n dJ2_add_2_12 3 rfl ?_
    refine g_aload_n dJ2_add_2_13 1 rfl ?_
    refine gh_aast (j := n) (hE) (by omega) (ha) hca hwa (rfl) (by omega) (by omega) dJ2_add_2_14 ?_
    refine wp_put (Fr.refl (fun b => b = L ∨ (b = E ∧ n < cap)) _) (fun q => by first | exact absurd q (by omega) | exact Or.inl rfl | exact Or.inr rfl | exact Or.inr (Or.inl rfl) | exact Or.inr (Or.inr rfl) | exact Or.inr ⟨rfl, by omega⟩ | exact rfl | (simp only []; omega)) (hE) (by omega) (fun u7 F7 z7 c7 k7 => ?_)
    refine g_aload_n dJ2_add_2_15 0 rfl ?_
    refine g_iload_n dJ2_add_2_16 3 rfl ?_
    refine g_iconst (x := 1) dJ2_add_2_17 rfl ?_
    refine g_iadd dJ2_add_2_18 ?_
    refine wp_top (z := .int (nI (n + 1))) (congrArg Value.int (nI_add n 1)) ?_
    refine gh_put (f2 := ob [.int mc, .ref E, .int (nI (n + 1))]) f_14_2 q179 (k7 _ _ (hL) (by omega)) (by omega) dJ2_add_2_19 rfl rfl (ob_u [.int mc, .ref E, .int (nI n)] 2 (.int (nI (n + 1))) (Nat.le_of_ble_eq_true rfl)) ?_
    refine wp_put F7 (fun q => by first | exact absurd q (by omega) | exact Or.inl rfl | exact Or.inr rfl | exact Or.inr (Or.inl rfl) | exact Or.inr (Or.inr rfl) | exact Or.inr ⟨rfl, by omega⟩ | exact rfl | (simp only []; omega)) (k7 _ _ (hL) (by omega)) (by omega) (fun u8 F8 z8 c8 k8 => ?_)
    refine g_vret rfl dJ2_add_2_22 ?_
    exact ⟨rfl, _, _, _, F8.le (by omega) (by omega) (fun _ _ q => q), c8, k8 _ _ (c7) (by omega), fun i hi => (upd_ne (by omega)).trans rfl, upd_at, by omega, by omega, by omega, by omega⟩
  ·
    have hnc : n = cap := c_1
    have hb2 := cap2_b (h16 hnc)
    have hel := hel hnc
    refine g_aload_n dJ2_add_2_6 0 rfl ?_
    refine g_callV (t_J2_grow _ (by rw [← hnc]; exact hL) (hE) (by omega) hLn hE0 (by rw [← hnc]; exact hel) hc hw) (lw_V q808 q810 qs15 q127 q811) okJ2_grow (hL) rfl rfl rfl rfl (Nat.le_of_ble_eq_true rfl) dJ2_add_2_7 (fun v1 h1 _ _ hq => ?_)
    obtain ⟨rfl, F9, cL9, gg, cE9, ge⟩ := hq
    show wp Δ (d + 5) muJ2_add_2 10 [(0, .ref L), (1, .ref a), (2, .ref E), (3, .int (nI n))] [.ref h.1] h1 _
    have lN := ce_lt cE9
    have F5009 : Fr Δ (fun b => b = L ∨ (b = E ∧ n < cap)) 1 (cap2 cap) h h1 := F9.le (Nat.le_refl _) (Nat.le_refl _) (fun _ _ q => Or.inl q)
    refine g_astore_n (lv' := [(2, .ref h.1), (0, .ref L), (1, .ref a), (3, .int (nI n))]) dJ2_add_2_10 (by decide) rfl ?_
    refine g_aload_n dJ2_add_2_11 0 rfl ?_
    refine g_iload_n dJ2_add_2_12 3 rfl ?_
    refine g_aload_n dJ2_add_2_13 2 rfl ?_
    refine gh_aast (j := n) (cE9) (by omega) (F9.2 _ _ (ha) (by first | omega | exact fun q => absurd q (by omega))) hca hwa (rfl) (by omega) (by omega) dJ2_add_2_14 ?_
    refine wp_put F5009 (fun q => by first | exact absurd q (by omega) | exact Or.inl rfl | exact Or.inr rfl | exact Or.inr (Or.inl rfl) | exact Or.inr (Or.inr rfl) | exact Or.inr ⟨rfl, by omega⟩ | exact rfl | (simp only []; omega)) (cE9) (by omega) (fun u10 F10 z10 c10 k10 => ?_)
    refine g_aload_n dJ2_add_2_15 1 rfl ?_
    refine g_iload_n dJ2_add_2_16 3 rfl ?_
    refine g_iconst (x := 1) dJ2_add_2_17 rfl ?_
    refine g_iadd dJ2_add_2_18 ?_
    refine wp_top (z := .int (nI (n + 1))) (congrArg Value.int (nI_add n 1)) ?_
    refine gh_put (f2 := ob [.int mc, .ref h.1, .int (nI (n + 1))]) f_14_2 q179 (k10 _ _ (cL9) (by omega)) (by omega) dJ2_add_2_19 rfl rfl (ob_u [.int mc, .ref h.1, .int (nI cap)] 2 (.int (nI (n + 1))) (Nat.le_of_ble_eq_true rfl)) ?_
    refine wp_put F10 (fun q => by first | exact absurd q (by omega) | exact Or.inl rfl | exact Or.inr rfl | exact Or.inr (Or.inl rfl) | exact Or.inr (Or.inr rfl) | exact Or.inr ⟨rfl, by omega⟩ | exact rfl | (simp only []; omega)) (k10 _ _ (cL9) (by omega)) (by omega) (fun u11 F11 z11 c11 k11 => ?_)
    refine g_vret rfl dJ2_add_2_22 ?_
    exact ⟨rfl, _, _, _, F11.le (by omega) (by omega) (fun _ _ q => q), c11, k11 _ _ (c10) (by omega), fun i hi => (upd_ne (by omega)).trans (ge i (by omega)), upd_at, by omega, by omega, by omega, by omega⟩
