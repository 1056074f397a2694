def cap2 (c : Nat) : Nat := if c = 0 then 10 else c + max 1 (c / 2)
theorem shr1 : ∀ c : Fin 32, nI c.val >>> ((1 : Int32) &&& 31) = nI (c.val / 2) := by decide +kernel
theorem mx1 : ∀ c : Fin 32, (if (1 : Int32) < nI (c.val / 2) then nI (c.val / 2) else 1) = nI (max 1 (c.val / 2)) := by decide +kernel
theorem cpy_lt {f g : Nat → Value} {n i : Nat} (h : i < n) : va_cpy f g 0 0 n i = f i := by
  unfold va_cpy
  rw [if_pos ⟨by omega, by omega⟩, Nat.sub_zero, Nat.zero_add]
theorem mn_le {a b : Nat} (h : a ≤ b) (hb : b < 2 ^ 31) : (if nI b < nI a then nI b else nI a) = nI a := if_neg (nI_nlt h hb)
set_option maxRecDepth 100000 in
theorem t_J7_newLength {Δ : Cx} {h : Hp} (d : Nat) (c : Nat) (hc : 0 < c) (h16 : c < 32) : mt Δ (d + 1) muJ7_newLength [.int (nI c), .int 1, .int (nI (c / 2))] h (fun v h' => v = some (.int (nI (c + max 1 (c / 2)))) ∧ h' = h) := by
  refine mt_of (lv0 := [(0, .int (nI c)), (1, .int 1), (2, .int (nI (c / 2)))]) rfl rfl (Nat.le_of_ble_eq_true rfl) rfl ?_
  refine g_iload_n dJ7_newLength_0 0 rfl ?_
  refine g_iload_n dJ7_newLength_1 1 rfl ?_
  refine g_iload_n dJ7_newLength_2 2 rfl ?_
  refine g_mmax q438 q439 q138 q440 (Nat.le_of_ble_eq_true rfl) dJ7_newLength_3 ?_
  refine wp_top (z := .int (nI (max 1 (c / 2)))) (congrArg Value.int (mx1 ⟨c, h16⟩)) ?_
  refine g_iadd dJ7_newLength_6 ?_
  refine wp_top (z := .int (nI (c + max 1 (c / 2)))) (congrArg Value.int (nI_add _ _)) ?_
  refine g_istore_n (lv' := [(3, .int (nI (c + max 1 (c / 2)))), (0, .int (nI c)), (1, .int 1), (2, .int (nI (c / 2)))]) dJ7_newLength_7 (by decide) rfl ?_
  refine g_iconst (x := 0) dJ7_newLength_8 rfl ?_
  refine g_iload_n dJ7_newLength_9 0 rfl ?_
  refine gn_ge (tgt := 21) (a := 0) (b := c + max 1 (c / 2)) dJ7_newLength_10 (by decide) (rfl) (rfl) (by omega) (by omega) (fun c_1 => ?_) (fun c_1 => ?_)
  · exact absurd c_1 (by omega)
  ·
    refine g_iload_n dJ7_newLength_13 0 rfl ?_
    refine g_ldc dJ7_newLength_14 q441 ?_
    refine gn_gt (tgt := 21) (a := c + max 1 (c / 2)) (b := 2147483639) dJ7_newLength_16 (by decide) (rfl) (rfl) (by omega) (by omega) (fun c_2 => ?_) (fun c_2 => ?_)
    · exact absurd c_2 (by omega)
    ·
      refine g_iload_n dJ7_newLength_19 0 rfl ?_
      refine g_iret rfl dJ7_newLength_20 ?_
      exact ⟨rfl, rfl⟩
set_option maxRecDepth 100000 in
theorem t_J9_copyOf_3 {Δ : Cx} {h : Hp} {C : String} {tg nF : Nat} {TT : u_T} (d : Nat) {cap m E : Nat} {g : Nat → Value} (hE : ce Δ h E = some (103, cap, g)) (hm : cap ≤ m) (hm2 : m < 1000) (hel : ∀ i, i < cap → ∃ (b n1 : Nat) (f1 : Nat → Value), g i = .ref b ∧ ce Δ h b = some (tg, n1, f1)) (hc : clz[tg]? = some (C, TT, nF)) (hw : Cond.castable C "java/lang/Object" ∈ lw_tbl) : mt Δ (d + 1) muJ9_copyOf_3 [.ref E, .int (nI m), .ref (cT Δ 98)] h (fun v h' => v = some (.ref h.1) ∧ Fr Δ (fun _ => False) 1 m h h' ∧ ∃ g', ce Δ h' h.1 = some (103, m, g') ∧ ∀ i, i < cap → g' i = g i) := by
  have lE := ce_lt hE
  refine mt_of (lv0 := [(0, .ref E), (1, .int (nI m)), (2, .ref (cT Δ 98))]) rfl rfl (Nat.le_of_ble_eq_true rfl) rfl ?_
  refine g_aload_n dJ9_copyOf_3_0 2 rfl ?_
  refine g_ldcM q846 dJ9_copyOf_3_1 ?_
  refine gr_ne (tgt := 13) dJ9_copyOf_3_3 (by decide) (fun c_1 => ?_) (fun c_1 => ?_)
  · exfalso; exact absurd rfl (by assumption)
  ·
    refine g_iload_n dJ9_copyOf_3_6 1 rfl ?_
    refine g_anewa (N := m) q848 (rfl) (by omega) dJ9_copyOf_3_7 (fun n1 => ?_)
    refine wp_new (Fr.refl (fun _ => False) _) n1 (fun u1 F1 z1 c1 k1 => ?_)
    refine g_goto (tgt := 24) dJ9_copyOf_3_10 (by decide) ?_
    refine g_astore_n (lv' := [(3, .ref h.1), (0, .ref E), (1, .int (nI m)), (2, .ref (cT Δ 98))]) dJ9_copyOf_3_24 (by decide) rfl ?_
    refine g_aload_n dJ9_copyOf_3_25 1 rfl ?_
    refine g_iconst (x := 0) dJ9_copyOf_3_26 rfl ?_
    refine g_aload_n dJ9_copyOf_3_27 0 rfl ?_
    refine g_iconst (x := 0) dJ9_copyOf_3_28 rfl ?_
    refine g_aload_n dJ9_copyOf_3_29 1 rfl ?_
    refine g_alen (t := 3) (k1 _ _ (hE)) dJ9_copyOf_3_30 ?_
    refine g_iload_n dJ9_copyOf_3_31 2 rfl ?_
    refine g_mmin q456 q457 q138 q458 (Nat.le_of_ble_eq_true rfl) dJ9_copyOf_3_32 ?_
    refine wp_top (z := .int (nI cap)) (congrArg Value.int (mn_le hm (by omega))) ?_
    refine g_copyR (SP := 0) (DP := 0) (N := cap) (k1 _ _ (hE)) (c1) (by omega) rfl rfl rfl (by omega) (by omega) hc hw (fun i hi => by obtain ⟨b, n1, f1, e1, e2⟩ := hel i hi; rw [Nat.zero_add]; exact ⟨b, n1, f1, e1, k1 _ _ e2⟩) q459 q461 q460 q140 (Nat.le_of_ble_eq_true rfl) dJ9_copyOf_3_35 ?_
    refine wp_put F1 (fun q => by first | exact absurd q (by omega) | exact Or.inl rfl | exact Or.inr rfl | exact Or.inr (Or.inl rfl) | exact Or.inr (Or.inr rfl) | exact Or.inr ⟨rfl, by omega⟩ | exact rfl | (simp only []; omega)) (c1) (by omega) (fun u2 F2 z2 c2 k2 => ?_)
    refine g_aload_n dJ9_copyOf_3_38 0 rfl ?_
    refine g_aret rfl (by first | exact Or.inl ⟨_, rfl⟩ | exact Or.inr ⟨_, rfl⟩) (by first | exact Or.inl rfl | exact Or.inr ⟨_, rfl⟩) dJ9_copyOf_3_39 ?_
    exact ⟨rfl, F2.le (by omega) (by omega) (fun _ _ q => q), _, c2, fun i hi => cpy_lt hi⟩
set_option maxRecDepth 100000 in
theorem t_J9_copyOf_2 {Δ : Cx} {h : Hp} {C : String} {tg nF : Nat} {TT : u_T} (d : Nat) {cap m E : Nat} {g : Nat → Value} (hE : ce Δ h E = some (103, cap, g)) (hE0 : n0 Δ ≤ E) (hm : cap ≤ m) (hm2 : m < 1000) (hel : ∀ i, i < cap → ∃ (b n1 : Nat) (f1 : Nat → Value), g i = .ref b ∧ ce Δ h b = some (tg, n1, f1)) (hc : clz[tg]? = some (C, TT, nF)) (hw : Cond.castable C "java/lang/Object" ∈ lw_tbl) : mt Δ (d + 2) muJ9_copyOf_2 [.ref E, .int (nI m)] h (fun v h' => v = some (.ref h.1) ∧ Fr Δ (fun _ => False) 1 m h h' ∧ ∃ g', ce Δ h' h.1 = some (103, m, g') ∧ ∀ i, i < cap → g' i = g i) := by
  refine mt_of (lv0 := [(0, .ref E), (1, .int (nI m))]) rfl rfl (Nat.le_of_ble_eq_true rfl) rfl ?_
  refine g_aload_n dJ9_copyOf_2_0 0 rfl ?_
  refine g_iload_n dJ9_copyOf_2_1 1 rfl ?_
  refine g_aload_n dJ9_copyOf_2_2 0 rfl ?_
  refine g_getC (hE) (by omega) q820 (Nat.le_of_ble_eq_true rfl) dJ9_copyOf_2_3 ?_
  refine g_callS (t_J9_copyOf_3 _ hE hm hm2 hel hc hw) (lw_S q843 q844 q139 q845) okJ9_copyOf_3 rfl rfl (Nat.le_of_ble_eq_true rfl) dJ9_copyOf_2_6 (fun v1 h1 _ _ hq => ?_)
  obtain ⟨rfl, F1, g1, c1, e1⟩ := hq
  show wp Δ (d + 2) muJ9_copyOf_2 9 [(0, .ref E), (1, .int (nI m))] [.ref h.1] h1 _
  refine g_aret rfl (by first | exact Or.inl ⟨_, rfl⟩ | exact Or.inr ⟨_, rfl⟩) (by first | exact Or.inl rfl | exact Or.inr ⟨_, rfl⟩) dJ9_copyOf_2_9 ?_
  exact ⟨rfl, F1, g1, c1, e1⟩
