set_option maxRecDepth 100000 in
theorem t_J7_signedHashCode {Δ : Cx} {h : Hp} (d : Nat) {b n : Nat} {f : Nat → Int32} (hb : ce Δ h b = some (102, n, fun j => .int (f j))) (hn31 : n ≤ 8) (hc : chk n f) : mt Δ d muJ7_signedHashCode [.int 0, .ref b, .int 0, .int (nI n)] h (fun v h' => v = some (.int (hvS f n)) ∧ h' = h) := by
  refine mt_of (lv0 := [(0, .int 0), (1, .ref b), (2, .int 0), (3, .int (nI n))]) rfl rfl (Nat.le_of_ble_eq_true rfl) rfl ?_
  refine g_iload_n dJ7_signedHashCode_0 2 rfl ?_
  refine g_iload_n dJ7_signedHashCode_1 3 rfl ?_
  refine g_iadd dJ7_signedHashCode_2 ?_
  refine wp_top (z := .int (nI n)) (congrArg Value.int (z_nI)) ?_
  refine g_istore (lv' := [(4, .int (nI n)), (0, .int 0), (1, .ref b), (2, .int 0), (3, .int (nI n))]) dJ7_signedHashCode_3 (by decide) rfl ?_
  refine g_iload_n dJ7_signedHashCode_5 3 rfl ?_
  refine g_istore (lv' := [(5, .int 0), (4, .int (nI n)), (0, .int 0), (1, .ref b), (2, .int 0), (3, .int (nI n))]) dJ7_signedHashCode_6 (by decide) rfl ?_
  have C8f : ∀ (fuel : Nat) (j : Nat), n - j < fuel → (j ≤ n) → wp Δ d muJ7_signedHashCode 8 [(5, .int (nI j)), (4, .int (nI n)), (3, .int (nI n)), (2, .int 0), (1, .ref b), (0, .int (hvS f j))] [] h (fun v h' => v = some (.int (hvS f n)) ∧ h' = h) := by
    intro fuel
    induction fuel with
    | zero => intros; omega
    | succ fuel ih8 =>
      intro j hfuel8 h8_0
      refine g_iload dJ7_signedHashCode_8 0 rfl ?_
      refine g_iload dJ7_signedHashCode_10 1 rfl ?_
      refine gn_ge (tgt := 35) (a := j) (b := n) dJ7_signedHashCode_12 (by decide) (rfl) (rfl) (by omega) (by omega) (fun c_1 => ?_) (fun c_1 => ?_)
      ·
        refine g_iload_n dJ7_signedHashCode_35 5 rfl ?_
        refine g_iret rfl dJ7_signedHashCode_36 ?_
        have e : j = n := by omega
        rw [e]
        exact ⟨rfl, rfl⟩
      ·
        refine g_bipush (x := 31) dJ7_signedHashCode_15 rfl ?_
        refine g_iload_n dJ7_signedHashCode_17 5 rfl ?_
        refine g_imul dJ7_signedHashCode_18 ?_
        refine g_aload_n dJ7_signedHashCode_19 4 rfl ?_
        refine g_iload dJ7_signedHashCode_20 0 rfl ?_
        refine gh_bald (j := j) (x := .int (f j)) (hb) (rfl) (by omega) (by omega) rfl dJ7_signedHashCode_22 ?_
        refine g_sipush (x := 255) dJ7_signedHashCode_23 rfl ?_
        refine g_iand dJ7_signedHashCode_26 ?_
        refine wp_top (z := .int (f j)) (congrArg Value.int ((by obtain ⟨c, c1, c2⟩ := hc j (by omega); rw [c2]; exact ch_255 c1))) ?_
        refine g_iadd dJ7_signedHashCode_27 ?_
        refine g_istore_n (lv' := [(0, .int ((31 * (hvS f j)) + (f j))), (5, .int (nI j)), (4, .int (nI n)), (3, .int (nI n)), (2, .int 0), (1, .ref b)]) dJ7_signedHashCode_28 (by decide) rfl ?_
        refine g_iinc (z := nI (j + 1)) (lv' := [(5, .int (nI (j + 1))), (0, .int ((31 * (hvS f j)) + (f j))), (4, .int (nI n)), (3, .int (nI n)), (2, .int 0), (1, .ref b)]) dJ7_signedHashCode_29 1 rfl (nI_add _ 1) (by decide) rfl ?_
        refine g_goto (tgt := 8) dJ7_signedHashCode_32 (by decide) ?_
        refine g_lv [0, 2, 3, 4, 5, 1] (by rfl) ?_
        exact ih8 (j + 1) (by omega) (by omega)
  have C8 : ∀ (j : Nat), (j ≤ n) → wp Δ d muJ7_signedHashCode 8 [(5, .int (nI j)), (4, .int (nI n)), (3, .int (nI n)), (2, .int 0), (1, .ref b), (0, .int (hvS f j))] [] h (fun v h' => v = some (.int (hvS f n)) ∧ h' = h) := fun j h8_0 => C8f _ j (Nat.lt_succ_self _) h8_0
  refine g_lv [0, 1, 5, 4, 3, 2] (by rfl) ?_
  exact C8 0 (by omega)
set_option maxRecDepth 100000 in
theorem t_J7_vectorizedHashCode {Δ : Cx} {h : Hp} (d : Nat) {b n : Nat} {f : Nat → Int32} (hb : ce Δ h b = some (102, n, fun j => .int (f j))) (hn31 : n ≤ 8) (hbn : n0 Δ ≤ b) (hc : chk n f) : mt Δ (d + 1) muJ7_vectorizedHashCode [.ref b, .int 0, .int (nI n), .int 0, .int 4] h (fun v h' => v = some (.int (hvS f n)) ∧ h' = h) := by
  refine mt_of (lv0 := [(0, .ref b), (1, .int 0), (2, .int (nI n)), (3, .int 0), (4, .int 4)]) rfl rfl (Nat.le_of_ble_eq_true rfl) rfl ?_
  refine g_iload dJ7_vectorizedHashCode_0 4 rfl ?_
  refine g_tabIn (tgt := 44) dJ7_vectorizedHashCode_2 (by decide) (by decide) rfl (by decide) ?_
  refine g_iload_n dJ7_vectorizedHashCode_44 3 rfl ?_
  refine g_aload_n dJ7_vectorizedHashCode_45 0 rfl ?_
  refine g_castB (hb) hbn q619 dJ7_vectorizedHashCode_46 ?_
  refine g_iload_n dJ7_vectorizedHashCode_49 1 rfl ?_
  refine g_iload_n dJ7_vectorizedHashCode_50 2 rfl ?_
  refine g_callS (t_J7_signedHashCode _ hb hn31 hc) (lw_S q620 q621 q137 q622) okJ7_signedHashCode rfl rfl (Nat.le_of_ble_eq_true rfl) dJ7_vectorizedHashCode_51 (fun v1 h1 _ _ hq => ?_)
  obtain ⟨rfl, hh⟩ := hq
  rw [hh]
  show wp Δ (d + 1) muJ7_vectorizedHashCode 54 [(0, .ref b), (1, .int 0), (2, .int (nI n)), (3, .int 0), (4, .int 4)] [.int (hvS f n)] h _
  refine g_goto (tgt := 157) dJ7_vectorizedHashCode_54 (by decide) ?_
  refine g_iret rfl dJ7_vectorizedHashCode_157 ?_
  exact ⟨rfl, rfl⟩
set_option maxRecDepth 100000 in
theorem t_J10_hashCode {Δ : Cx} {h : Hp} (d : Nat) {b n : Nat} {f : Nat → Int32} (hb : ce Δ h b = some (102, n, fun j => .int (f j))) (hn31 : n ≤ 8) (hbn : n0 Δ ≤ b) (hc : chk n f) : mt Δ (d + 2) muJ10_hashCode [.ref b] h (fun v h' => v = some (.int (hvS f n)) ∧ h' = h) := by
  refine mt_of (lv0 := [(0, .ref b)]) rfl rfl (Nat.le_of_ble_eq_true rfl) rfl ?_
  refine g_aload_n dJ10_hashCode_0 0 rfl ?_
  refine g_alen (t := 2) (hb) dJ10_hashCode_1 ?_
  rcases (by omega : n = 0 ∨ n = 1 ∨ (n = 2 ∨ n = 3 ∨ n = 4 ∨ n = 5 ∨ n = 6 ∨ n = 7 ∨ n = 8)) with rfl | rfl | hn2
  ·
    refine g_look (tgt := 28) dJ10_hashCode_2 (by decide) rfl (by decide) ?_
    refine g_iconst (x := 0) dJ10_hashCode_28 rfl ?_
    refine g_goto (tgt := 51) dJ10_hashCode_29 (by decide) ?_
    refine g_iret rfl dJ10_hashCode_51 ?_
    exact ⟨rfl, rfl⟩
  ·
    refine g_look (tgt := 32) dJ10_hashCode_2 (by decide) rfl (by decide) ?_
    refine g_aload_n dJ10_hashCode_32 0 rfl ?_
    refine g_iconst (x := 0) dJ10_hashCode_33 rfl ?_
    refine gh_bald (j := 0) (x := .int (f 0)) (hb) (rfl) (by omega) (by omega) rfl dJ10_hashCode_34 ?_
    refine g_sipush (x := 255) dJ10_hashCode_35 rfl ?_
    refine g_iand dJ10_hashCode_38 ?_
    refine wp_top (z := .int (f 0)) (congrArg Value.int ((by obtain ⟨c, c1, c2⟩ := hc 0 (by omega); rw [c2]; exact ch_255 c1))) ?_
    refine g_goto (tgt := 51) dJ10_hashCode_39 (by decide) ?_
    refine g_iret rfl dJ10_hashCode_51 ?_
    exact ⟨by show some (Value.int (f 0)) = some (Value.int (31 * 0 + f 0)); rw [Int32.mul_zero, Int32.zero_add], rfl⟩
  ·
    have hlk : Op.lookupswitch.offset [(0, 26), (1, 30)] 40 (nI n).toInt = 40 := by rcases hn2 with rfl | rfl | rfl | rfl | rfl | rfl | rfl <;> rfl
    refine g_look (tgt := 42) dJ10_hashCode_2 (by decide) hlk (by decide) ?_
    refine g_aload_n dJ10_hashCode_42 0 rfl ?_
    refine g_iconst (x := 0) dJ10_hashCode_43 rfl ?_
    refine g_aload_n dJ10_hashCode_44 0 rfl ?_
    refine g_alen (t := 2) (hb) dJ10_hashCode_45 ?_
    refine g_iconst (x := 0) dJ10_hashCode_46 rfl ?_
    refine g_iconst (x := 4) dJ10_hashCode_47 rfl ?_
    refine g_callS (t_J7_vectorizedHashCode _ hb hn31 hbn hc) (lw_S q616 q617 q137 q618) okJ7_vectorizedHashCode rfl rfl (Nat.le_of_ble_eq_true rfl) dJ10_hashCode_48 (fun v1 h1 _ _ hq => ?_)
    obtain ⟨rfl, hh⟩ := hq
    rw [hh]
    show wp Δ (d + 2) muJ10_hashCode 51 [(0, .ref b)] [.int (hvS f n)] h _
    refine g_iret rfl dJ10_hashCode_51 ?_
    exact ⟨rfl, rfl⟩
set_option maxRecDepth 100000 in
theorem t_J10_equals {Δ : Cx} {h : Hp} (d : Nat) {b n b2 m : Nat} {f g : Nat → Int32} (hb : ce Δ h b = some (102, n, fun j => .int (f j))) (hn31 : n < 2 ^ 31) (hb2 : ce Δ h b2 = some (102, m, fun j => .int (g j))) (hm31 : m < 2 ^ 31) : mt Δ d muJ10_equals [.ref b, .ref b2] h (fun v h' => v = some (.int (bI (eqW f n g m))) ∧ h' = h) := by
  refine mt_of (lv0 := [(0, .ref b), (1, .ref b2)]) rfl rfl (Nat.le_of_ble_eq_true rfl) rfl ?_
  refine g_aload_n dJ10_equals_0 0 rfl ?_
  refine g_alen (t := 2) (hb) dJ10_equals_1 ?_
  refine g_aload_n dJ10_equals_2 1 rfl ?_
  refine g_alen (t := 2) (hb2) dJ10_equals_3 ?_
  refine gn_ne (tgt := 34) (a := n) (b := m) dJ10_equals_4 (by decide) (rfl) (rfl) (by omega) (by omega) (fun c_1 => ?_) (fun c_1 => ?_)
  ·
    have e1 : ¬ n = m := c_1
    refine g_iconst (x := 0) dJ10_equals_34 rfl ?_
    refine g_zret rfl (by first | exact Or.inl rfl | exact Or.inr rfl | exact bI_01 _) dJ10_equals_35 ?_
    exact ⟨by rw [eqW_n e1], rfl⟩
  ·
    have e1 : n = m := c_1
    refine g_iconst (x := 0) dJ10_equals_7 rfl ?_
    refine g_istore_n (lv' := [(2, .int 0), (0, .ref b), (1, .ref b2)]) dJ10_equals_8 (by decide) rfl ?_
    have C9f : ∀ (fuel : Nat) (j : Nat), n - j < fuel → (j ≤ n) → (wqS f g j = true) → wp Δ d muJ10_equals 9 [(2, .int (nI j)), (1, .ref b2), (0, .ref b)] [] h (fun v h' => v = some (.int (bI (eqW f n g m))) ∧ h' = h) := by
      intro fuel
      induction fuel with
      | zero => intros; omega
      | succ fuel ih9 =>
        intro j hfuel9 h9_0 h9_1
        refine g_iload_n dJ10_equals_9 0 rfl ?_
        refine g_aload_n dJ10_equals_10 2 rfl ?_
        refine g_alen (t := 2) (hb) dJ10_equals_11 ?_
        refine gn_ge (tgt := 32) (a := j) (b := n) dJ10_equals_12 (by decide) (rfl) (rfl) (by omega) (by omega) (fun c_2 => ?_) (fun c_2 => ?_)
        ·
          have e2 : n ≤ j := c_2
          refine g_iconst (x := 1) dJ10_equals_32 rfl ?_
          refine g_zret rfl (by first | exact Or.inl rfl | exact Or.inr rfl | exact bI_01 _) dJ10_equals_33 ?_
          exact ⟨by rw [eqW_t e1 (by rw [show n = j by omega]; exact h9_1)], rfl⟩
        ·
          have e2 : j < n := c_2
          refine g_aload_n dJ10_equals_15 2 rfl ?_
          refine g_iload_n dJ10_equals_16 0 rfl ?_
          refine gh_bald (j := j) (x := .int (f j)) (hb) (rfl) (by omega) (hn31) rfl dJ10_equals_17 ?_
          refine g_aload_n dJ10_equals_18 1 rfl ?_
          refine g_iload_n dJ10_equals_19 0 rfl ?_
          refine gh_bald (j := j) (x := .int (g j)) (hb2) (rfl) (by omega) (hm31) rfl dJ10_equals_20 ?_
          refine g_icmp_eq (tgt := 26) dJ10_equals_21 (by decide) (fun c_3 => ?_) (fun c_3 => ?_)
          ·
            have e3 : f j = g j := c_3
            refine g_iinc (z := nI (j + 1)) (lv' := [(2, .int (nI (j + 1))), (1, .ref b2), (0, .ref b)]) dJ10_equals_26 0 rfl (nI_add _ 1) (by decide) rfl ?_
            refine g_goto (tgt := 9) dJ10_equals_29 (by decide) ?_
            exact ih9 (j + 1) (by omega) (by omega) (wq_s h9_1 e3)
          ·
            have e3 : ¬ f j = g j := c_3
            refine g_iconst (x := 0) dJ10_equals_24 rfl ?_
            refine g_zret rfl (by first | exact Or.inl rfl | exact Or.inr rfl | exact bI_01 _) dJ10_equals_25 ?_
            exact ⟨by rw [eqW_f e2 e3], rfl⟩
    have C9 : ∀ (j : Nat), (j ≤ n) → (wqS f g j = true) → wp Δ d muJ10_equals 9 [(2, .int (nI j)), (1, .ref b2), (0, .ref b)] [] h (fun v h' => v = some (.int (bI (eqW f n g m))) ∧ h' = h) := fun j h9_0 h9_1 => C9f _ j (Nat.lt_succ_self _) h9_0 h9_1
    refine g_lv [0, 2, 1] (by rfl) ?_
    exact C9 0 (by omega) rfl
set_option maxRecDepth 100000 in
theorem t_J5_equals {Δ : Cx} {h : Hp} (d : Nat) {s a n m : Nat} {f g : Nat → Int32} (T1 : Tx Δ h s n f) (T2 : Tx Δ h a m g) : mt Δ (d + 1) muJ5_equals [.ref s, .ref a] h (fun v h' => v = some (.int (bI (eqW f n g m))) ∧ h' = h) := by
  obtain ⟨b, sh, sz, hs1, hb, hn31, hc⟩ := T1; obtain ⟨b2, sh2, sz2, hs2, hb2, hm31, hc2⟩ := T2
  refine mt_of (lv0 := [(0, .ref s), (1, .ref a)]) rfl rfl (Nat.le_of_ble_eq_true rfl) rfl ?_
  refine g_aload_n dJ5_equals_0 0 rfl ?_
  refine g_aload_n dJ5_equals_1 1 rfl ?_
  refine gr_ne (tgt := 7) dJ5_equals_2 (by decide) (fun c_1 => ?_) (fun c_1 => ?_)
  ·
    refine g_aload_n dJ5_equals_7 1 rfl ?_
    refine g_instS (hs2) rfl q663 dJ5_equals_8 ?_
    refine g_if_eq (tgt := 54) dJ5_equals_11 (by decide) (fun c_2 => ?_) (fun c_2 => ?_)
    · exact absurd c_2 (by decide)
    ·
      refine g_aload_n dJ5_equals_14 1 rfl ?_
      refine g_castS (hs2) rfl q663 dJ5_equals_15 ?_
      refine g_astore_n (lv' := [(2, .ref a), (0, .ref s), (1, .ref a)]) dJ5_equals_18 (by decide) rfl ?_
      refine g_gets (x := .int 1) (fun q => q.2.2.2.2.2.1.2.1) q551 dJ5_equals_19 ?_
      refine g_if_eq (tgt := 36) dJ5_equals_22 (by decide) (fun c_3 => ?_) (fun c_3 => ?_)
      · exact absurd c_3 (by decide)
      ·
        refine g_aload_n dJ5_equals_25 1 rfl ?_
        refine gh_get (x := .int 0) f_16_1 q566 (hs1) dJ5_equals_26 rfl ?_
        refine g_aload_n dJ5_equals_29 0 rfl ?_
        refine gh_get (x := .int 0) f_16_1 q566 (hs2) dJ5_equals_30 rfl ?_
        refine gn_ne (tgt := 54) (a := 0) (b := 0) dJ5_equals_33 (by decide) (rfl) (rfl) (by omega) (by omega) (fun c_4 => ?_) (fun c_4 => ?_)
        · exact absurd c_4 (by omega)
        ·
          refine g_aload_n dJ5_equals_36 1 rfl ?_
          refine gh_get (x := .ref b) f_16_0 q565 (hs1) dJ5_equals_37 rfl ?_
          refine g_aload_n dJ5_equals_40 0 rfl ?_
          refine gh_get (x := .ref b2) f_16_0 q565 (hs2) dJ5_equals_41 rfl ?_
          refine g_callS (t_J10_equals _ hb (by omega) hb2 (by omega)) (lw_S q664 q665 q141 q666) okJ10_equals rfl rfl (Nat.le_of_ble_eq_true rfl) dJ5_equals_44 (fun v1 h1 _ _ hq => ?_)
          obtain ⟨rfl, hh⟩ := hq
          rw [hh]
          show wp Δ (d + 1) muJ5_equals 47 [(2, .ref a), (0, .ref s), (1, .ref a)] [.int (bI (eqW f n g m))] h _
          refine gb_eq (tgt := 54) dJ5_equals_47 (by decide) (fun c_5 => ?_) (fun c_5 => ?_)
          ·
            refine g_iconst (x := 0) dJ5_equals_54 rfl ?_
            refine g_zret rfl (by first | exact Or.inl rfl | exact Or.inr rfl | exact bI_01 _) dJ5_equals_55 ?_
            exact ⟨by rw [bI_f (by assumption)], rfl⟩
          ·
            refine g_iconst (x := 1) dJ5_equals_50 rfl ?_
            refine g_goto (tgt := 55) dJ5_equals_51 (by decide) ?_
            refine g_zret rfl (by first | exact Or.inl rfl | exact Or.inr rfl | exact bI_01 _) dJ5_equals_55 ?_
            exact ⟨by rw [bI_t (by assumption)], rfl⟩
  ·
    have e1 : s = a := c_1
    refine g_iconst (x := 1) dJ5_equals_5 rfl ?_
    refine g_zret rfl (by first | exact Or.inl rfl | exact Or.inr rfl | exact bI_01 _) dJ5_equals_6 ?_
    subst e1
    have q1 := Option.some.inj (hs1.symm.trans hs2)
    have q2 : b = b2 := Value.ref.inj (congrFun (congrArg (fun c : Cel => c.2.2) q1) 0)
    subst q2
    have q3 := Option.some.inj (hb.symm.trans hb2)
    have q4 : n = m := congrArg (fun c : Cel => c.2.1) q3
    have q5 : ∀ j, f j = g j := fun j => Value.int.inj (congrFun (congrArg (fun c : Cel => c.2.2) q3) j)
    have q6 : f = g := funext q5
    subst q4; subst q6
    exact ⟨by rw [eqW_t rfl (wq_refl n)], rfl⟩
set_option maxRecDepth 100000 in
theorem t_J5_hashCode {Δ : Cx} {h : Hp} (d : Nat) {s b n : Nat} {f : Nat → Int32} {sh sz : Int32} (S : SB Δ (ce Δ h) s b n f sh sz) : mt Δ (d + 3) muJ5_hashCode [.ref s] h (fun v h' => v = some (.int (hvS f n)) ∧ Fr Δ (fun q => q = s) 0 0 h h' ∧ ∃ sh' sz', SB Δ (ce Δ h') s b n f sh' sz') := by
  obtain ⟨hs1, hb, h8, hc, ⟨hq1, hq2⟩, hw⟩ := S
  refine mt_of (lv0 := [(0, .ref s)]) rfl rfl (Nat.le_of_ble_eq_true rfl) rfl ?_
  refine g_aload_n dJ5_hashCode_0 0 rfl ?_
  refine gh_get (x := .int sh) f_16_2 q567 (hs1) dJ5_hashCode_1 rfl ?_
  refine g_istore_n (lv' := [(1, .int sh), (0, .ref s)]) dJ5_hashCode_4 (by decide) rfl ?_
  refine g_iload_n dJ5_hashCode_5 0 rfl ?_
  refine g_if_ne (tgt := 58) dJ5_hashCode_6 (by decide) (fun c_1 => ?_) (fun c_1 => ?_)
  ·
    have e1 : ¬ sh = 0 := c_1
    refine g_iload_n dJ5_hashCode_58 0 rfl ?_
    refine g_iret rfl dJ5_hashCode_59 ?_
    exact ⟨by rw [hq1 e1], Fr.refl _ _, sh, sz, hs1, hb, h8, hc, ⟨hq1, hq2⟩, hw⟩
  ·
    have e1 : sh = 0 := c_1
    refine g_aload_n dJ5_hashCode_9 1 rfl ?_
    refine gh_get (x := .int sz) f_16_3 q568 (hs1) dJ5_hashCode_10 rfl ?_
    refine g_if_ne (tgt := 58) dJ5_hashCode_13 (by decide) (fun c_2 => ?_) (fun c_2 => ?_)
    ·
      have e2 : ¬ sz = 0 := c_2
      refine g_iload_n dJ5_hashCode_58 0 rfl ?_
      refine g_iret rfl dJ5_hashCode_59 ?_
      exact ⟨by rw [hq2 e1 e2, e1], Fr.refl _ _, sh, sz, hs1, hb, h8, hc, ⟨hq1, hq2⟩, hw⟩
    ·
      have e2 : sz = 0 := c_2
      obtain ⟨hsn, hbn⟩ := hw.resolve_right (by rintro (q | q) <;> exact q (by assumption))
      have hbs : b ≠ s := ce_ne hb hs1 (Or.inl (by show 102 ≠ 16; omega))
      refine g_aload_n dJ5_hashCode_16 1 rfl ?_
      refine g_callV (t_J5_isLatin1 _ (hs1)) (lw_V q609 q610 q611 q135 q612) okJ5_isLatin1 (hs1) rfl rfl rfl rfl (Nat.le_of_ble_eq_true rfl) dJ5_hashCode_17 (fun v1 h1 _ _ hq => ?_)
      obtain ⟨rfl, hh⟩ := hq
      rw [hh]
      show wp Δ (d + 3) muJ5_hashCode 20 [(1, .int sh), (0, .ref s)] [.int 1] h _
      refine g_if_eq (tgt := 33) dJ5_hashCode_20 (by decide) (fun c_3 => ?_) (fun c_3 => ?_)
      · exact absurd c_3 (by decide)
      ·
        refine g_aload_n dJ5_hashCode_23 1 rfl ?_
        refine gh_get (x := .ref b) f_16_0 q565 (hs1) dJ5_hashCode_24 rfl ?_
        refine g_callS (t_J10_hashCode _ hb h8 hbn hc) (lw_S q613 q614 q141 q615) okJ10_hashCode rfl rfl (Nat.le_of_ble_eq_true rfl) dJ5_hashCode_27 (fun v1 h1 _ _ hq => ?_)
        obtain ⟨rfl, hh⟩ := hq
        rw [hh]
        show wp Δ (d + 3) muJ5_hashCode 30 [(1, .int sh), (0, .ref s)] [.int (hvS f n)] h _
        refine g_goto (tgt := 40) dJ5_hashCode_30 (by decide) ?_
        refine g_istore_n (lv' := [(1, .int (hvS f n)), (0, .ref s)]) dJ5_hashCode_40 (by decide) rfl ?_
        refine g_iload_n dJ5_hashCode_41 0 rfl ?_
        refine g_if_ne (tgt := 53) dJ5_hashCode_42 (by decide) (fun c_4 => ?_) (fun c_4 => ?_)
        ·
          have e3 : ¬ hvS f n = 0 := c_4
          refine g_aload_n dJ5_hashCode_53 1 rfl ?_
          refine g_iload_n dJ5_hashCode_54 0 rfl ?_
          refine gh_put (f2 := ob [.ref b, .int 0, .int (hvS f n), .int sz]) f_16_2 q567 (hs1) (by omega) dJ5_hashCode_55 rfl rfl (ob_u [.ref b, .int 0, .int sh, .int sz] 2 (.int (hvS f n)) (Nat.le_of_ble_eq_true rfl)) ?_
          refine wp_put (Fr.refl (fun q => q = s) _) (fun q => by first | exact absurd q (by omega) | exact Or.inl rfl | exact Or.inr rfl | exact Or.inr (Or.inl rfl) | exact Or.inr (Or.inr rfl) | exact Or.inr ⟨rfl, by omega⟩ | exact rfl | (simp only []; omega)) (hs1) (by omega) (fun u48 F48 z48 c48 k48 => ?_)
          refine g_iload_n dJ5_hashCode_58 0 rfl ?_
          refine g_iret rfl dJ5_hashCode_59 ?_
          exact ⟨rfl, F48, hvS f n, sz, c48, k48 _ _ (hb) (by omega), h8, hc, ⟨fun _ => rfl, fun q => absurd q e3⟩, Or.inr (Or.inl e3)⟩
        ·
          have e3 : hvS f n = 0 := c_4
          refine g_aload_n dJ5_hashCode_45 1 rfl ?_
          refine g_iconst (x := 1) dJ5_hashCode_46 rfl ?_
          refine gh_put (f2 := ob [.ref b, .int 0, .int sh, .int 1]) f_16_3 q568 (hs1) (by omega) dJ5_hashCode_47 rfl rfl (ob_u [.ref b, .int 0, .int sh, .int sz] 3 (.int 1) (Nat.le_of_ble_eq_true rfl)) ?_
          refine wp_put (Fr.refl (fun q => q = s) _) (fun q => by first | exact absurd q (by omega) | exact Or.inl rfl | exact Or.inr rfl | exact Or.inr (Or.inl rfl) | exact Or.inr (Or.inr rfl) | exact Or.inr ⟨rfl, by omega⟩ | exact rfl | (simp only []; omega)) (hs1) (by omega) (fun u49 F49 z49 c49 k49 => ?_)
          refine g_goto (tgt := 58) dJ5_hashCode_50 (by decide) ?_
          refine g_iload_n dJ5_hashCode_58 0 rfl ?_
          refine g_iret rfl dJ5_hashCode_59 ?_
          exact ⟨rfl, F49, sh, 1, c49, k49 _ _ (hb) (by omega), h8, hc, ⟨fun q => absurd e1 q, fun _ _ => e3⟩, Or.inr (Or.inr (by decide))⟩
