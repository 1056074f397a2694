set_option maxRecDepth 100000 in
theorem t_J5_coder {Δ : Cx} {h : Hp} (d : Nat) {a b : Nat} {hs z : Int32} (ha : ce Δ h a = some (16, 0, ob [.ref b, .int 0, .int hs, .int z])) : mt Δ d muJ5_coder [.ref a] h (fun v h' => v = some (.int 0) ∧ h' = h) := by
  refine mt_of (lv0 := [(0, .ref a)]) rfl rfl (Nat.le_of_ble_eq_true rfl) rfl ?_
  refine g_gets (x := .int 1) (fun q => q.2.2.2.2.2.1.2.1) q551 dJ5_coder_0 ?_
  refine g_if_eq (tgt := 13) dJ5_coder_3 (by decide) (fun c_1 => ?_) (fun c_1 => ?_)
  · exact absurd c_1 (by decide)
  ·
    refine g_aload_n dJ5_coder_6 0 rfl ?_
    refine gh_get (x := .int 0) f_16_1 q566 (ha) dJ5_coder_7 rfl ?_
    refine g_goto (tgt := 14) dJ5_coder_10 (by decide) ?_
    refine g_cret rfl (rfl) dJ5_coder_14 ?_
    exact ⟨rfl, rfl⟩
set_option maxRecDepth 100000 in
theorem t_J5_isLatin1 {Δ : Cx} {h : Hp} (d : Nat) {a b : Nat} {hs z : Int32} (ha : ce Δ h a = some (16, 0, ob [.ref b, .int 0, .int hs, .int z])) : mt Δ d muJ5_isLatin1 [.ref a] h (fun v h' => v = some (.int 1) ∧ h' = h) := by
  refine mt_of (lv0 := [(0, .ref a)]) rfl rfl (Nat.le_of_ble_eq_true rfl) rfl ?_
  refine g_gets (x := .int 1) (fun q => q.2.2.2.2.2.1.2.1) q551 dJ5_isLatin1_0 ?_
  refine g_if_eq (tgt := 17) dJ5_isLatin1_3 (by decide) (fun c_1 => ?_) (fun c_1 => ?_)
  · exact absurd c_1 (by decide)
  ·
    refine g_aload_n dJ5_isLatin1_6 0 rfl ?_
    refine gh_get (x := .int 0) f_16_1 q566 (ha) dJ5_isLatin1_7 rfl ?_
    refine g_if_ne (tgt := 17) dJ5_isLatin1_10 (by decide) (fun c_2 => ?_) (fun c_2 => ?_)
    · exact absurd c_2 (by decide)
    ·
      refine g_iconst (x := 1) dJ5_isLatin1_13 rfl ?_
      refine g_goto (tgt := 18) dJ5_isLatin1_14 (by decide) ?_
      refine g_zret rfl (by first | exact Or.inl rfl | exact Or.inr rfl | exact bI_01 _) dJ5_isLatin1_18 ?_
      exact ⟨rfl, rfl⟩
set_option maxRecDepth 100000 in
theorem t_J5_length {Δ : Cx} {h : Hp} (d : Nat) {a b : Nat} {hs z : Int32} (ha : ce Δ h a = some (16, 0, ob [.ref b, .int 0, .int hs, .int z])) {n : Nat} {f : Nat → Int32} (hb : ce Δ h b = some (102, n, fun j => .int (f j))) (hn31 : n < 2 ^ 31) : mt Δ (d + 1) muJ5_length [.ref a] h (fun v h' => v = some (.int (nI n)) ∧ h' = h) := by
  refine mt_of (lv0 := [(0, .ref a)]) rfl rfl (Nat.le_of_ble_eq_true rfl) rfl ?_
  refine g_aload_n dJ5_length_0 0 rfl ?_
  refine gh_get (x := .ref b) f_16_0 q565 (ha) dJ5_length_1 rfl ?_
  refine g_alen (t := 2) (hb) dJ5_length_4 ?_
  refine g_aload_n dJ5_length_5 0 rfl ?_
  refine g_callV (t_J5_coder _ ha) (lw_V q1837 q1838 q1839 q135 q1840) okJ5_coder (ha) rfl rfl rfl rfl (Nat.le_of_ble_eq_true rfl) dJ5_length_6 (fun v1 h1 _ _ hq => ?_)
  obtain ⟨rfl, hh⟩ := hq
  rw [hh]
  show wp Δ (d + 1) muJ5_length 9 [(0, .ref a)] [.int 0, .int (nI n)] h _
  refine g_ishr dJ5_length_9 ?_
  refine wp_top (z := .int (nI n)) (congrArg Value.int (shr_0 _)) ?_
  refine g_iret rfl dJ5_length_10 ?_
  exact ⟨rfl, rfl⟩
set_option maxRecDepth 100000 in
theorem t_J11_checkIndexN {Δ : Cx} {h : Hp} (d : Nat) (i n : Nat) (hi : i < n) (hn31 : n < 2 ^ 31) : mt Δ d muJ11_checkIndex [.int (nI i), .int (nI n), .null] h (fun v h' => v = some (.int (nI i)) ∧ h' = h) := by
  refine mt_of (lv0 := [(0, .int (nI i)), (1, .int (nI n)), (2, .null)]) rfl rfl (Nat.le_of_ble_eq_true rfl) rfl ?_
  refine g_iload_n dJ11_checkIndex_0 0 rfl ?_
  refine g_if_lt (tgt := 9) dJ11_checkIndex_1 (by decide) (fun c_1 => ?_) (fun c_1 => ?_)
  · exfalso; exact nI_pos (n := i) (by omega) (by assumption)
  ·
    refine g_iload_n dJ11_checkIndex_4 0 rfl ?_
    refine g_iload_n dJ11_checkIndex_5 1 rfl ?_
    refine gn_lt (tgt := 16) (a := i) (b := n) dJ11_checkIndex_6 (by decide) (rfl) (rfl) (by omega) (by omega) (fun c_2 => ?_) (fun c_2 => ?_)
    ·
      refine g_iload_n dJ11_checkIndex_16 0 rfl ?_
      refine g_iret rfl dJ11_checkIndex_17 ?_
      exact ⟨rfl, rfl⟩
    · exact absurd c_2 (by omega)
set_option maxRecDepth 100000 in
theorem t_J11_checkIndexR {Δ : Cx} {h : Hp} (d : Nat) (i n : Nat) (hi : i < n) (hn31 : n < 2 ^ 31) (t : Nat) : mt Δ d muJ11_checkIndex [.int (nI i), .int (nI n), .ref t] h (fun v h' => v = some (.int (nI i)) ∧ h' = h) := by
  refine mt_of (lv0 := [(0, .int (nI i)), (1, .int (nI n)), (2, .ref t)]) rfl rfl (Nat.le_of_ble_eq_true rfl) rfl ?_
  refine g_iload_n dJ11_checkIndex_0 0 rfl ?_
  refine g_if_lt (tgt := 9) dJ11_checkIndex_1 (by decide) (fun c_1 => ?_) (fun c_1 => ?_)
  · exfalso; exact nI_pos (n := i) (by omega) (by assumption)
  ·
    refine g_iload_n dJ11_checkIndex_4 0 rfl ?_
    refine g_iload_n dJ11_checkIndex_5 1 rfl ?_
    refine gn_lt (tgt := 16) (a := i) (b := n) dJ11_checkIndex_6 (by decide) (rfl) (rfl) (by omega) (by omega) (fun c_2 => ?_) (fun c_2 => ?_)
    ·
      refine g_iload_n dJ11_checkIndex_16 0 rfl ?_
      refine g_iret rfl dJ11_checkIndex_17 ?_
      exact ⟨rfl, rfl⟩
    · exact absurd c_2 (by omega)
set_option maxRecDepth 100000 in
theorem t_J5_checkIndex {Δ : Cx} {h : Hp} (d : Nat) (i n : Nat) (hi : i < n) (hn31 : n < 2 ^ 31) : mt Δ (d + 1) muJ5_checkIndex [.int (nI i), .int (nI n)] h (fun v h' => v = none ∧ h' = h) := by
  refine mt_of (lv0 := [(0, .int (nI i)), (1, .int (nI n))]) rfl rfl (Nat.le_of_ble_eq_true rfl) rfl ?_
  refine g_iload_n dJ5_checkIndex_0 0 rfl ?_
  refine g_iload_n dJ5_checkIndex_1 1 rfl ?_
  refine g_getsq (fun q => q.2.2.2.2.2.1.2.2) q489 dJ5_checkIndex_2 ?_ (fun t => ?_)
  ·
    refine g_callS (t_J11_checkIndexN _ i n (by omega) (by omega)) (lw_S q512 q513 q142 q514) okJ11_checkIndex rfl rfl (Nat.le_of_ble_eq_true rfl) dJ5_checkIndex_5 (fun v1 h1 _ _ hq => ?_)
    obtain ⟨rfl, hh⟩ := hq
    rw [hh]
    show wp Δ (d + 1) muJ5_checkIndex 8 [(0, .int (nI i)), (1, .int (nI n))] [.int (nI i)] h _
    refine g_pop dJ5_checkIndex_8 rfl ?_
    refine g_vret rfl dJ5_checkIndex_9 ?_
    exact ⟨rfl, rfl⟩
  ·
    refine g_callS (t_J11_checkIndexR _ i n (by omega) (by omega) t) (lw_S q512 q513 q142 q514) okJ11_checkIndex rfl rfl (Nat.le_of_ble_eq_true rfl) dJ5_checkIndex_5 (fun v1 h1 _ _ hq => ?_)
    obtain ⟨rfl, hh⟩ := hq
    rw [hh]
    show wp Δ (d + 1) muJ5_checkIndex 8 [(0, .int (nI i)), (1, .int (nI n))] [.int (nI i)] h _
    refine g_pop dJ5_checkIndex_8 rfl ?_
    refine g_vret rfl dJ5_checkIndex_9 ?_
    exact ⟨rfl, rfl⟩
set_option maxRecDepth 100000 in
theorem t_J10_charAt {Δ : Cx} {h : Hp} (d : Nat) {b : Nat} {n : Nat} {f : Nat → Int32} (hb : ce Δ h b = some (102, n, fun j => .int (f j))) (hn31 : n < 2 ^ 31) (hc : ∀ j, j < n → ∃ c : Nat, c < 128 ∧ f j = nI c) (i : Nat) (hi : i < n) : mt Δ (d + 2) muJ10_charAt [.ref b, .int (nI i)] h (fun v h' => v = some (.int (f i)) ∧ h' = h) := by
  obtain ⟨c, hc1, hc2⟩ := hc i hi
  refine mt_of (lv0 := [(0, .ref b), (1, .int (nI i))]) rfl rfl (Nat.le_of_ble_eq_true rfl) rfl ?_
  refine g_iload_n dJ10_charAt_0 1 rfl ?_
  refine g_aload_n dJ10_charAt_1 0 rfl ?_
  refine g_alen (t := 2) (hb) dJ10_charAt_2 ?_
  refine g_callS (t_J5_checkIndex _ i n (by omega) (by omega)) (lw_S q1848 q510 q135 q511) okJ5_checkIndex rfl rfl (Nat.le_of_ble_eq_true rfl) dJ10_charAt_3 (fun v1 h1 _ _ hq => ?_)
  obtain ⟨rfl, hh⟩ := hq
  rw [hh]
  show wp Δ (d + 2) muJ10_charAt 6 [(0, .ref b), (1, .int (nI i))] [] h _
  refine g_aload_n dJ10_charAt_6 0 rfl ?_
  refine g_iload_n dJ10_charAt_7 1 rfl ?_
  refine gh_bald (j := i) (x := .int (f i)) (hb) (rfl) (by omega) (hn31) rfl dJ10_charAt_8 ?_
  refine g_sipush (x := 255) dJ10_charAt_9 rfl ?_
  refine g_iand dJ10_charAt_12 ?_
  refine g_i2c dJ10_charAt_13 ?_
  refine wp_top (z := .int (f i)) (congrArg Value.int ((by rw [hc2]; exact ch_id hc1))) ?_
  refine g_cret rfl (by rw [hc2]; exact ch_nar hc1) dJ10_charAt_14 ?_
  exact ⟨rfl, rfl⟩
set_option maxRecDepth 100000 in
theorem t_J5_charAt {Δ : Cx} {h : Hp} (d : Nat) {a b : Nat} {hs z : Int32} (ha : ce Δ h a = some (16, 0, ob [.ref b, .int 0, .int hs, .int z])) {n : Nat} {f : Nat → Int32} (hb : ce Δ h b = some (102, n, fun j => .int (f j))) (hn31 : n < 2 ^ 31) (hc : ∀ j, j < n → ∃ c : Nat, c < 128 ∧ f j = nI c) (i : Nat) (hi : i < n) : mt Δ (d + 3) muJ5_charAt [.ref a, .int (nI i)] h (fun v h' => v = some (.int (f i)) ∧ h' = h) := by
  refine mt_of (lv0 := [(0, .ref a), (1, .int (nI i))]) rfl rfl (Nat.le_of_ble_eq_true rfl) rfl ?_
  refine g_aload_n dJ5_charAt_0 0 rfl ?_
  refine g_callV (t_J5_isLatin1 _ ha) (lw_V q609 q610 q611 q135 q612) okJ5_isLatin1 (ha) rfl rfl rfl rfl (Nat.le_of_ble_eq_true rfl) dJ5_charAt_1 (fun v1 h1 _ _ hq => ?_)
  obtain ⟨rfl, hh⟩ := hq
  rw [hh]
  show wp Δ (d + 3) muJ5_charAt 4 [(0, .ref a), (1, .int (nI i))] [.int 1] h _
  refine g_if_eq (tgt := 16) dJ5_charAt_4 (by decide) (fun c_1 => ?_) (fun c_1 => ?_)
  · exact absurd c_1 (by decide)
  ·
    refine g_aload_n dJ5_charAt_7 0 rfl ?_
    refine gh_get (x := .ref b) f_16_0 q565 (ha) dJ5_charAt_8 rfl ?_
    refine g_iload_n dJ5_charAt_11 1 rfl ?_
    refine g_callS (t_J10_charAt _ hb hn31 hc i (by omega)) (lw_S q1845 q1846 q141 q1847) okJ10_charAt rfl rfl (Nat.le_of_ble_eq_true rfl) dJ5_charAt_12 (fun v1 h1 _ _ hq => ?_)
    obtain ⟨rfl, hh⟩ := hq
    rw [hh]
    show wp Δ (d + 3) muJ5_charAt 15 [(0, .ref a), (1, .int (nI i))] [.int (f i)] h _
    refine g_cret rfl (by obtain ⟨c, hc1, hc2⟩ := hc i hi; rw [hc2]; exact ch_nar hc1) dJ5_charAt_15 ?_
    exact ⟨rfl, rfl⟩
