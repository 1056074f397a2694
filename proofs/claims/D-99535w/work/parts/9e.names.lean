section GLW
variable {Δ : Cx} {d : Nat} {μ : Mi} {pc idx : Nat} {lv : List (Nat × Value)} {st : List Value} {h : Hp} {Q : Option Value → Hp → Prop}
theorem g_ldcSw {tx : String} {i : Nat} (ht : (μ.1, idx, tx, i) ∈ txs) (dg : decode μ.2.2.1 pc = .ok (.ldc_w idx, 3)) (kk : wp Δ d μ (pc + 3) lv (.ref (cT Δ i) :: st) h Q) : wp Δ d μ pc lv st h Q := by
  refine kk.on fun v h' g p e s m args below meth c H locs cells slots ls mc ms B hR hl0 hL e1 e2 => ?_
  have hZ := vk_R.warm B.2.2.2.2.2.2.2.2.1 (B.1.2.2.2.2.1 _ ht)
  intro T hT X
  obtain ⟨t, a1, b1⟩ := (g p e s m args below meth c H locs cells slots ls mc ms B hR hl0 hL e1 e2) T hT X
  exact ⟨t, X.ldcStringW B.2.1 B.2.2.2.2.2.2.1 (text := tx) (a := cT Δ i) hZ.1 hZ.2 (g := F0 m pc ls st) rfl (by rw [B.2.2.1]; exact dg) t a1, b1⟩
end GLW
theorem off_n {a o : Int} {r : List (Int × Int)} {df k : Int} (h : ¬ a = k) : Op.lookupswitch.offset ((a, o) :: r) df k = Op.lookupswitch.offset r df k := if_neg h
theorem nk {x k : Int32} {z : Int} (h : ¬ x = k) (hz : k.toInt = z) : ¬ z = x.toInt := fun e => h (Int32.toInt_inj.mp (e.symm.trans hz.symm))
theorem enf {le : Nat → Int32} {z j : Nat} {H : Int32} (hj : hvS (txF j) (txN j) = H) (h : ¬ hvS le z = H) : eqW le z (txF j) (txN j) = false := by
  unfold eqW
  by_cases c : z = txN j
  · rw [decide_eq_true c, Bool.true_and]
    by_cases c2 : wqS le (txF j) z = true
    · exact absurd ((hv_cong c2).trans (by rw [c]; exact hj)) h
    · exact Bool.not_eq_true _ ▸ c2
  · rw [decide_eq_false c]; rfl
theorem hk_14 : hvS (txF 14) (txN 14) = 1085876340 := by decide +kernel
theorem hk_2 : hvS (txF 2) (txN 2) = 3020089 := by decide +kernel
theorem hk_7 : hvS (txF 7) (txN 7) = 99469088 := by decide +kernel
theorem hk_9 : hvS (txF 9) (txN 9) = -1097426829 := by decide +kernel
theorem hk_1 : hvS (txF 1) (txN 1) = -1424030939 := by decide +kernel
theorem hk_6 : hvS (txF 6) (txN 6) = -1266283874 := by decide +kernel
theorem hk_11 : hvS (txF 11) (txN 11) = 106935314 := by decide +kernel
theorem hk_17 : hvS (txF 17) (txN 17) = 113641 := by decide +kernel
theorem hk_5 : hvS (txF 5) (txN 5) = 957067667 := by decide +kernel
theorem hk_20 : hvS (txF 20) (txN 20) = -1423437198 := by decide +kernel
theorem hk_22 : hvS (txF 22) (txN 22) = 112210766 := by decide +kernel
theorem hk_12 : hvS (txF 12) (txN 12) = 111357 := by decide +kernel
/-- whether a word is one of the eight that are no names -/
def kwE (le : Nat → Int32) (z : Nat) : Bool := eqW le z (txF 14) (txN 14) || (eqW le z (txF 2) (txN 2) || (eqW le z (txF 7) (txN 7) || (eqW le z (txF 9) (txN 9) || (eqW le z (txF 1) (txN 1) || (eqW le z (txF 6) (txN 6) || (eqW le z (txF 11) (txN 11) || (eqW le z (txF 17) (txN 17))))))))
theorem kwE_14 {le : Nat → Int32} {z : Nat} (h : eqW le z (txF 14) (txN 14) = true) : kwE le z = true := by simp only [kwE, h, Bool.true_or, Bool.or_true]
theorem kwE_2 {le : Nat → Int32} {z : Nat} (h : eqW le z (txF 2) (txN 2) = true) : kwE le z = true := by simp only [kwE, h, Bool.true_or, Bool.or_true]
theorem kwE_7 {le : Nat → Int32} {z : Nat} (h : eqW le z (txF 7) (txN 7) = true) : kwE le z = true := by simp only [kwE, h, Bool.true_or, Bool.or_true]
theorem kwE_9 {le : Nat → Int32} {z : Nat} (h : eqW le z (txF 9) (txN 9) = true) : kwE le z = true := by simp only [kwE, h, Bool.true_or, Bool.or_true]
theorem kwE_1 {le : Nat → Int32} {z : Nat} (h : eqW le z (txF 1) (txN 1) = true) : kwE le z = true := by simp only [kwE, h, Bool.true_or, Bool.or_true]
theorem kwE_6 {le : Nat → Int32} {z : Nat} (h : eqW le z (txF 6) (txN 6) = true) : kwE le z = true := by simp only [kwE, h, Bool.true_or, Bool.or_true]
theorem kwE_11 {le : Nat → Int32} {z : Nat} (h : eqW le z (txF 11) (txN 11) = true) : kwE le z = true := by simp only [kwE, h, Bool.true_or, Bool.or_true]
theorem kwE_17 {le : Nat → Int32} {z : Nat} (h : eqW le z (txF 17) (txN 17) = true) : kwE le z = true := by simp only [kwE, h, Bool.true_or, Bool.or_true]
theorem kwE_f {le : Nat → Int32} {z : Nat} (h14 : eqW le z (txF 14) (txN 14) = false) (h2 : eqW le z (txF 2) (txN 2) = false) (h7 : eqW le z (txF 7) (txN 7) = false) (h9 : eqW le z (txF 9) (txN 9) = false) (h1 : eqW le z (txF 1) (txN 1) = false) (h6 : eqW le z (txF 6) (txN 6) = false) (h11 : eqW le z (txF 11) (txN 11) = false) (h17 : eqW le z (txF 17) (txN 17) = false) : kwE le z = false := by simp only [kwE, h14, h2, h7, h9, h1, h6, h11, h17, Bool.or_self]
set_option maxRecDepth 100000 in
theorem t_X6_is {Δ : Cx} {h : Hp} (d : Nat) {a w z : Nat} {le : Nat → Int32} {s p num : Int32} (ha : ce Δ h a = some (5, 0, ob [.int s, .int p, .int num, .ref w])) (S : ST Δ (ce Δ h) w z le) (K : TKs Δ) (hn : n0 Δ ≤ h.1) (i : Nat) (hi : i < 25) : mt Δ (d + 2) muX6_is [.ref a, .ref (cT Δ i)] h (fun v h' => v = some (.int (bI (decide (s = 2) && eqW le z (txF i) (txN i)))) ∧ h' = h) := by
  obtain ⟨b, sh, sz, S0⟩ := id S
  refine mt_of (lv0 := [(0, .ref a), (1, .ref (cT Δ i))]) rfl rfl (Nat.le_of_ble_eq_true rfl) rfl ?_
  refine g_aload_n dX6_is_0 0 rfl ?_
  refine gh_get (x := .int s) f_5_0 q371 (ha) dX6_is_1 rfl ?_
  refine g_iconst (x := 2) dX6_is_4 rfl ?_
  refine g_icmp_ne (tgt := 23) dX6_is_5 (by decide) (fun c_1 => ?_) (fun c_1 => ?_)
  ·
    have e1 : ¬ s = 2 := c_1
    refine g_iconst (x := 0) dX6_is_23 rfl ?_
    refine g_zret rfl (by first | exact Or.inl rfl | exact Or.inr rfl | exact bI_01 _) dX6_is_24 ?_
    exact ⟨by rw [decide_eq_false e1]; rfl, rfl⟩
  ·
    have e1 : s = 2 := c_1
    refine g_aload_n dX6_is_8 0 rfl ?_
    refine gh_get (x := .ref w) f_5_3 q377 (ha) dX6_is_9 rfl ?_
    refine g_aload_n dX6_is_12 1 rfl ?_
    refine g_callV (t_J5_equals _ S.tx ((K i (by exact hi)).tx hn)) (lw_V q703 q660 q661 q135 q662) okJ5_equals (S0.1) rfl rfl rfl rfl (Nat.le_of_ble_eq_true rfl) dX6_is_13 (fun v1 h1 _ _ hq => ?_)
    obtain ⟨rfl, hh⟩ := hq
    rw [hh]
    show wp Δ (d + 2) muX6_is 16 [(0, .ref a), (1, .ref (cT Δ i))] [.int (bI (eqW le z (txF i) (txN i)))] h _
    refine gb_eq (tgt := 23) dX6_is_16 (by decide) (fun c_2 => ?_) (fun c_2 => ?_)
    ·
      have e2 := c_2
      refine g_iconst (x := 0) dX6_is_23 rfl ?_
      refine g_zret rfl (by first | exact Or.inl rfl | exact Or.inr rfl | exact bI_01 _) dX6_is_24 ?_
      exact ⟨by rw [e2, Bool.and_false]; rfl, rfl⟩
    ·
      have e2 := c_2
      refine g_iconst (x := 1) dX6_is_19 rfl ?_
      refine g_goto (tgt := 24) dX6_is_20 (by decide) ?_
      refine g_zret rfl (by first | exact Or.inl rfl | exact Or.inr rfl | exact bI_01 _) dX6_is_24 ?_
      exact ⟨by rw [decide_eq_true e1, e2]; rfl, rfl⟩
theorem hn_le {Δ : Cx} {h h1 : Hp} {W : Nat → Prop} {k s : Nat} (F : Fr Δ W k s h h1) (hn : n0 Δ ≤ h.1) : n0 Δ ≤ h1.1 := Nat.le_trans hn F.1.1
set_option maxRecDepth 100000 in
theorem t_X6_isName {Δ : Cx} {h : Hp} (d : Nat) {a w z : Nat} {le : Nat → Int32} {s p num : Int32} (ha : ce Δ h a = some (5, 0, ob [.int s, .int p, .int num, .ref w])) (S : ST Δ (ce Δ h) w z le) (K : TKs Δ) (hn : n0 Δ ≤ h.1) : mt Δ (d + 4) muX6_isName [.ref a] h (fun v h' => v = some (.int (bI (decide (s = 2) && !kwE le z))) ∧ Fr Δ (fun q => q = w) 0 0 h h' ∧ ST Δ (ce Δ h') w z le) := by
  obtain ⟨b, sh, sz, S0⟩ := id S
  refine mt_of (lv0 := [(0, .ref a)]) rfl rfl (Nat.le_of_ble_eq_true rfl) rfl ?_
  refine g_aload_n dX6_isName_0 0 rfl ?_
  refine gh_get (x := .int s) f_5_0 q371 (ha) dX6_isName_1 rfl ?_
  refine g_iconst (x := 2) dX6_isName_4 rfl ?_
  refine g_icmp_eq (tgt := 10) dX6_isName_5 (by decide) (fun c_1 => ?_) (fun c_1 => ?_)
  ·
    have e1 : s = 2 := c_1
    refine g_aload_n dX6_isName_10 0 rfl ?_
    refine gh_get (x := .ref w) f_5_3 q377 (ha) dX6_isName_11 rfl ?_
    refine g_astore_n (lv' := [(1, .ref w), (0, .ref a)]) dX6_isName_14 (by decide) rfl ?_
    refine g_iconst (x := -1) dX6_isName_15 rfl ?_
    refine g_istore_n (lv' := [(2, .int (-1)), (1, .ref w), (0, .ref a)]) dX6_isName_16 (by decide) rfl ?_
    refine g_aload_n dX6_isName_17 1 rfl ?_
    refine g_callV (t_J5_hashCode _ S0) (lw_V q735 q606 q607 q135 q608) okJ5_hashCode (S0.1) rfl rfl rfl rfl (Nat.le_of_ble_eq_true rfl) dX6_isName_18 (fun v1 h86 _ _ hq => ?_)
    obtain ⟨rfl, G86, sh86, sz86, S86⟩ := hq
    have T86 : ST Δ (ce Δ h86) w z le := ⟨_, _, _, S86⟩
    have F86 := (Fr.refl (fun q => q = w) _).tr G86 (fun b _ q => q)
    show wp Δ (d + 4) muX6_isName 21 [(2, .int (-1)), (1, .ref w), (0, .ref a)] [.int (hvS le z)] h86 _
    by_cases q1 : hvS le z = -1424030939
    ·
      refine g_look (tgt := 152) dX6_isName_21 (by decide) (by rw [q1]) (by decide) ?_
      refine g_aload_n dX6_isName_152 1 rfl ?_
      refine g_ldcS (tx := "aboard") (i := 1) (by decide +kernel) dX6_isName_153 ?_
      refine g_callV (t_J5_equals _ T86.tx ((K 1 (by decide)).tx (hn_le G86 hn))) (lw_V q703 q660 q661 q135 q662) okJ5_equals (S86.1) rfl rfl rfl rfl (Nat.le_of_ble_eq_true rfl) dX6_isName_155 (fun v1 h1 _ _ hq => ?_)
      obtain ⟨rfl, hh⟩ := hq
      rw [hh]
      show wp Δ (d + 4) muX6_isName 158 [(2, .int (-1)), (1, .ref w), (0, .ref a)] [.int (bI (eqW le z (txF 1) (txN 1)))] h86 _
      refine gb_eq (tgt := 207) dX6_isName_158 (by decide) (fun c_2 => ?_) (fun c_2 => ?_)
      ·
        have ceq := c_2
        refine g_iload_n dX6_isName_207 0 rfl ?_
        refine g_tabOut (tgt := 258) dX6_isName_208 (by decide) (by decide) ?_
        refine g_iconst (x := 1) dX6_isName_258 rfl ?_
        refine g_zret rfl (by first | exact Or.inl rfl | exact Or.inr rfl | exact bI_01 _) dX6_isName_259 ?_
        exact ⟨by rw [kwE_f (enf hk_14 (by rw [q1]; decide)) (enf hk_2 (by rw [q1]; decide)) (enf hk_7 (by rw [q1]; decide)) (enf hk_9 (by rw [q1]; decide)) ceq (enf hk_6 (by rw [q1]; decide)) (enf hk_11 (by rw [q1]; decide)) (enf hk_17 (by rw [q1]; decide)), decide_eq_true e1]; rfl, F86, T86⟩
      ·
        have ceq := c_2
        refine g_iconst (x := 4) dX6_isName_161 rfl ?_
        refine g_istore_n (lv' := [(2, .int 4), (1, .ref w), (0, .ref a)]) dX6_isName_162 (by decide) rfl ?_
        refine g_goto (tgt := 207) dX6_isName_163 (by decide) ?_
        refine g_iload_n dX6_isName_207 0 rfl ?_
        refine g_tabIn (tgt := 256) dX6_isName_208 (by decide) (by decide) rfl (by decide) ?_
        refine g_iconst (x := 0) dX6_isName_256 rfl ?_
        refine g_zret rfl (by first | exact Or.inl rfl | exact Or.inr rfl | exact bI_01 _) dX6_isName_257 ?_
        exact ⟨by rw [kwE_1 ceq, Bool.not_true, Bool.and_false]; rfl, F86, T86⟩
    by_cases q6 : hvS le z = -1266283874
    ·
      refine g_look (tgt := 166) dX6_isName_21 (by decide) (by rw [q6]) (by decide) ?_
      refine g_aload_n dX6_isName_166 1 rfl ?_
      refine g_ldcS (tx := "friend") (i := 6) (by decide +kernel) dX6_isName_167 ?_
      refine g_callV (t_J5_equals _ T86.tx ((K 6 (by decide)).tx (hn_le G86 hn))) (lw_V q703 q660 q661 q135 q662) okJ5_equals (S86.1) rfl rfl rfl rfl (Nat.le_of_ble_eq_true rfl) dX6_isName_169 (fun v1 h1 _ _ hq => ?_)
      obtain ⟨rfl, hh⟩ := hq
      rw [hh]
      show wp Δ (d + 4) muX6_isName 172 [(2, .int (-1)), (1, .ref w), (0, .ref a)] [.int (bI (eqW le z (txF 6) (txN 6)))] h86 _
      refine gb_eq (tgt := 207) dX6_isName_172 (by decide) (fun c_3 => ?_) (fun c_3 => ?_)
      ·
        have ceq := c_3
        refine g_iload_n dX6_isName_207 0 rfl ?_
        refine g_tabOut (tgt := 258) dX6_isName_208 (by decide) (by decide) ?_
        refine g_iconst (x := 1) dX6_isName_258 rfl ?_
        refine g_zret rfl (by first | exact Or.inl rfl | exact Or.inr rfl | exact bI_01 _) dX6_isName_259 ?_
        exact ⟨by rw [kwE_f (enf hk_14 (by rw [q6]; decide)) (enf hk_2 (by rw [q6]; decide)) (enf hk_7 (by rw [q6]; decide)) (enf hk_9 (by rw [q6]; decide)) (enf hk_1 (by rw [q6]; decide)) ceq (enf hk_11 (by rw [q6]; decide)) (enf hk_17 (by rw [q6]; decide)), decide_eq_true e1]; rfl, F86, T86⟩
      ·
        have ceq := c_3
        refine g_iconst (x := 5) dX6_isName_175 rfl ?_
        refine g_istore_n (lv' := [(2, .int 5), (1, .ref w), (0, .ref a)]) dX6_isName_176 (by decide) rfl ?_
        refine g_goto (tgt := 207) dX6_isName_177 (by decide) ?_
        refine g_iload_n dX6_isName_207 0 rfl ?_
        refine g_tabIn (tgt := 256) dX6_isName_208 (by decide) (by decide) rfl (by decide) ?_
        refine g_iconst (x := 0) dX6_isName_256 rfl ?_
        refine g_zret rfl (by first | exact Or.inl rfl | exact Or.inr rfl | exact bI_01 _) dX6_isName_257 ?_
        exact ⟨by rw [kwE_6 ceq, Bool.not_true, Bool.and_false]; rfl, F86, T86⟩
    by_cases q9 : hvS le z = -1097426829
    ·
      refine g_look (tgt := 138) dX6_isName_21 (by decide) (by rw [q9]) (by decide) ?_
      refine g_aload_n dX6_isName_138 1 rfl ?_
      refine g_ldcS (tx := "lodger") (i := 9) (by decide +kernel) dX6_isName_139 ?_
      refine g_callV (t_J5_equals _ T86.tx ((K 9 (by decide)).tx (hn_le G86 hn))) (lw_V q703 q660 q661 q135 q662) okJ5_equals (S86.1) rfl rfl rfl rfl (Nat.le_of_ble_eq_true rfl) dX6_isName_141 (fun v1 h1 _ _ hq => ?_)
      obtain ⟨rfl, hh⟩ := hq
      rw [hh]
      show wp Δ (d + 4) muX6_isName 144 [(2, .int (-1)), (1, .ref w), (0, .ref a)] [.int (bI (eqW le z (txF 9) (txN 9)))] h86 _
      refine gb_eq (tgt := 207) dX6_isName_144 (by decide) (fun c_4 => ?_) (fun c_4 => ?_)
      ·
        have ceq := c_4
        refine g_iload_n dX6_isName_207 0 rfl ?_
        refine g_tabOut (tgt := 258) dX6_isName_208 (by decide) (by decide) ?_
        refine g_iconst (x := 1) dX6_isName_258 rfl ?_
        refine g_zret rfl (by first | exact Or.inl rfl | exact Or.inr rfl | exact bI_01 _) dX6_isName_259 ?_
        exact ⟨by rw [kwE_f (enf hk_14 (by rw [q9]; decide)) (enf hk_2 (by rw [q9]; decide)) (enf hk_7 (by rw [q9]; decide)) ceq (enf hk_1 (by rw [q9]; decide)) (enf hk_6 (by rw [q9]; decide)) (enf hk_11 (by rw [q9]; decide)) (enf hk_17 (by rw [q9]; decide)), decide_eq_true e1]; rfl, F86, T86⟩
      ·
        have ceq := c_4
        refine g_iconst (x := 3) dX6_isName_147 rfl ?_
        refine g_istore_n (lv' := [(2, .int 3), (1, .ref w), (0, .ref a)]) dX6_isName_148 (by decide) rfl ?_
        refine g_goto (tgt := 207) dX6_isName_149 (by decide) ?_
        refine g_iload_n dX6_isName_207 0 rfl ?_
        refine g_tabIn (tgt := 256) dX6_isName_208 (by decide) (by decide) rfl (by decide) ?_
        refine g_iconst (x := 0) dX6_isName_256 rfl ?_
        refine g_zret rfl (by first | exact Or.inl rfl | exact Or.inr rfl | exact bI_01 _) dX6_isName_257 ?_
        exact ⟨by rw [kwE_9 ceq, Bool.not_true, Bool.and_false]; rfl, F86, T86⟩
    by_cases q17 : hvS le z = 113641
    ·
      refine g_look (tgt := 195) dX6_isName_21 (by decide) (by rw [q17]) (by decide) ?_
      refine g_aload_n dX6_isName_195 1 rfl ?_
      refine g_ldcS (tx := "saw") (i := 17) (by decide +kernel) dX6_isName_196 ?_
      refine g_callV (t_J5_equals _ T86.tx ((K 17 (by decide)).tx (hn_le G86 hn))) (lw_V q703 q660 q661 q135 q662) okJ5_equals (S86.1) rfl rfl rfl rfl (Nat.le_of_ble_eq_true rfl) dX6_isName_198 (fun v1 h1 _ _ hq => ?_)
      obtain ⟨rfl, hh⟩ := hq
      rw [hh]
      show wp Δ (d + 4) muX6_isName 201 [(2, .int (-1)), (1, .ref w), (0, .ref a)] [.int (bI (eqW le z (txF 17) (txN 17)))] h86 _
      refine gb_eq (tgt := 207) dX6_isName_201 (by decide) (fun c_5 => ?_) (fun c_5 => ?_)
      ·
        have ceq := c_5
        refine g_iload_n dX6_isName_207 0 rfl ?_
        refine g_tabOut (tgt := 258) dX6_isName_208 (by decide) (by decide) ?_
        refine g_iconst (x := 1) dX6_isName_258 rfl ?_
        refine g_zret rfl (by first | exact Or.inl rfl | exact Or.inr rfl | exact bI_01 _) dX6_isName_259 ?_
        exact ⟨by rw [kwE_f (enf hk_14 (by rw [q17]; decide)) (enf hk_2 (by rw [q17]; decide)) (enf hk_7 (by rw [q17]; decide)) (enf hk_9 (by rw [q17]; decide)) (enf hk_1 (by rw [q17]; decide)) (enf hk_6 (by rw [q17]; decide)) (enf hk_11 (by rw [q17]; decide)) ceq, decide_eq_true e1]; rfl, F86, T86⟩
      ·
        have ceq := c_5
        refine g_bipush (x := 7) dX6_isName_204 rfl ?_
        refine g_istore_n (lv' := [(2, .int 7), (1, .ref w), (0, .ref a)]) dX6_isName_206 (by decide) rfl ?_
        refine g_iload_n dX6_isName_207 0 rfl ?_
        refine g_tabIn (tgt := 256) dX6_isName_208 (by decide) (by decide) rfl (by decide) ?_
        refine g_iconst (x := 0) dX6_isName_256 rfl ?_
        refine g_zret rfl (by first | exact Or.inl rfl | exact Or.inr rfl | exact bI_01 _) dX6_isName_257 ?_
        exact ⟨by rw [kwE_17 ceq, Bool.not_true, Bool.and_false]; rfl, F86, T86⟩
    by_cases q2 : hvS le z = 3020089
    ·
      refine g_look (tgt := 110) dX6_isName_21 (by decide) (by rw [q2]) (by decide) ?_
      refine g_aload_n dX6_isName_110 1 rfl ?_
      refine g_ldcS (tx := "bend") (i := 2) (by decide +kernel) dX6_isName_111 ?_
      refine g_callV (t_J5_equals _ T86.tx ((K 2 (by decide)).tx (hn_le G86 hn))) (lw_V q703 q660 q661 q135 q662) okJ5_equals (S86.1) rfl rfl rfl rfl (Nat.le_of_ble_eq_true rfl) dX6_isName_113 (fun v1 h1 _ _ hq => ?_)
      obtain ⟨rfl, hh⟩ := hq
      rw [hh]
      show wp Δ (d + 4) muX6_isName 116 [(2, .int (-1)), (1, .ref w), (0, .ref a)] [.int (bI (eqW le z (txF 2) (txN 2)))] h86 _
      refine gb_eq (tgt := 207) dX6_isName_116 (by decide) (fun c_6 => ?_) (fun c_6 => ?_)
      ·
        have ceq := c_6
        refine g_iload_n dX6_isName_207 0 rfl ?_
        refine g_tabOut (tgt := 258) dX6_isName_208 (by decide) (by decide) ?_
        refine g_iconst (x := 1) dX6_isName_258 rfl ?_
        refine g_zret rfl (by first | exact Or.inl rfl | exact Or.inr rfl | exact bI_01 _) dX6_isName_259 ?_
        exact ⟨by rw [kwE_f (enf hk_14 (by rw [q2]; decide)) ceq (enf hk_7 (by rw [q2]; decide)) (enf hk_9 (by rw [q2]; decide)) (enf hk_1 (by rw [q2]; decide)) (enf hk_6 (by rw [q2]; decide)) (enf hk_11 (by rw [q2]; decide)) (enf hk_17 (by rw [q2]; decide)), decide_eq_true e1]; rfl, F86, T86⟩
      ·
        have ceq := c_6
        refine g_iconst (x := 1) dX6_isName_119 rfl ?_
        refine g_istore_n (lv' := [(2, .int 1), (1, .ref w), (0, .ref a)]) dX6_isName_120 (by decide) rfl ?_
        refine g_goto (tgt := 207) dX6_isName_121 (by decide) ?_
        refine g_iload_n dX6_isName_207 0 rfl ?_
        refine g_tabIn (tgt := 256) dX6_isName_208 (by decide) (by decide) rfl (by decide) ?_
        refine g_iconst (x := 0) dX6_isName_256 rfl ?_
        refine g_zret rfl (by first | exact Or.inl rfl | exact Or.inr rfl | exact bI_01 _) dX6_isName_257 ?_
        exact ⟨by rw [kwE_2 ceq, Bool.not_true, Bool.and_false]; rfl, F86, T86⟩
    by_cases q7 : hvS le z = 99469088
    ·
      refine g_look (tgt := 124) dX6_isName_21 (by decide) (by rw [q7]) (by decide) ?_
      refine g_aload_n dX6_isName_124 1 rfl ?_
      refine g_ldcS (tx := "house") (i := 7) (by decide +kernel) dX6_isName_125 ?_
      refine g_callV (t_J5_equals _ T86.tx ((K 7 (by decide)).tx (hn_le G86 hn))) (lw_V q703 q660 q661 q135 q662) okJ5_equals (S86.1) rfl rfl rfl rfl (Nat.le_of_ble_eq_true rfl) dX6_isName_127 (fun v1 h1 _ _ hq => ?_)
      obtain ⟨rfl, hh⟩ := hq
      rw [hh]
      show wp Δ (d + 4) muX6_isName 130 [(2, .int (-1)), (1, .ref w), (0, .ref a)] [.int (bI (eqW le z (txF 7) (txN 7)))] h86 _
      refine gb_eq (tgt := 207) dX6_isName_130 (by decide) (fun c_7 => ?_) (fun c_7 => ?_)
      ·
        have ceq := c_7
        refine g_iload_n dX6_isName_207 0 rfl ?_
        refine g_tabOut (tgt := 258) dX6_isName_208 (by decide) (by decide) ?_
        refine g_iconst (x := 1) dX6_isName_258 rfl ?_
        refine g_zret rfl (by first | exact Or.inl rfl | exact Or.inr rfl | exact bI_01 _) dX6_isName_259 ?_
        exact ⟨by rw [kwE_f (enf hk_14 (by rw [q7]; decide)) (enf hk_2 (by rw [q7]; decide)) ceq (enf hk_9 (by rw [q7]; decide)) (enf hk_1 (by rw [q7]; decide)) (enf hk_6 (by rw [q7]; decide)) (enf hk_11 (by rw [q7]; decide)) (enf hk_17 (by rw [q7]; decide)), decide_eq_true e1]; rfl, F86, T86⟩
      ·
        have ceq := c_7
        refine g_iconst (x := 2) dX6_isName_133 rfl ?_
        refine g_istore_n (lv' := [(2, .int 2), (1, .ref w), (0, .ref a)]) dX6_isName_134 (by decide) rfl ?_
        refine g_goto (tgt := 207) dX6_isName_135 (by decide) ?_
        refine g_iload_n dX6_isName_207 0 rfl ?_
        refine g_tabIn (tgt := 256) dX6_isName_208 (by decide) (by decide) rfl (by decide) ?_
        refine g_iconst (x := 0) dX6_isName_256 rfl ?_
        refine g_zret rfl (by first | exact Or.inl rfl | exact Or.inr rfl | exact bI_01 _) dX6_isName_257 ?_
        exact ⟨by rw [kwE_7 ceq, Bool.not_true, Bool.and_false]; rfl, F86, T86⟩
    by_cases q11 : hvS le z = 106935314
    ·
      refine g_look (tgt := 180) dX6_isName_21 (by decide) (by rw [q11]) (by decide) ?_
      refine g_aload_n dX6_isName_180 1 rfl ?_
      refine g_ldcS (tx := "prize") (i := 11) (by decide +kernel) dX6_isName_181 ?_
      refine g_callV (t_J5_equals _ T86.tx ((K 11 (by decide)).tx (hn_le G86 hn))) (lw_V q703 q660 q661 q135 q662) okJ5_equals (S86.1) rfl rfl rfl rfl (Nat.le_of_ble_eq_true rfl) dX6_isName_183 (fun v1 h1 _ _ hq => ?_)
      obtain ⟨rfl, hh⟩ := hq
      rw [hh]
      show wp Δ (d + 4) muX6_isName 186 [(2, .int (-1)), (1, .ref w), (0, .ref a)] [.int (bI (eqW le z (txF 11) (txN 11)))] h86 _
      refine gb_eq (tgt := 207) dX6_isName_186 (by decide) (fun c_8 => ?_) (fun c_8 => ?_)
      ·
        have ceq := c_8
        refine g_iload_n dX6_isName_207 0 rfl ?_
        refine g_tabOut (tgt := 258) dX6_isName_208 (by decide) (by decide) ?_
        refine g_iconst (x := 1) dX6_isName_258 rfl ?_
        refine g_zret rfl (by first | exact Or.inl rfl | exact Or.inr rfl | exact bI_01 _) dX6_isName_259 ?_
        exact ⟨by rw [kwE_f (enf hk_14 (by rw [q11]; decide)) (enf hk_2 (by rw [q11]; decide)) (enf hk_7 (by rw [q11]; decide)) (enf hk_9 (by rw [q11]; decide)) (enf hk_1 (by rw [q11]; decide)) (enf hk_6 (by rw [q11]; decide)) ceq (enf hk_17 (by rw [q11]; decide)), decide_eq_true e1]; rfl, F86, T86⟩
      ·
        have ceq := c_8
        refine g_bipush (x := 6) dX6_isName_189 rfl ?_
        refine g_istore_n (lv' := [(2, .int 6), (1, .ref w), (0, .ref a)]) dX6_isName_191 (by decide) rfl ?_
        refine g_goto (tgt := 207) dX6_isName_192 (by decide) ?_
        refine g_iload_n dX6_isName_207 0 rfl ?_
        refine g_tabIn (tgt := 256) dX6_isName_208 (by decide) (by decide) rfl (by decide) ?_
        refine g_iconst (x := 0) dX6_isName_256 rfl ?_
        refine g_zret rfl (by first | exact Or.inl rfl | exact Or.inr rfl | exact bI_01 _) dX6_isName_257 ?_
        exact ⟨by rw [kwE_11 ceq, Bool.not_true, Bool.and_false]; rfl, F86, T86⟩
    by_cases q14 : hvS le z = 1085876340
    ·
      refine g_look (tgt := 96) dX6_isName_21 (by decide) (by rw [q14]) (by decide) ?_
      refine g_aload_n dX6_isName_96 1 rfl ?_
      refine g_ldcS (tx := "regatta") (i := 14) (by decide +kernel) dX6_isName_97 ?_
      refine g_callV (t_J5_equals _ T86.tx ((K 14 (by decide)).tx (hn_le G86 hn))) (lw_V q703 q660 q661 q135 q662) okJ5_equals (S86.1) rfl rfl rfl rfl (Nat.le_of_ble_eq_true rfl) dX6_isName_99 (fun v1 h1 _ _ hq => ?_)
      obtain ⟨rfl, hh⟩ := hq
      rw [hh]
      show wp Δ (d + 4) muX6_isName 102 [(2, .int (-1)), (1, .ref w), (0, .ref a)] [.int (bI (eqW le z (txF 14) (txN 14)))] h86 _
      refine gb_eq (tgt := 207) dX6_isName_102 (by decide) (fun c_9 => ?_) (fun c_9 => ?_)
      ·
        have ceq := c_9
        refine g_iload_n dX6_isName_207 0 rfl ?_
        refine g_tabOut (tgt := 258) dX6_isName_208 (by decide) (by decide) ?_
        refine g_iconst (x := 1) dX6_isName_258 rfl ?_
        refine g_zret rfl (by first | exact Or.inl rfl | exact Or.inr rfl | exact bI_01 _) dX6_isName_259 ?_
        exact ⟨by rw [kwE_f ceq (enf hk_2 (by rw [q14]; decide)) (enf hk_7 (by rw [q14]; decide)) (enf hk_9 (by rw [q14]; decide)) (enf hk_1 (by rw [q14]; decide)) (enf hk_6 (by rw [q14]; decide)) (enf hk_11 (by rw [q14]; decide)) (enf hk_17 (by rw [q14]; decide)), decide_eq_true e1]; rfl, F86, T86⟩
      ·
        have ceq := c_9
        refine g_iconst (x := 0) dX6_isName_105 rfl ?_
        refine g_istore_n (lv' := [(2, .int 0), (1, .ref w), (0, .ref a)]) dX6_isName_106 (by decide) rfl ?_
        refine g_goto (tgt := 207) dX6_isName_107 (by decide) ?_
        refine g_iload_n dX6_isName_207 0 rfl ?_
        refine g_tabIn (tgt := 256) dX6_isName_208 (by decide) (by decide) rfl (by decide) ?_
        refine g_iconst (x := 0) dX6_isName_256 rfl ?_
        refine g_zret rfl (by first | exact Or.inl rfl | exact Or.inr rfl | exact bI_01 _) dX6_isName_257 ?_
        exact ⟨by rw [kwE_14 ceq, Bool.not_true, Bool.and_false]; rfl, F86, T86⟩
    refine g_look (tgt := 207) dX6_isName_21 (by decide) (off := 186) ((off_n (nk q1 (by decide))).trans ((off_n (nk q6 (by decide))).trans ((off_n (nk q9 (by decide))).trans ((off_n (nk q17 (by decide))).trans ((off_n (nk q2 (by decide))).trans ((off_n (nk q7 (by decide))).trans ((off_n (nk q11 (by decide))).trans ((off_n (nk q14 (by decide))).trans rfl)))))))) (by decide) ?_
    refine g_iload_n dX6_isName_207 0 rfl ?_
    refine g_tabOut (tgt := 258) dX6_isName_208 (by decide) (by decide) ?_
    refine g_iconst (x := 1) dX6_isName_258 rfl ?_
    refine g_zret rfl (by first | exact Or.inl rfl | exact Or.inr rfl | exact bI_01 _) dX6_isName_259 ?_
    exact ⟨by rw [kwE_f (enf hk_14 q14) (enf hk_2 q2) (enf hk_7 q7) (enf hk_9 q9) (enf hk_1 q1) (enf hk_6 q6) (enf hk_11 q11) (enf hk_17 q17), decide_eq_true e1]; rfl, F86, T86⟩
  ·
    have e1 : ¬ s = 2 := c_1
    refine g_iconst (x := 0) dX6_isName_8 rfl ?_
    refine g_zret rfl (by first | exact Or.inl rfl | exact Or.inr rfl | exact bI_01 _) dX6_isName_9 ?_
    exact ⟨by rw [decide_eq_false e1]; rfl, (Fr.refl (fun q => q = w) _), S⟩
