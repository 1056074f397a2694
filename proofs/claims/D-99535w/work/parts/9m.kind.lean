set_option maxRecDepth 100000 in
theorem t_X8_init_8 {Δ : Cx} {h : Hp} (d : Nat) (o : Nat) (s : Nat) (ho : ce Δ h o = some (8, 0, ob [.null, .int 0, .int 0, .int 0])) (hn : n0 Δ ≤ o) : mt Δ (d + 1) muX8_init [.ref o, .ref s] h (fun v h' => v = none ∧ Fr Δ (fun b => b = o) 0 0 h h' ∧ ce Δ h' o = some (8, 0, ob [.ref s, .int 0, .int 0, .int 0])) := by
  refine mt_of (lv0 := [(0, .ref o), (1, .ref s)]) rfl rfl (Nat.le_of_ble_eq_true rfl) rfl ?_
  refine g_aload_n dX8_init_0 0 rfl ?_
  refine g_objInit q868 q162 q163 (Nat.le_of_ble_eq_true rfl) dX8_init_1 ?_
  refine g_aload_n dX8_init_4 0 rfl ?_
  refine g_aload_n dX8_init_5 1 rfl ?_
  refine gh_putF (f2 := ob [.ref s, .int 0, .int 0, .int 0]) f_8_0 q869 (ho) (by omega) rfl rfl dX8_init_6 rfl rfl (ob_u [.null, .int 0, .int 0, .int 0] 0 (.ref s) (Nat.le_of_ble_eq_true rfl)) ?_
  refine wp_put (Fr.refl (fun b => b = o) _) (fun q => by first | exact absurd q (by omega) | exact Or.inl rfl | exact Or.inr rfl | exact Or.inr (Or.inl rfl) | exact Or.inr (Or.inr rfl) | exact Or.inr ⟨rfl, by omega⟩ | exact rfl | (simp only []; omega)) (ho) (by omega) (fun u144 F144 z144 c144 k144 => ?_)
  refine g_vret rfl dX8_init_9 ?_
  exact ⟨rfl, F144, c144⟩
set_option maxRecDepth 100000 in
theorem t_X8_init_9 {Δ : Cx} {h : Hp} (d : Nat) (o : Nat) (s : Nat) (ho : ce Δ h o = some (9, 0, ob [.null, .int 0, .int 0, .int 0])) (hn : n0 Δ ≤ o) : mt Δ (d + 1) muX8_init [.ref o, .ref s] h (fun v h' => v = none ∧ Fr Δ (fun b => b = o) 0 0 h h' ∧ ce Δ h' o = some (9, 0, ob [.ref s, .int 0, .int 0, .int 0])) := by
  refine mt_of (lv0 := [(0, .ref o), (1, .ref s)]) rfl rfl (Nat.le_of_ble_eq_true rfl) rfl ?_
  refine g_aload_n dX8_init_0 0 rfl ?_
  refine g_objInit q868 q162 q163 (Nat.le_of_ble_eq_true rfl) dX8_init_1 ?_
  refine g_aload_n dX8_init_4 0 rfl ?_
  refine g_aload_n dX8_init_5 1 rfl ?_
  refine gh_putF (f2 := ob [.ref s, .int 0, .int 0, .int 0]) f_9_0 q869 (ho) (by omega) rfl rfl dX8_init_6 rfl rfl (ob_u [.null, .int 0, .int 0, .int 0] 0 (.ref s) (Nat.le_of_ble_eq_true rfl)) ?_
  refine wp_put (Fr.refl (fun b => b = o) _) (fun q => by first | exact absurd q (by omega) | exact Or.inl rfl | exact Or.inr rfl | exact Or.inr (Or.inl rfl) | exact Or.inr (Or.inr rfl) | exact Or.inr ⟨rfl, by omega⟩ | exact rfl | (simp only []; omega)) (ho) (by omega) (fun u145 F145 z145 c145 k145 => ?_)
  refine g_vret rfl dX8_init_9 ?_
  exact ⟨rfl, F145, c145⟩
set_option maxRecDepth 100000 in
theorem t_X8_init_10 {Δ : Cx} {h : Hp} (d : Nat) (o : Nat) (s : Nat) (ho : ce Δ h o = some (10, 0, ob [.null, .int 0, .int 0, .int 0])) (hn : n0 Δ ≤ o) : mt Δ (d + 1) muX8_init [.ref o, .ref s] h (fun v h' => v = none ∧ Fr Δ (fun b => b = o) 0 0 h h' ∧ ce Δ h' o = some (10, 0, ob [.ref s, .int 0, .int 0, .int 0])) := by
  refine mt_of (lv0 := [(0, .ref o), (1, .ref s)]) rfl rfl (Nat.le_of_ble_eq_true rfl) rfl ?_
  refine g_aload_n dX8_init_0 0 rfl ?_
  refine g_objInit q868 q162 q163 (Nat.le_of_ble_eq_true rfl) dX8_init_1 ?_
  refine g_aload_n dX8_init_4 0 rfl ?_
  refine g_aload_n dX8_init_5 1 rfl ?_
  refine gh_putF (f2 := ob [.ref s, .int 0, .int 0, .int 0]) f_10_0 q869 (ho) (by omega) rfl rfl dX8_init_6 rfl rfl (ob_u [.null, .int 0, .int 0, .int 0] 0 (.ref s) (Nat.le_of_ble_eq_true rfl)) ?_
  refine wp_put (Fr.refl (fun b => b = o) _) (fun q => by first | exact absurd q (by omega) | exact Or.inl rfl | exact Or.inr rfl | exact Or.inr (Or.inl rfl) | exact Or.inr (Or.inr rfl) | exact Or.inr ⟨rfl, by omega⟩ | exact rfl | (simp only []; omega)) (ho) (by omega) (fun u146 F146 z146 c146 k146 => ?_)
  refine g_vret rfl dX8_init_9 ?_
  exact ⟨rfl, F146, c146⟩
set_option maxRecDepth 100000 in
theorem t_X9_init {Δ : Cx} {h : Hp} (d : Nat) (o : Nat) (s : Nat) (ho : ce Δ h o = some (8, 0, ob [.null, .int 0, .int 0, .int 0])) (hn : n0 Δ ≤ o) : mt Δ (d + 2) muX9_init [.ref o, .ref s] h (fun v h' => v = none ∧ Fr Δ (fun b => b = o) 0 0 h h' ∧ ce Δ h' o = some (8, 0, ob [.ref s, .int 0, .int 0, .int 0])) := by
  refine mt_of (lv0 := [(0, .ref o), (1, .ref s)]) rfl rfl (Nat.le_of_ble_eq_true rfl) rfl ?_
  refine g_aload_n dX9_init_0 0 rfl ?_
  refine g_aload_n dX9_init_1 1 rfl ?_
  refine g_callI (t_X8_init_8 _ o s ho hn) (lw_meth q867) rfl q145 q894 q866 rfl okX8_init rfl rfl (Nat.le_of_ble_eq_true rfl) dX9_init_2 (fun v1 h1 _ _ hq => ?_)
  obtain ⟨rfl, G1, r1⟩ := hq
  show wp Δ (d + 2) muX9_init 5 [(0, .ref o), (1, .ref s)] [] h1 _
  refine g_vret rfl dX9_init_5 ?_
  exact ⟨rfl, G1, r1⟩
set_option maxRecDepth 100000 in
theorem t_X10_init {Δ : Cx} {h : Hp} (d : Nat) (o : Nat) (s : Nat) (ho : ce Δ h o = some (9, 0, ob [.null, .int 0, .int 0, .int 0])) (hn : n0 Δ ≤ o) : mt Δ (d + 2) muX10_init [.ref o, .ref s] h (fun v h' => v = none ∧ Fr Δ (fun b => b = o) 0 0 h h' ∧ ce Δ h' o = some (9, 0, ob [.ref s, .int 0, .int 0, .int 0])) := by
  refine mt_of (lv0 := [(0, .ref o), (1, .ref s)]) rfl rfl (Nat.le_of_ble_eq_true rfl) rfl ?_
  refine g_aload_n dX10_init_0 0 rfl ?_
  refine g_aload_n dX10_init_1 1 rfl ?_
  refine g_callI (t_X8_init_9 _ o s ho hn) (lw_meth q867) rfl q145 q905 q866 rfl okX8_init rfl rfl (Nat.le_of_ble_eq_true rfl) dX10_init_2 (fun v1 h1 _ _ hq => ?_)
  obtain ⟨rfl, G1, r1⟩ := hq
  show wp Δ (d + 2) muX10_init 5 [(0, .ref o), (1, .ref s)] [] h1 _
  refine g_vret rfl dX10_init_5 ?_
  exact ⟨rfl, G1, r1⟩
set_option maxRecDepth 100000 in
theorem t_X11_init {Δ : Cx} {h : Hp} (d : Nat) (o : Nat) (s : Nat) (ho : ce Δ h o = some (10, 0, ob [.null, .int 0, .int 0, .int 0])) (hn : n0 Δ ≤ o) : mt Δ (d + 2) muX11_init [.ref o, .ref s] h (fun v h' => v = none ∧ Fr Δ (fun b => b = o) 0 0 h h' ∧ ce Δ h' o = some (10, 0, ob [.ref s, .int 0, .int 0, .int 0])) := by
  refine mt_of (lv0 := [(0, .ref o), (1, .ref s)]) rfl rfl (Nat.le_of_ble_eq_true rfl) rfl ?_
  refine g_aload_n dX11_init_0 0 rfl ?_
  refine g_aload_n dX11_init_1 1 rfl ?_
  refine g_callI (t_X8_init_10 _ o s ho hn) (lw_meth q867) rfl q145 q916 q866 rfl okX8_init rfl rfl (Nat.le_of_ble_eq_true rfl) dX11_init_2 (fun v1 h1 _ _ hq => ?_)
  obtain ⟨rfl, G1, r1⟩ := hq
  show wp Δ (d + 2) muX11_init 5 [(0, .ref o), (1, .ref s)] [] h1 _
  refine g_vret rfl dX11_init_5 ?_
  exact ⟨rfl, G1, r1⟩
theorem df_6 : ∀ k, k < 3 → defaultValue (tyX7 k) = ob [.null, .int 0, .int 0] k := by
  intro k hk
  rcases k with _ | _ | _ | k <;> first | rfl | omega
theorem df_7 : ∀ k, k < 4 → defaultValue (tyX8 k) = ob [.null, .int 0, .int 0, .int 0] k := by
  intro k hk
  rcases k with _ | _ | _ | _ | k <;> first | rfl | omega
theorem df_8 : ∀ k, k < 4 → defaultValue (tyX9 k) = ob [.null, .int 0, .int 0, .int 0] k := by
  intro k hk
  rcases k with _ | _ | _ | _ | k <;> first | rfl | omega
theorem df_9 : ∀ k, k < 4 → defaultValue (tyX10 k) = ob [.null, .int 0, .int 0, .int 0] k := by
  intro k hk
  rcases k with _ | _ | _ | _ | k <;> first | rfl | omega
theorem df_10 : ∀ k, k < 4 → defaultValue (tyX11 k) = ob [.null, .int 0, .int 0, .int 0] k := by
  intro k hk
  rcases k with _ | _ | _ | _ | k <;> first | rfl | omega
theorem df_11 : ∀ k, k < 5 → defaultValue (tyX12 k) = ob [.null, .int 0, .int 0, .int 0, .int 0] k := by
  intro k hk
  rcases k with _ | _ | _ | _ | _ | k <;> first | rfl | omega
theorem df_12 : ∀ k, k < 3 → defaultValue (tyX13 k) = ob [.int 0, .int 0, .int 0] k := by
  intro k hk
  rcases k with _ | _ | _ | k <;> first | rfl | omega
theorem fr_c0 {Δ : Cx} {h h2 : Hp} (K0 : TK0 Δ) (hn : n0 Δ ≤ h.1) (F : Fr Δ (fun b => b = cT Δ 0) 0 0 h h2) : ∀ b x, ce Δ h b = some x → ce Δ h2 b = some x := by
  intro b x q
  by_cases e : b = cT Δ 0
  · obtain ⟨b0, f0, k1, k2, k3, k4⟩ := K0
    rw [e] at q ⊢
    rw [ce_c hn k1] at q
    rw [ce_c (Nat.le_trans hn F.1.1) k1]
    exact q
  · exact F.2 b x q e
theorem tg_ne {c : Nat → Option Cel} {a b : Nat} {x y : Cel} (ha : c a = some x) (hb : c b = some y) (h : x.1 ≠ y.1) : a ≠ b := ce_ne ha hb (Or.inl h)
section HKL
variable {P : Pk}
theorem hk_n (h : ¬ P.f = 0) : hkV P = -1 := by
  unfold hkV
  rw [if_neg (bf (show isT 5 P = false from isW_1 h)), if_neg (bf (show isT 20 P = false from isW_1 h)), if_neg (bf (show isT 22 P = false from isW_1 h)), if_neg (bf (show isT 12 P = false from isW_1 h))]
theorem hk_0 (h5 : P.f = 0 → isT 5 P = false) (h20 : P.f = 0 → isT 20 P = false) (h22 : P.f = 0 → isT 22 P = false) (h12 : P.f = 0 → isT 12 P = false) : wgP 1 P.a P = hkW P := by
  have e : hkV P = -1 := by
    by_cases c : P.f = 0
    · unfold hkV
      rw [if_neg (bf (h5 c)), if_neg (bf (h20 c)), if_neg (bf (h22 c)), if_neg (bf (h12 c))]
    · exact hk_n c
  unfold hkW
  rw [e, if_neg (by decide)]
theorem hk_p {k : Int32} (hk : 0 ≤ k) (h : P.f = 0 → hkV P = k) : P = hkW P := by
  unfold hkW
  by_cases c : P.f = 0
  · rw [h c, if_pos hk]
  · rw [hk_n c, if_neg (by decide), wg_n c]
theorem hk_v {k : Int32} (hk : 0 ≤ k) (h : P.f = 0 → hkV P = k) (h2 : (hkW P).f = 0) : hkV P = k := by
  rw [← hk_p hk h] at h2
  exact h h2
end HKL
set_option maxRecDepth 100000 in
theorem t_X3_kind {Δ : Cx} {h : Hp} (d : Nat) {E : Ev} {L : Nat} {c0 : Nat → Option Cel} {P : Pk} (EK : EOK Δ E) (X : PX Δ E L h c0 P) (s : Nat) : mt Δ (d + 5) muX3_kind [.ref E.rd, .ref s] h (fun v h' => ∃ a c1, v = some (.ref a) ∧ Sub c0 c1 ∧ PX Δ E (L + 1) h' c1 (hkW P) ∧ ∃ kd, kd ≤ 3 ∧ c1 a = some (7 + kd, 0, ob [.ref s, .int 0, .int 0, .int 0]) ∧ h.1 ≤ a ∧ ((hkW P).f = 0 → hkV P = nI kd)) := by
  obtain ⟨w0, now0, e0, ft0, fp0, Q0, X0⟩ := id X
  obtain ⟨hrd0, htk0, T0, ⟨he0, hQe0, hen0, hkk0⟩, hst0, hro0, hsub0, hcr0, hct0, hcp0, hcw0⟩ := id X0
  obtain ⟨num0, z0, le0, hnow0, S0, h3_0, h2_0⟩ := id T0
  obtain ⟨b0, sh0, sz0, B0⟩ := id S0
  refine mt_of (lv0 := [(0, .ref E.rd), (1, .ref s)]) rfl rfl (Nat.le_of_ble_eq_true rfl) rfl ?_
  refine g_aload_n dX3_kind_0 0 rfl ?_
  refine gh_get (x := .ref now0) f_2_2 q580 (hrd0) dX3_kind_1 rfl ?_
  refine gh_get (x := .int (srt Q0.k)) f_5_0 q372 (hnow0) dX3_kind_4 rfl ?_
  refine g_iconst (x := 2) dX3_kind_7 rfl ?_
  refine g_icmp_ne (tgt := 21) dX3_kind_8 (by decide) (fun c_1 => ?_) (fun c_1 => ?_)
  ·
    have hs2 : ¬ srt Q0.k = 2 := c_1
    refine g_ldcS (tx := "") (i := 0) (by decide +kernel) dX3_kind_21 ?_
    refine g_astore_n (lv' := [(2, .ref (cT Δ 0)), (0, .ref E.rd), (1, .ref s)]) dX3_kind_23 (by decide) rfl ?_
    refine g_iconst (x := -1) dX3_kind_24 rfl ?_
    refine g_istore_n (lv' := [(3, .int (-1)), (2, .ref (cT Δ 0)), (0, .ref E.rd), (1, .ref s)]) dX3_kind_25 (by decide) rfl ?_
    refine g_aload_n dX3_kind_26 1 rfl ?_
    obtain ⟨f_, bz, shz, szz, SZ⟩ := st_0 EK.2.2.2.2.2.1 (px_n0 EK (⟨_, _, _, _, _, _, X0⟩))
    refine g_callV (t_J5_hashCode _ SZ) (lw_V q605 q606 q607 q135 q608) okJ5_hashCode SZ.1 rfl rfl rfl rfl (Nat.le_of_ble_eq_true rfl) dX3_kind_27 (fun v1 h147 _ _ hq => ?_)
    obtain ⟨rfl, F147, -⟩ := hq
    have Y147 := px_more (m := 0) (h2 := h147) (⟨_, _, _, _, _, _, X0⟩ : PX Δ E L h c0 P) (by have := F147.1; omega) (by have := F147.1; omega) (fr_c0 EK.2.2.2.2.2.1 (px_n0 EK (⟨_, _, _, _, _, _, X0⟩)) F147)
    show wp Δ (d + 5) muX3_kind 30 [(3, .int (-1)), (2, .ref (cT Δ 0)), (0, .ref E.rd), (1, .ref s)] [.int 0] h147 _
    obtain ⟨w147, now147, e147, ft147, fp147, Q147, X147⟩ := id Y147
    obtain ⟨hrd147, htk147, T147, ⟨he147, hQe147, hen147, hkk147⟩, hst147, hro147, hsub147, hcr147, hct147, hcp147, hcw147⟩ := id X147
    obtain ⟨num147, z147, le147, hnow147, S147, h3_147, h2_147⟩ := id T147
    obtain ⟨b147, sh147, sz147, B147⟩ := id S147
    refine g_look (tgt := 125) dX3_kind_30 (by decide) (off := 95) (by decide) (by decide) ?_
    refine g_iload_n dX3_kind_125 0 rfl ?_
    refine g_tabOut (tgt := 192) dX3_kind_126 (by decide) (by decide) ?_
    refine g_aload_n dX3_kind_192 2 rfl ?_
    refine g_iconst (x := 1) dX3_kind_193 rfl ?_
    refine g_callV (t_X3_wrong _ EK (⟨_, _, _, _, _, _, X147⟩) 1 (by decide)) (lw_V q678 q680 qs4 q129 q681) okX3_wrong (hrd147) rfl rfl rfl rfl (Nat.le_of_ble_eq_true rfl) dX3_kind_194 (fun v1 h148 _ _ hq => ?_)
    obtain ⟨rfl, Y148⟩ := hq
    show wp Δ (d + 5) muX3_kind 197 [(3, .int (-1)), (2, .ref (cT Δ 0)), (0, .ref E.rd), (1, .ref s)] [] h148 _
    obtain ⟨w148, now148, e148, ft148, fp148, Q148, X148⟩ := id Y148
    obtain ⟨hrd148, htk148, T148, ⟨he148, hQe148, hen148, hkk148⟩, hst148, hro148, hsub148, hcr148, hct148, hcp148, hcw148⟩ := id X148
    obtain ⟨num148, z148, le148, hnow148, S148, h3_148, h2_148⟩ := id T148
    obtain ⟨b148, sh148, sz148, B148⟩ := id S148
    refine g_new (f := ob [.null, .int 0, .int 0, .int 0]) k_7 df_7 q863 q864 q145 dX3_kind_197 (fun n149 => ?_)
    refine wp_new (Fr.refl (fun _ => False) _) n149 (fun u149 F149 z149 c149 k149 => ?_)
    obtain ⟨cc149, Y149, sub149, mx149⟩ := px_max (px_more (m := 1) (h2 := u149) (⟨_, _, _, _, _, _, X148⟩ : PX Δ E L h148 c0 (wgP 1 P.a P)) (by have := F149.1; omega) (by have := F149.1; omega) k149)
    have cn149 := mx149 _ _ c149 (by show 7 ≠ 2; omega) (by show 7 ≠ 3; omega) (by show 7 ≠ 16; omega)
    obtain ⟨w149, now149, e149, ft149, fp149, Q149, X149⟩ := id Y149
    obtain ⟨hrd149, htk149, T149, ⟨he149, hQe149, hen149, hkk149⟩, hst149, hro149, hsub149, hcr149, hct149, hcp149, hcw149⟩ := id X149
    obtain ⟨num149, z149, le149, hnow149, S149, h3_149, h2_149⟩ := id T149
    obtain ⟨b149, sh149, sz149, B149⟩ := id S149
    refine g_dup dX3_kind_200 rfl ?_
    refine g_aload_n dX3_kind_201 3 rfl ?_
    refine g_callI (t_X8_init _ (h148.1) s (hsub149 _ _ (cn149)) (by omega)) (lw_meth q867) rfl q145 q865 q866 rfl okX8_init rfl rfl (Nat.le_of_ble_eq_true rfl) dX3_kind_202 (fun v1 u150 _ _ hq => ?_)
    obtain ⟨rfl, F150, c150⟩ := hq
    have k150 : ∀ b z, ce Δ u149 b = some z → b ≠ h148.1 → ce Δ u150 b = some z := fun b z q n => F150.2 b z q n
    show wp Δ (d + 5) muX3_kind 205 [(3, .int (-1)), (2, .ref (cT Δ 0)), (0, .ref E.rd), (1, .ref s)] [.ref h148.1] u150 _
    have Y150 := px_put (h2 := u150) (⟨_, _, _, _, _, _, X149⟩ : PX Δ E (L + 1) u149 cc149 (wgP 1 P.a P)) (cn149) ⟨by show 7 ≠ 2; omega, by show 7 ≠ 3; omega, by show 7 ≠ 5; omega, by show 7 ≠ 16; omega, by show 7 ≠ 102; omega⟩ (by have := F150.1; omega) (by have := F150.1; omega) c150 k150
    obtain ⟨cd150, hcd150⟩ : ∃ c : Nat → Option Cel, c = (fun b => if b = h148.1 then some (7, 0, ob [.ref s, .int 0, .int 0, .int 0]) else cc149 b) := ⟨_, rfl⟩
    rw [← hcd150] at Y150
    have kp150 : ∀ b x, cc149 b = some x → b ≠ h148.1 → cd150 b = some x := fun b x q n => by rw [hcd150]; exact (if_neg n).trans q
    have kn150 : cd150 (h148.1) = some (7, 0, ob [.ref s, .int 0, .int 0, .int 0]) := by rw [hcd150]; exact if_pos rfl
    obtain ⟨w150, now150, e150, ft150, fp150, Q150, X150⟩ := id Y150
    obtain ⟨hrd150, htk150, T150, ⟨he150, hQe150, hen150, hkk150⟩, hst150, hro150, hsub150, hcr150, hct150, hcp150, hcw150⟩ := id X150
    obtain ⟨num150, z150, le150, hnow150, S150, h3_150, h2_150⟩ := id T150
    obtain ⟨b150, sh150, sz150, B150⟩ := id S150
    refine g_aret rfl (by first | exact Or.inl ⟨_, rfl⟩ | exact Or.inr ⟨_, rfl⟩) (by first | exact Or.inl rfl | exact Or.inr ⟨_, rfl⟩) dX3_kind_205 ?_
    have en := hk_0 (fun hf => by have q := st_q hst0 hf; exact isW_2 (fun z => hs2 (by rw [q, z]; decide))) (fun hf => by have q := st_q hst0 hf; exact isW_2 (fun z => hs2 (by rw [q, z]; decide))) (fun hf => by have q := st_q hst0 hf; exact isW_2 (fun z => hs2 (by rw [q, z]; decide))) (fun hf => by have q := st_q hst0 hf; exact isW_2 (fun z => hs2 (by rw [q, z]; decide)))
    refine ⟨_, cd150, rfl, (fun b x q => kp150 b x ((fun b x q => sub149 b x ((fun b x (q : c0 b = some x) => q) b x q)) b x q) (fun z => by have := ce_lt (hsub0 b x q); rw [z] at this; omega)), by rw [← en]; exact ⟨_, _, _, _, _, _, X150⟩, ⟨0, by omega, kn150, by omega, fun hz => absurd hz (by rw [← en]; exact f_wgN)⟩⟩
  ·
    have hs2 : decide (srt Q0.k = 2) = true := decide_eq_true c_1
    refine g_aload_n dX3_kind_11 0 rfl ?_
    refine gh_get (x := .ref now0) f_2_2 q580 (hrd0) dX3_kind_12 rfl ?_
    refine gh_get (x := .ref w0) f_5_3 q378 (hnow0) dX3_kind_15 rfl ?_
    refine g_goto (tgt := 23) dX3_kind_18 (by decide) ?_
    refine g_astore_n (lv' := [(2, .ref w0), (0, .ref E.rd), (1, .ref s)]) dX3_kind_23 (by decide) rfl ?_
    refine g_iconst (x := -1) dX3_kind_24 rfl ?_
    refine g_istore_n (lv' := [(3, .int (-1)), (2, .ref w0), (0, .ref E.rd), (1, .ref s)]) dX3_kind_25 (by decide) rfl ?_
    refine g_aload_n dX3_kind_26 1 rfl ?_
    refine g_callV (t_J5_hashCode _ B0) (lw_V q605 q606 q607 q135 q608) okJ5_hashCode B0.1 rfl rfl rfl rfl (Nat.le_of_ble_eq_true rfl) dX3_kind_27 (fun v1 h151 _ _ hq => ?_)
    obtain ⟨rfl, F151, shK, szK, SBK⟩ := hq
    have XN151 := px_hash EK X0 F151 ⟨num0, z0, le0, F151.2 _ _ hnow0 (tg_ne hnow0 B0.1 (by show 5 ≠ 16; omega)), ⟨_, _, _, SBK⟩, h3_0, h2_0⟩
    have SNK : ST Δ (ce Δ h151) w0 z0 le0 := ⟨_, _, _, SBK⟩
    show wp Δ (d + 5) muX3_kind 30 [(3, .int (-1)), (2, .ref w0), (0, .ref E.rd), (1, .ref s)] [.int (hvS le0 z0)] h151 _
    obtain ⟨w151, now151, e151, ft151, fp151, Q151, X151⟩ := id (⟨_, _, _, _, _, _, XN151⟩ : PX Δ E L h151 c0 P)
    obtain ⟨hrd151, htk151, T151, ⟨he151, hQe151, hen151, hkk151⟩, hst151, hro151, hsub151, hcr151, hct151, hcp151, hcw151⟩ := id X151
    obtain ⟨num151, z151, le151, hnow151, S151, h3_151, h2_151⟩ := id T151
    obtain ⟨b151, sh151, sz151, B151⟩ := id S151
    by_cases q20 : hvS le0 z0 = -1423437198
    ·
      refine g_look (tgt := 86) dX3_kind_30 (by decide) (by rw [q20]) (by decide) ?_
      refine g_aload_n dX3_kind_86 1 rfl ?_
      refine g_ldcS (tx := "terrace") (i := 20) (by decide +kernel) dX3_kind_87 ?_
      refine g_callV (t_J5_equals _ SNK.tx ((EK.2.2.2.2.1 20 (by decide)).tx (px_n0 EK (⟨_, _, _, _, _, _, X151⟩)))) (lw_V q659 q660 q661 q135 q662) okJ5_equals SBK.1 rfl rfl rfl rfl (Nat.le_of_ble_eq_true rfl) dX3_kind_89 (fun v1 h1 _ _ hq => ?_)
      obtain ⟨rfl, hh⟩ := hq
      rw [hh]
      show wp Δ (d + 5) muX3_kind 92 [(3, .int (-1)), (2, .ref w0), (0, .ref E.rd), (1, .ref s)] [.int (bI (eqW le0 z0 (txF 20) (txN 20)))] h151 _
      refine gb_eq (tgt := 125) dX3_kind_92 (by decide) (fun c_2 => ?_) (fun c_2 => ?_)
      ·
        have ceq := c_2
        refine g_iload_n dX3_kind_125 0 rfl ?_
        refine g_tabOut (tgt := 192) dX3_kind_126 (by decide) (by decide) ?_
        refine g_aload_n dX3_kind_192 2 rfl ?_
        refine g_iconst (x := 1) dX3_kind_193 rfl ?_
        refine g_callV (t_X3_wrong _ EK (⟨_, _, _, _, _, _, X151⟩) 1 (by decide)) (lw_V q678 q680 qs4 q129 q681) okX3_wrong (hrd151) rfl rfl rfl rfl (Nat.le_of_ble_eq_true rfl) dX3_kind_194 (fun v1 h152 _ _ hq => ?_)
        obtain ⟨rfl, Y152⟩ := hq
        show wp Δ (d + 5) muX3_kind 197 [(3, .int (-1)), (2, .ref w0), (0, .ref E.rd), (1, .ref s)] [] h152 _
        obtain ⟨w152, now152, e152, ft152, fp152, Q152, X152⟩ := id Y152
        obtain ⟨hrd152, htk152, T152, ⟨he152, hQe152, hen152, hkk152⟩, hst152, hro152, hsub152, hcr152, hct152, hcp152, hcw152⟩ := id X152
        obtain ⟨num152, z152, le152, hnow152, S152, h3_152, h2_152⟩ := id T152
        obtain ⟨b152, sh152, sz152, B152⟩ := id S152
        refine g_new (f := ob [.null, .int 0, .int 0, .int 0]) k_7 df_7 q863 q864 q145 dX3_kind_197 (fun n153 => ?_)
        refine wp_new (Fr.refl (fun _ => False) _) n153 (fun u153 F153 z153 c153 k153 => ?_)
        obtain ⟨cc153, Y153, sub153, mx153⟩ := px_max (px_more (m := 1) (h2 := u153) (⟨_, _, _, _, _, _, X152⟩ : PX Δ E L h152 c0 (wgP 1 P.a P)) (by have := F153.1; omega) (by have := F153.1; omega) k153)
        have cn153 := mx153 _ _ c153 (by show 7 ≠ 2; omega) (by show 7 ≠ 3; omega) (by show 7 ≠ 16; omega)
        obtain ⟨w153, now153, e153, ft153, fp153, Q153, X153⟩ := id Y153
        obtain ⟨hrd153, htk153, T153, ⟨he153, hQe153, hen153, hkk153⟩, hst153, hro153, hsub153, hcr153, hct153, hcp153, hcw153⟩ := id X153
        obtain ⟨num153, z153, le153, hnow153, S153, h3_153, h2_153⟩ := id T153
        obtain ⟨b153, sh153, sz153, B153⟩ := id S153
        refine g_dup dX3_kind_200 rfl ?_
        refine g_aload_n dX3_kind_201 3 rfl ?_
        refine g_callI (t_X8_init _ (h152.1) s (hsub153 _ _ (cn153)) (by omega)) (lw_meth q867) rfl q145 q865 q866 rfl okX8_init rfl rfl (Nat.le_of_ble_eq_true rfl) dX3_kind_202 (fun v1 u154 _ _ hq => ?_)
        obtain ⟨rfl, F154, c154⟩ := hq
        have k154 : ∀ b z, ce Δ u153 b = some z → b ≠ h152.1 → ce Δ u154 b = some z := fun b z q n => F154.2 b z q n
        show wp Δ (d + 5) muX3_kind 205 [(3, .int (-1)), (2, .ref w0), (0, .ref E.rd), (1, .ref s)] [.ref h152.1] u154 _
        have Y154 := px_put (h2 := u154) (⟨_, _, _, _, _, _, X153⟩ : PX Δ E (L + 1) u153 cc153 (wgP 1 P.a P)) (cn153) ⟨by show 7 ≠ 2; omega, by show 7 ≠ 3; omega, by show 7 ≠ 5; omega, by show 7 ≠ 16; omega, by show 7 ≠ 102; omega⟩ (by have := F154.1; omega) (by have := F154.1; omega) c154 k154
        obtain ⟨cd154, hcd154⟩ : ∃ c : Nat → Option Cel, c = (fun b => if b = h152.1 then some (7, 0, ob [.ref s, .int 0, .int 0, .int 0]) else cc153 b) := ⟨_, rfl⟩
        rw [← hcd154] at Y154
        have kp154 : ∀ b x, cc153 b = some x → b ≠ h152.1 → cd154 b = some x := fun b x q n => by rw [hcd154]; exact (if_neg n).trans q
        have kn154 : cd154 (h152.1) = some (7, 0, ob [.ref s, .int 0, .int 0, .int 0]) := by rw [hcd154]; exact if_pos rfl
        obtain ⟨w154, now154, e154, ft154, fp154, Q154, X154⟩ := id Y154
        obtain ⟨hrd154, htk154, T154, ⟨he154, hQe154, hen154, hkk154⟩, hst154, hro154, hsub154, hcr154, hct154, hcp154, hcw154⟩ := id X154
        obtain ⟨num154, z154, le154, hnow154, S154, h3_154, h2_154⟩ := id T154
        obtain ⟨b154, sh154, sz154, B154⟩ := id S154
        refine g_aret rfl (by first | exact Or.inl ⟨_, rfl⟩ | exact Or.inr ⟨_, rfl⟩) (by first | exact Or.inl rfl | exact Or.inr ⟨_, rfl⟩) dX3_kind_205 ?_
        have en := hk_0 (fun hf => by have q := st_q hst0 hf; have e := is_T (i := 5) (Q := Q0) (by rw [q]; exact hf) hkk0 B0.2.2.1 (by decide) h2_0; rw [hs2, q] at e; exact e.symm.trans (enf hk_5 (by rw [q20]; decide))) (fun hf => by have q := st_q hst0 hf; have e := is_T (i := 20) (Q := Q0) (by rw [q]; exact hf) hkk0 B0.2.2.1 (by decide) h2_0; rw [hs2, q] at e; exact e.symm.trans ceq) (fun hf => by have q := st_q hst0 hf; have e := is_T (i := 22) (Q := Q0) (by rw [q]; exact hf) hkk0 B0.2.2.1 (by decide) h2_0; rw [hs2, q] at e; exact e.symm.trans (enf hk_22 (by rw [q20]; decide))) (fun hf => by have q := st_q hst0 hf; have e := is_T (i := 12) (Q := Q0) (by rw [q]; exact hf) hkk0 B0.2.2.1 (by decide) h2_0; rw [hs2, q] at e; exact e.symm.trans (enf hk_12 (by rw [q20]; decide)))
        refine ⟨_, cd154, rfl, (fun b x q => kp154 b x ((fun b x q => sub153 b x ((fun b x (q : c0 b = some x) => q) b x q)) b x q) (fun z => by have := ce_lt (hsub0 b x q); rw [z] at this; omega)), by rw [← en]; exact ⟨_, _, _, _, _, _, X154⟩, ⟨0, by omega, kn154, by omega, fun hz => absurd hz (by rw [← en]; exact f_wgN)⟩⟩
      ·
        have ceq := c_2
        refine g_iconst (x := 1) dX3_kind_95 rfl ?_
        refine g_istore_n (lv' := [(3, .int 1), (2, .ref w0), (0, .ref E.rd), (1, .ref s)]) dX3_kind_96 (by decide) rfl ?_
        refine g_goto (tgt := 125) dX3_kind_97 (by decide) ?_
        refine g_iload_n dX3_kind_125 0 rfl ?_
        refine g_tabIn (tgt := 165) dX3_kind_126 (by decide) (by decide) rfl (by decide) ?_
        refine g_new (f := ob [.null, .int 0, .int 0, .int 0]) k_8 df_8 q889 q890 q146 dX3_kind_165 (fun n155 => ?_)
        refine wp_new (Fr.refl (fun _ => False) _) n155 (fun u155 F155 z155 c155 k155 => ?_)
        obtain ⟨cc155, Y155, sub155, mx155⟩ := px_max (px_more (m := 1) (h2 := u155) (⟨_, _, _, _, _, _, X151⟩ : PX Δ E L h151 c0 P) (by have := F155.1; omega) (by have := F155.1; omega) k155)
        have cn155 := mx155 _ _ c155 (by show 8 ≠ 2; omega) (by show 8 ≠ 3; omega) (by show 8 ≠ 16; omega)
        obtain ⟨w155, now155, e155, ft155, fp155, Q155, X155⟩ := id Y155
        obtain ⟨hrd155, htk155, T155, ⟨he155, hQe155, hen155, hkk155⟩, hst155, hro155, hsub155, hcr155, hct155, hcp155, hcw155⟩ := id X155
        obtain ⟨num155, z155, le155, hnow155, S155, h3_155, h2_155⟩ := id T155
        obtain ⟨b155, sh155, sz155, B155⟩ := id S155
        refine g_dup dX3_kind_168 rfl ?_
        refine g_aload_n dX3_kind_169 3 rfl ?_
        refine g_callI (t_X9_init _ (h151.1) s (hsub155 _ _ (cn155)) (by omega)) (lw_meth q893) rfl q146 q891 q892 rfl okX9_init rfl rfl (Nat.le_of_ble_eq_true rfl) dX3_kind_170 (fun v1 u156 _ _ hq => ?_)
        obtain ⟨rfl, F156, c156⟩ := hq
        have k156 : ∀ b z, ce Δ u155 b = some z → b ≠ h151.1 → ce Δ u156 b = some z := fun b z q n => F156.2 b z q n
        show wp Δ (d + 5) muX3_kind 173 [(3, .int 1), (2, .ref w0), (0, .ref E.rd), (1, .ref s)] [.ref h151.1] u156 _
        have Y156 := px_put (h2 := u156) (⟨_, _, _, _, _, _, X155⟩ : PX Δ E (L + 1) u155 cc155 P) (cn155) ⟨by show 8 ≠ 2; omega, by show 8 ≠ 3; omega, by show 8 ≠ 5; omega, by show 8 ≠ 16; omega, by show 8 ≠ 102; omega⟩ (by have := F156.1; omega) (by have := F156.1; omega) c156 k156
        obtain ⟨cd156, hcd156⟩ : ∃ c : Nat → Option Cel, c = (fun b => if b = h151.1 then some (8, 0, ob [.ref s, .int 0, .int 0, .int 0]) else cc155 b) := ⟨_, rfl⟩
        rw [← hcd156] at Y156
        have kp156 : ∀ b x, cc155 b = some x → b ≠ h151.1 → cd156 b = some x := fun b x q n => by rw [hcd156]; exact (if_neg n).trans q
        have kn156 : cd156 (h151.1) = some (8, 0, ob [.ref s, .int 0, .int 0, .int 0]) := by rw [hcd156]; exact if_pos rfl
        obtain ⟨w156, now156, e156, ft156, fp156, Q156, X156⟩ := id Y156
        obtain ⟨hrd156, htk156, T156, ⟨he156, hQe156, hen156, hkk156⟩, hst156, hro156, hsub156, hcr156, hct156, hcp156, hcw156⟩ := id X156
        obtain ⟨num156, z156, le156, hnow156, S156, h3_156, h2_156⟩ := id T156
        obtain ⟨b156, sh156, sz156, B156⟩ := id S156
        refine g_aret rfl (by first | exact Or.inl ⟨_, rfl⟩ | exact Or.inr ⟨_, rfl⟩) (by first | exact Or.inl rfl | exact Or.inr ⟨_, rfl⟩) dX3_kind_173 ?_
        have hv : P.f = 0 → hkV P = 1 := fun hf => by unfold hkV; rw [if_neg (bf ((fun hf => by have q := st_q hst0 hf; have e := is_T (i := 5) (Q := Q0) (by rw [q]; exact hf) hkk0 B0.2.2.1 (by decide) h2_0; rw [hs2, q] at e; exact e.symm.trans (enf hk_5 (by rw [q20]; decide))) hf))]; exact if_pos ((fun hf => by have q := st_q hst0 hf; have e := is_T (i := 20) (Q := Q0) (by rw [q]; exact hf) hkk0 B0.2.2.1 (by decide) h2_0; rw [hs2, q] at e; exact e.symm.trans ceq) hf)
        refine ⟨_, cd156, rfl, (fun b x q => kp156 b x ((fun b x q => sub155 b x ((fun b x (q : c0 b = some x) => q) b x q)) b x q) (fun z => by have := ce_lt (hsub0 b x q); rw [z] at this; omega)), by rw [← hk_p (by decide) hv]; exact ⟨_, _, _, _, _, _, X156⟩, ⟨1, by omega, kn156, by omega, fun hz => hk_v (by decide) hv hz⟩⟩
    by_cases q12 : hvS le0 z0 = 111357
    ·
      refine g_look (tgt := 114) dX3_kind_30 (by decide) (by rw [q12]) (by decide) ?_
      refine g_aload_n dX3_kind_114 1 rfl ?_
      refine g_ldcS (tx := "pub") (i := 12) (by decide +kernel) dX3_kind_115 ?_
      refine g_callV (t_J5_equals _ SNK.tx ((EK.2.2.2.2.1 12 (by decide)).tx (px_n0 EK (⟨_, _, _, _, _, _, X151⟩)))) (lw_V q659 q660 q661 q135 q662) okJ5_equals SBK.1 rfl rfl rfl rfl (Nat.le_of_ble_eq_true rfl) dX3_kind_117 (fun v1 h1 _ _ hq => ?_)
      obtain ⟨rfl, hh⟩ := hq
      rw [hh]
      show wp Δ (d + 5) muX3_kind 120 [(3, .int (-1)), (2, .ref w0), (0, .ref E.rd), (1, .ref s)] [.int (bI (eqW le0 z0 (txF 12) (txN 12)))] h151 _
      refine gb_eq (tgt := 125) dX3_kind_120 (by decide) (fun c_3 => ?_) (fun c_3 => ?_)
      ·
        have ceq := c_3
        refine g_iload_n dX3_kind_125 0 rfl ?_
        refine g_tabOut (tgt := 192) dX3_kind_126 (by decide) (by decide) ?_
        refine g_aload_n dX3_kind_192 2 rfl ?_
        refine g_iconst (x := 1) dX3_kind_193 rfl ?_
        refine g_callV (t_X3_wrong _ EK (⟨_, _, _, _, _, _, X151⟩) 1 (by decide)) (lw_V q678 q680 qs4 q129 q681) okX3_wrong (hrd151) rfl rfl rfl rfl (Nat.le_of_ble_eq_true rfl) dX3_kind_194 (fun v1 h157 _ _ hq => ?_)
        obtain ⟨rfl, Y157⟩ := hq
        show wp Δ (d + 5) muX3_kind 197 [(3, .int (-1)), (2, .ref w0), (0, .ref E.rd), (1, .ref s)] [] h157 _
        obtain ⟨w157, now157, e157, ft157, fp157, Q157, X157⟩ := id Y157
        obtain ⟨hrd157, htk157, T157, ⟨he157, hQe157, hen157, hkk157⟩, hst157, hro157, hsub157, hcr157, hct157, hcp157, hcw157⟩ := id X157
        obtain ⟨num157, z157, le157, hnow157, S157, h3_157, h2_157⟩ := id T157
        obtain ⟨b157, sh157, sz157, B157⟩ := id S157
        refine g_new (f := ob [.null, .int 0, .int 0, .int 0]) k_7 df_7 q863 q864 q145 dX3_kind_197 (fun n158 => ?_)
        refine wp_new (Fr.refl (fun _ => False) _) n158 (fun u158 F158 z158 c158 k158 => ?_)
        obtain ⟨cc158, Y158, sub158, mx158⟩ := px_max (px_more (m := 1) (h2 := u158) (⟨_, _, _, _, _, _, X157⟩ : PX Δ E L h157 c0 (wgP 1 P.a P)) (by have := F158.1; omega) (by have := F158.1; omega) k158)
        have cn158 := mx158 _ _ c158 (by show 7 ≠ 2; omega) (by show 7 ≠ 3; omega) (by show 7 ≠ 16; omega)
        obtain ⟨w158, now158, e158, ft158, fp158, Q158, X158⟩ := id Y158
        obtain ⟨hrd158, htk158, T158, ⟨he158, hQe158, hen158, hkk158⟩, hst158, hro158, hsub158, hcr158, hct158, hcp158, hcw158⟩ := id X158
        obtain ⟨num158, z158, le158, hnow158, S158, h3_158, h2_158⟩ := id T158
        obtain ⟨b158, sh158, sz158, B158⟩ := id S158
        refine g_dup dX3_kind_200 rfl ?_
        refine g_aload_n dX3_kind_201 3 rfl ?_
        refine g_callI (t_X8_init _ (h157.1) s (hsub158 _ _ (cn158)) (by omega)) (lw_meth q867) rfl q145 q865 q866 rfl okX8_init rfl rfl (Nat.le_of_ble_eq_true rfl) dX3_kind_202 (fun v1 u159 _ _ hq => ?_)
        obtain ⟨rfl, F159, c159⟩ := hq
        have k159 : ∀ b z, ce Δ u158 b = some z → b ≠ h157.1 → ce Δ u159 b = some z := fun b z q n => F159.2 b z q n
        show wp Δ (d + 5) muX3_kind 205 [(3, .int (-1)), (2, .ref w0), (0, .ref E.rd), (1, .ref s)] [.ref h157.1] u159 _
        have Y159 := px_put (h2 := u159) (⟨_, _, _, _, _, _, X158⟩ : PX Δ E (L + 1) u158 cc158 (wgP 1 P.a P)) (cn158) ⟨by show 7 ≠ 2; omega, by show 7 ≠ 3; omega, by show 7 ≠ 5; omega, by show 7 ≠ 16; omega, by show 7 ≠ 102; omega⟩ (by have := F159.1; omega) (by have := F159.1; omega) c159 k159
        obtain ⟨cd159, hcd159⟩ : ∃ c : Nat → Option Cel, c = (fun b => if b = h157.1 then some (7, 0, ob [.ref s, .int 0, .int 0, .int 0]) else cc158 b) := ⟨_, rfl⟩
        rw [← hcd159] at Y159
        have kp159 : ∀ b x, cc158 b = some x → b ≠ h157.1 → cd159 b = some x := fun b x q n => by rw [hcd159]; exact (if_neg n).trans q
        have kn159 : cd159 (h157.1) = some (7, 0, ob [.ref s, .int 0, .int 0, .int 0]) := by rw [hcd159]; exact if_pos rfl
        obtain ⟨w159, now159, e159, ft159, fp159, Q159, X159⟩ := id Y159
        obtain ⟨hrd159, htk159, T159, ⟨he159, hQe159, hen159, hkk159⟩, hst159, hro159, hsub159, hcr159, hct159, hcp159, hcw159⟩ := id X159
        obtain ⟨num159, z159, le159, hnow159, S159, h3_159, h2_159⟩ := id T159
        obtain ⟨b159, sh159, sz159, B159⟩ := id S159
        refine g_aret rfl (by first | exact Or.inl ⟨_, rfl⟩ | exact Or.inr ⟨_, rfl⟩) (by first | exact Or.inl rfl | exact Or.inr ⟨_, rfl⟩) dX3_kind_205 ?_
        have en := hk_0 (fun hf => by have q := st_q hst0 hf; have e := is_T (i := 5) (Q := Q0) (by rw [q]; exact hf) hkk0 B0.2.2.1 (by decide) h2_0; rw [hs2, q] at e; exact e.symm.trans (enf hk_5 (by rw [q12]; decide))) (fun hf => by have q := st_q hst0 hf; have e := is_T (i := 20) (Q := Q0) (by rw [q]; exact hf) hkk0 B0.2.2.1 (by decide) h2_0; rw [hs2, q] at e; exact e.symm.trans (enf hk_20 (by rw [q12]; decide))) (fun hf => by have q := st_q hst0 hf; have e := is_T (i := 22) (Q := Q0) (by rw [q]; exact hf) hkk0 B0.2.2.1 (by decide) h2_0; rw [hs2, q] at e; exact e.symm.trans (enf hk_22 (by rw [q12]; decide))) (fun hf => by have q := st_q hst0 hf; have e := is_T (i := 12) (Q := Q0) (by rw [q]; exact hf) hkk0 B0.2.2.1 (by decide) h2_0; rw [hs2, q] at e; exact e.symm.trans ceq)
        refine ⟨_, cd159, rfl, (fun b x q => kp159 b x ((fun b x q => sub158 b x ((fun b x (q : c0 b = some x) => q) b x q)) b x q) (fun z => by have := ce_lt (hsub0 b x q); rw [z] at this; omega)), by rw [← en]; exact ⟨_, _, _, _, _, _, X159⟩, ⟨0, by omega, kn159, by omega, fun hz => absurd hz (by rw [← en]; exact f_wgN)⟩⟩
      ·
        have ceq := c_3
        refine g_iconst (x := 3) dX3_kind_123 rfl ?_
        refine g_istore_n (lv' := [(3, .int 3), (2, .ref w0), (0, .ref E.rd), (1, .ref s)]) dX3_kind_124 (by decide) rfl ?_
        refine g_iload_n dX3_kind_125 0 rfl ?_
        refine g_tabIn (tgt := 183) dX3_kind_126 (by decide) (by decide) rfl (by decide) ?_
        refine g_new (f := ob [.null, .int 0, .int 0, .int 0]) k_10 df_10 q911 q912 q148 dX3_kind_183 (fun n160 => ?_)
        refine wp_new (Fr.refl (fun _ => False) _) n160 (fun u160 F160 z160 c160 k160 => ?_)
        obtain ⟨cc160, Y160, sub160, mx160⟩ := px_max (px_more (m := 1) (h2 := u160) (⟨_, _, _, _, _, _, X151⟩ : PX Δ E L h151 c0 P) (by have := F160.1; omega) (by have := F160.1; omega) k160)
        have cn160 := mx160 _ _ c160 (by show 10 ≠ 2; omega) (by show 10 ≠ 3; omega) (by show 10 ≠ 16; omega)
        obtain ⟨w160, now160, e160, ft160, fp160, Q160, X160⟩ := id Y160
        obtain ⟨hrd160, htk160, T160, ⟨he160, hQe160, hen160, hkk160⟩, hst160, hro160, hsub160, hcr160, hct160, hcp160, hcw160⟩ := id X160
        obtain ⟨num160, z160, le160, hnow160, S160, h3_160, h2_160⟩ := id T160
        obtain ⟨b160, sh160, sz160, B160⟩ := id S160
        refine g_dup dX3_kind_186 rfl ?_
        refine g_aload_n dX3_kind_187 3 rfl ?_
        refine g_callI (t_X11_init _ (h151.1) s (hsub160 _ _ (cn160)) (by omega)) (lw_meth q915) rfl q148 q913 q914 rfl okX11_init rfl rfl (Nat.le_of_ble_eq_true rfl) dX3_kind_188 (fun v1 u161 _ _ hq => ?_)
        obtain ⟨rfl, F161, c161⟩ := hq
        have k161 : ∀ b z, ce Δ u160 b = some z → b ≠ h151.1 → ce Δ u161 b = some z := fun b z q n => F161.2 b z q n
        show wp Δ (d + 5) muX3_kind 191 [(3, .int 3), (2, .ref w0), (0, .ref E.rd), (1, .ref s)] [.ref h151.1] u161 _
        have Y161 := px_put (h2 := u161) (⟨_, _, _, _, _, _, X160⟩ : PX Δ E (L + 1) u160 cc160 P) (cn160) ⟨by show 10 ≠ 2; omega, by show 10 ≠ 3; omega, by show 10 ≠ 5; omega, by show 10 ≠ 16; omega, by show 10 ≠ 102; omega⟩ (by have := F161.1; omega) (by have := F161.1; omega) c161 k161
        obtain ⟨cd161, hcd161⟩ : ∃ c : Nat → Option Cel, c = (fun b => if b = h151.1 then some (10, 0, ob [.ref s, .int 0, .int 0, .int 0]) else cc160 b) := ⟨_, rfl⟩
        rw [← hcd161] at Y161
        have kp161 : ∀ b x, cc160 b = some x → b ≠ h151.1 → cd161 b = some x := fun b x q n => by rw [hcd161]; exact (if_neg n).trans q
        have kn161 : cd161 (h151.1) = some (10, 0, ob [.ref s, .int 0, .int 0, .int 0]) := by rw [hcd161]; exact if_pos rfl
        obtain ⟨w161, now161, e161, ft161, fp161, Q161, X161⟩ := id Y161
        obtain ⟨hrd161, htk161, T161, ⟨he161, hQe161, hen161, hkk161⟩, hst161, hro161, hsub161, hcr161, hct161, hcp161, hcw161⟩ := id X161
        obtain ⟨num161, z161, le161, hnow161, S161, h3_161, h2_161⟩ := id T161
        obtain ⟨b161, sh161, sz161, B161⟩ := id S161
        refine g_aret rfl (by first | exact Or.inl ⟨_, rfl⟩ | exact Or.inr ⟨_, rfl⟩) (by first | exact Or.inl rfl | exact Or.inr ⟨_, rfl⟩) dX3_kind_191 ?_
        have hv : P.f = 0 → hkV P = 3 := fun hf => by unfold hkV; rw [if_neg (bf ((fun hf => by have q := st_q hst0 hf; have e := is_T (i := 5) (Q := Q0) (by rw [q]; exact hf) hkk0 B0.2.2.1 (by decide) h2_0; rw [hs2, q] at e; exact e.symm.trans (enf hk_5 (by rw [q12]; decide))) hf))]; rw [if_neg (bf ((fun hf => by have q := st_q hst0 hf; have e := is_T (i := 20) (Q := Q0) (by rw [q]; exact hf) hkk0 B0.2.2.1 (by decide) h2_0; rw [hs2, q] at e; exact e.symm.trans (enf hk_20 (by rw [q12]; decide))) hf))]; rw [if_neg (bf ((fun hf => by have q := st_q hst0 hf; have e := is_T (i := 22) (Q := Q0) (by rw [q]; exact hf) hkk0 B0.2.2.1 (by decide) h2_0; rw [hs2, q] at e; exact e.symm.trans (enf hk_22 (by rw [q12]; decide))) hf))]; exact if_pos ((fun hf => by have q := st_q hst0 hf; have e := is_T (i := 12) (Q := Q0) (by rw [q]; exact hf) hkk0 B0.2.2.1 (by decide) h2_0; rw [hs2, q] at e; exact e.symm.trans ceq) hf)
        refine ⟨_, cd161, rfl, (fun b x q => kp161 b x ((fun b x q => sub160 b x ((fun b x (q : c0 b = some x) => q) b x q)) b x q) (fun z => by have := ce_lt (hsub0 b x q); rw [z] at this; omega)), by rw [← hk_p (by decide) hv]; exact ⟨_, _, _, _, _, _, X161⟩, ⟨3, by omega, kn161, by omega, fun hz => hk_v (by decide) hv hz⟩⟩
    by_cases q22 : hvS le0 z0 = 112210766
    ·
      refine g_look (tgt := 100) dX3_kind_30 (by decide) (by rw [q22]) (by decide) ?_
      refine g_aload_n dX3_kind_100 1 rfl ?_
      refine g_ldcS (tx := "villa") (i := 22) (by decide +kernel) dX3_kind_101 ?_
      refine g_callV (t_J5_equals _ SNK.tx ((EK.2.2.2.2.1 22 (by decide)).tx (px_n0 EK (⟨_, _, _, _, _, _, X151⟩)))) (lw_V q659 q660 q661 q135 q662) okJ5_equals SBK.1 rfl rfl rfl rfl (Nat.le_of_ble_eq_true rfl) dX3_kind_103 (fun v1 h1 _ _ hq => ?_)
      obtain ⟨rfl, hh⟩ := hq
      rw [hh]
      show wp Δ (d + 5) muX3_kind 106 [(3, .int (-1)), (2, .ref w0), (0, .ref E.rd), (1, .ref s)] [.int (bI (eqW le0 z0 (txF 22) (txN 22)))] h151 _
      refine gb_eq (tgt := 125) dX3_kind_106 (by decide) (fun c_4 => ?_) (fun c_4 => ?_)
      ·
        have ceq := c_4
        refine g_iload_n dX3_kind_125 0 rfl ?_
        refine g_tabOut (tgt := 192) dX3_kind_126 (by decide) (by decide) ?_
        refine g_aload_n dX3_kind_192 2 rfl ?_
        refine g_iconst (x := 1) dX3_kind_193 rfl ?_
        refine g_callV (t_X3_wrong _ EK (⟨_, _, _, _, _, _, X151⟩) 1 (by decide)) (lw_V q678 q680 qs4 q129 q681) okX3_wrong (hrd151) rfl rfl rfl rfl (Nat.le_of_ble_eq_true rfl) dX3_kind_194 (fun v1 h162 _ _ hq => ?_)
        obtain ⟨rfl, Y162⟩ := hq
        show wp Δ (d + 5) muX3_kind 197 [(3, .int (-1)), (2, .ref w0), (0, .ref E.rd), (1, .ref s)] [] h162 _
        obtain ⟨w162, now162, e162, ft162, fp162, Q162, X162⟩ := id Y162
        obtain ⟨hrd162, htk162, T162, ⟨he162, hQe162, hen162, hkk162⟩, hst162, hro162, hsub162, hcr162, hct162, hcp162, hcw162⟩ := id X162
        obtain ⟨num162, z162, le162, hnow162, S162, h3_162, h2_162⟩ := id T162
        obtain ⟨b162, sh162, sz162, B162⟩ := id S162
        refine g_new (f := ob [.null, .int 0, .int 0, .int 0]) k_7 df_7 q863 q864 q145 dX3_kind_197 (fun n163 => ?_)
        refine wp_new (Fr.refl (fun _ => False) _) n163 (fun u163 F163 z163 c163 k163 => ?_)
        obtain ⟨cc163, Y163, sub163, mx163⟩ := px_max (px_more (m := 1) (h2 := u163) (⟨_, _, _, _, _, _, X162⟩ : PX Δ E L h162 c0 (wgP 1 P.a P)) (by have := F163.1; omega) (by have := F163.1; omega) k163)
        have cn163 := mx163 _ _ c163 (by show 7 ≠ 2; omega) (by show 7 ≠ 3; omega) (by show 7 ≠ 16; omega)
        obtain ⟨w163, now163, e163, ft163, fp163, Q163, X163⟩ := id Y163
        obtain ⟨hrd163, htk163, T163, ⟨he163, hQe163, hen163, hkk163⟩, hst163, hro163, hsub163, hcr163, hct163, hcp163, hcw163⟩ := id X163
        obtain ⟨num163, z163, le163, hnow163, S163, h3_163, h2_163⟩ := id T163
        obtain ⟨b163, sh163, sz163, B163⟩ := id S163
        refine g_dup dX3_kind_200 rfl ?_
        refine g_aload_n dX3_kind_201 3 rfl ?_
        refine g_callI (t_X8_init _ (h162.1) s (hsub163 _ _ (cn163)) (by omega)) (lw_meth q867) rfl q145 q865 q866 rfl okX8_init rfl rfl (Nat.le_of_ble_eq_true rfl) dX3_kind_202 (fun v1 u164 _ _ hq => ?_)
        obtain ⟨rfl, F164, c164⟩ := hq
        have k164 : ∀ b z, ce Δ u163 b = some z → b ≠ h162.1 → ce Δ u164 b = some z := fun b z q n => F164.2 b z q n
        show wp Δ (d + 5) muX3_kind 205 [(3, .int (-1)), (2, .ref w0), (0, .ref E.rd), (1, .ref s)] [.ref h162.1] u164 _
        have Y164 := px_put (h2 := u164) (⟨_, _, _, _, _, _, X163⟩ : PX Δ E (L + 1) u163 cc163 (wgP 1 P.a P)) (cn163) ⟨by show 7 ≠ 2; omega, by show 7 ≠ 3; omega, by show 7 ≠ 5; omega, by show 7 ≠ 16; omega, by show 7 ≠ 102; omega⟩ (by have := F164.1; omega) (by have := F164.1; omega) c164 k164
        obtain ⟨cd164, hcd164⟩ : ∃ c : Nat → Option Cel, c = (fun b => if b = h162.1 then some (7, 0, ob [.ref s, .int 0, .int 0, .int 0]) else cc163 b) := ⟨_, rfl⟩
        rw [← hcd164] at Y164
        have kp164 : ∀ b x, cc163 b = some x → b ≠ h162.1 → cd164 b = some x := fun b x q n => by rw [hcd164]; exact (if_neg n).trans q
        have kn164 : cd164 (h162.1) = some (7, 0, ob [.ref s, .int 0, .int 0, .int 0]) := by rw [hcd164]; exact if_pos rfl
        obtain ⟨w164, now164, e164, ft164, fp164, Q164, X164⟩ := id Y164
        obtain ⟨hrd164, htk164, T164, ⟨he164, hQe164, hen164, hkk164⟩, hst164, hro164, hsub164, hcr164, hct164, hcp164, hcw164⟩ := id X164
        obtain ⟨num164, z164, le164, hnow164, S164, h3_164, h2_164⟩ := id T164
        obtain ⟨b164, sh164, sz164, B164⟩ := id S164
        refine g_aret rfl (by first | exact Or.inl ⟨_, rfl⟩ | exact Or.inr ⟨_, rfl⟩) (by first | exact Or.inl rfl | exact Or.inr ⟨_, rfl⟩) dX3_kind_205 ?_
        have en := hk_0 (fun hf => by have q := st_q hst0 hf; have e := is_T (i := 5) (Q := Q0) (by rw [q]; exact hf) hkk0 B0.2.2.1 (by decide) h2_0; rw [hs2, q] at e; exact e.symm.trans (enf hk_5 (by rw [q22]; decide))) (fun hf => by have q := st_q hst0 hf; have e := is_T (i := 20) (Q := Q0) (by rw [q]; exact hf) hkk0 B0.2.2.1 (by decide) h2_0; rw [hs2, q] at e; exact e.symm.trans (enf hk_20 (by rw [q22]; decide))) (fun hf => by have q := st_q hst0 hf; have e := is_T (i := 22) (Q := Q0) (by rw [q]; exact hf) hkk0 B0.2.2.1 (by decide) h2_0; rw [hs2, q] at e; exact e.symm.trans ceq) (fun hf => by have q := st_q hst0 hf; have e := is_T (i := 12) (Q := Q0) (by rw [q]; exact hf) hkk0 B0.2.2.1 (by decide) h2_0; rw [hs2, q] at e; exact e.symm.trans (enf hk_12 (by rw [q22]; decide)))
        refine ⟨_, cd164, rfl, (fun b x q => kp164 b x ((fun b x q => sub163 b x ((fun b x (q : c0 b = some x) => q) b x q)) b x q) (fun z => by have := ce_lt (hsub0 b x q); rw [z] at this; omega)), by rw [← en]; exact ⟨_, _, _, _, _, _, X164⟩, ⟨0, by omega, kn164, by omega, fun hz => absurd hz (by rw [← en]; exact f_wgN)⟩⟩
      ·
        have ceq := c_4
        refine g_iconst (x := 2) dX3_kind_109 rfl ?_
        refine g_istore_n (lv' := [(3, .int 2), (2, .ref w0), (0, .ref E.rd), (1, .ref s)]) dX3_kind_110 (by decide) rfl ?_
        refine g_goto (tgt := 125) dX3_kind_111 (by decide) ?_
        refine g_iload_n dX3_kind_125 0 rfl ?_
        refine g_tabIn (tgt := 174) dX3_kind_126 (by decide) (by decide) rfl (by decide) ?_
        refine g_new (f := ob [.null, .int 0, .int 0, .int 0]) k_9 df_9 q900 q901 q147 dX3_kind_174 (fun n165 => ?_)
        refine wp_new (Fr.refl (fun _ => False) _) n165 (fun u165 F165 z165 c165 k165 => ?_)
        obtain ⟨cc165, Y165, sub165, mx165⟩ := px_max (px_more (m := 1) (h2 := u165) (⟨_, _, _, _, _, _, X151⟩ : PX Δ E L h151 c0 P) (by have := F165.1; omega) (by have := F165.1; omega) k165)
        have cn165 := mx165 _ _ c165 (by show 9 ≠ 2; omega) (by show 9 ≠ 3; omega) (by show 9 ≠ 16; omega)
        obtain ⟨w165, now165, e165, ft165, fp165, Q165, X165⟩ := id Y165
        obtain ⟨hrd165, htk165, T165, ⟨he165, hQe165, hen165, hkk165⟩, hst165, hro165, hsub165, hcr165, hct165, hcp165, hcw165⟩ := id X165
        obtain ⟨num165, z165, le165, hnow165, S165, h3_165, h2_165⟩ := id T165
        obtain ⟨b165, sh165, sz165, B165⟩ := id S165
        refine g_dup dX3_kind_177 rfl ?_
        refine g_aload_n dX3_kind_178 3 rfl ?_
        refine g_callI (t_X10_init _ (h151.1) s (hsub165 _ _ (cn165)) (by omega)) (lw_meth q904) rfl q147 q902 q903 rfl okX10_init rfl rfl (Nat.le_of_ble_eq_true rfl) dX3_kind_179 (fun v1 u166 _ _ hq => ?_)
        obtain ⟨rfl, F166, c166⟩ := hq
        have k166 : ∀ b z, ce Δ u165 b = some z → b ≠ h151.1 → ce Δ u166 b = some z := fun b z q n => F166.2 b z q n
        show wp Δ (d + 5) muX3_kind 182 [(3, .int 2), (2, .ref w0), (0, .ref E.rd), (1, .ref s)] [.ref h151.1] u166 _
        have Y166 := px_put (h2 := u166) (⟨_, _, _, _, _, _, X165⟩ : PX Δ E (L + 1) u165 cc165 P) (cn165) ⟨by show 9 ≠ 2; omega, by show 9 ≠ 3; omega, by show 9 ≠ 5; omega, by show 9 ≠ 16; omega, by show 9 ≠ 102; omega⟩ (by have := F166.1; omega) (by have := F166.1; omega) c166 k166
        obtain ⟨cd166, hcd166⟩ : ∃ c : Nat → Option Cel, c = (fun b => if b = h151.1 then some (9, 0, ob [.ref s, .int 0, .int 0, .int 0]) else cc165 b) := ⟨_, rfl⟩
        rw [← hcd166] at Y166
        have kp166 : ∀ b x, cc165 b = some x → b ≠ h151.1 → cd166 b = some x := fun b x q n => by rw [hcd166]; exact (if_neg n).trans q
        have kn166 : cd166 (h151.1) = some (9, 0, ob [.ref s, .int 0, .int 0, .int 0]) := by rw [hcd166]; exact if_pos rfl
        obtain ⟨w166, now166, e166, ft166, fp166, Q166, X166⟩ := id Y166
        obtain ⟨hrd166, htk166, T166, ⟨he166, hQe166, hen166, hkk166⟩, hst166, hro166, hsub166, hcr166, hct166, hcp166, hcw166⟩ := id X166
        obtain ⟨num166, z166, le166, hnow166, S166, h3_166, h2_166⟩ := id T166
        obtain ⟨b166, sh166, sz166, B166⟩ := id S166
        refine g_aret rfl (by first | exact Or.inl ⟨_, rfl⟩ | exact Or.inr ⟨_, rfl⟩) (by first | exact Or.inl rfl | exact Or.inr ⟨_, rfl⟩) dX3_kind_182 ?_
        have hv : P.f = 0 → hkV P = 2 := fun hf => by unfold hkV; rw [if_neg (bf ((fun hf => by have q := st_q hst0 hf; have e := is_T (i := 5) (Q := Q0) (by rw [q]; exact hf) hkk0 B0.2.2.1 (by decide) h2_0; rw [hs2, q] at e; exact e.symm.trans (enf hk_5 (by rw [q22]; decide))) hf))]; rw [if_neg (bf ((fun hf => by have q := st_q hst0 hf; have e := is_T (i := 20) (Q := Q0) (by rw [q]; exact hf) hkk0 B0.2.2.1 (by decide) h2_0; rw [hs2, q] at e; exact e.symm.trans (enf hk_20 (by rw [q22]; decide))) hf))]; exact if_pos ((fun hf => by have q := st_q hst0 hf; have e := is_T (i := 22) (Q := Q0) (by rw [q]; exact hf) hkk0 B0.2.2.1 (by decide) h2_0; rw [hs2, q] at e; exact e.symm.trans ceq) hf)
        refine ⟨_, cd166, rfl, (fun b x q => kp166 b x ((fun b x q => sub165 b x ((fun b x (q : c0 b = some x) => q) b x q)) b x q) (fun z => by have := ce_lt (hsub0 b x q); rw [z] at this; omega)), by rw [← hk_p (by decide) hv]; exact ⟨_, _, _, _, _, _, X166⟩, ⟨2, by omega, kn166, by omega, fun hz => hk_v (by decide) hv hz⟩⟩
    by_cases q5 : hvS le0 z0 = 957067667
    ·
      refine g_look (tgt := 72) dX3_kind_30 (by decide) (by rw [q5]) (by decide) ?_
      refine g_aload_n dX3_kind_72 1 rfl ?_
      refine g_ldcS (tx := "cottage") (i := 5) (by decide +kernel) dX3_kind_73 ?_
      refine g_callV (t_J5_equals _ SNK.tx ((EK.2.2.2.2.1 5 (by decide)).tx (px_n0 EK (⟨_, _, _, _, _, _, X151⟩)))) (lw_V q659 q660 q661 q135 q662) okJ5_equals SBK.1 rfl rfl rfl rfl (Nat.le_of_ble_eq_true rfl) dX3_kind_75 (fun v1 h1 _ _ hq => ?_)
      obtain ⟨rfl, hh⟩ := hq
      rw [hh]
      show wp Δ (d + 5) muX3_kind 78 [(3, .int (-1)), (2, .ref w0), (0, .ref E.rd), (1, .ref s)] [.int (bI (eqW le0 z0 (txF 5) (txN 5)))] h151 _
      refine gb_eq (tgt := 125) dX3_kind_78 (by decide) (fun c_5 => ?_) (fun c_5 => ?_)
      ·
        have ceq := c_5
        refine g_iload_n dX3_kind_125 0 rfl ?_
        refine g_tabOut (tgt := 192) dX3_kind_126 (by decide) (by decide) ?_
        refine g_aload_n dX3_kind_192 2 rfl ?_
        refine g_iconst (x := 1) dX3_kind_193 rfl ?_
        refine g_callV (t_X3_wrong _ EK (⟨_, _, _, _, _, _, X151⟩) 1 (by decide)) (lw_V q678 q680 qs4 q129 q681) okX3_wrong (hrd151) rfl rfl rfl rfl (Nat.le_of_ble_eq_true rfl) dX3_kind_194 (fun v1 h167 _ _ hq => ?_)
        obtain ⟨rfl, Y167⟩ := hq
        show wp Δ (d + 5) muX3_kind 197 [(3, .int (-1)), (2, .ref w0), (0, .ref E.rd), (1, .ref s)] [] h167 _
        obtain ⟨w167, now167, e167, ft167, fp167, Q167, X167⟩ := id Y167
        obtain ⟨hrd167, htk167, T167, ⟨he167, hQe167, hen167, hkk167⟩, hst167, hro167, hsub167, hcr167, hct167, hcp167, hcw167⟩ := id X167
        obtain ⟨num167, z167, le167, hnow167, S167, h3_167, h2_167⟩ := id T167
        obtain ⟨b167, sh167, sz167, B167⟩ := id S167
        refine g_new (f := ob [.null, .int 0, .int 0, .int 0]) k_7 df_7 q863 q864 q145 dX3_kind_197 (fun n168 => ?_)
        refine wp_new (Fr.refl (fun _ => False) _) n168 (fun u168 F168 z168 c168 k168 => ?_)
        obtain ⟨cc168, Y168, sub168, mx168⟩ := px_max (px_more (m := 1) (h2 := u168) (⟨_, _, _, _, _, _, X167⟩ : PX Δ E L h167 c0 (wgP 1 P.a P)) (by have := F168.1; omega) (by have := F168.1; omega) k168)
        have cn168 := mx168 _ _ c168 (by show 7 ≠ 2; omega) (by show 7 ≠ 3; omega) (by show 7 ≠ 16; omega)
        obtain ⟨w168, now168, e168, ft168, fp168, Q168, X168⟩ := id Y168
        obtain ⟨hrd168, htk168, T168, ⟨he168, hQe168, hen168, hkk168⟩, hst168, hro168, hsub168, hcr168, hct168, hcp168, hcw168⟩ := id X168
        obtain ⟨num168, z168, le168, hnow168, S168, h3_168, h2_168⟩ := id T168
        obtain ⟨b168, sh168, sz168, B168⟩ := id S168
        refine g_dup dX3_kind_200 rfl ?_
        refine g_aload_n dX3_kind_201 3 rfl ?_
        refine g_callI (t_X8_init _ (h167.1) s (hsub168 _ _ (cn168)) (by omega)) (lw_meth q867) rfl q145 q865 q866 rfl okX8_init rfl rfl (Nat.le_of_ble_eq_true rfl) dX3_kind_202 (fun v1 u169 _ _ hq => ?_)
        obtain ⟨rfl, F169, c169⟩ := hq
        have k169 : ∀ b z, ce Δ u168 b = some z → b ≠ h167.1 → ce Δ u169 b = some z := fun b z q n => F169.2 b z q n
        show wp Δ (d + 5) muX3_kind 205 [(3, .int (-1)), (2, .ref w0), (0, .ref E.rd), (1, .ref s)] [.ref h167.1] u169 _
        have Y169 := px_put (h2 := u169) (⟨_, _, _, _, _, _, X168⟩ : PX Δ E (L + 1) u168 cc168 (wgP 1 P.a P)) (cn168) ⟨by show 7 ≠ 2; omega, by show 7 ≠ 3; omega, by show 7 ≠ 5; omega, by show 7 ≠ 16; omega, by show 7 ≠ 102; omega⟩ (by have := F169.1; omega) (by have := F169.1; omega) c169 k169
        obtain ⟨cd169, hcd169⟩ : ∃ c : Nat → Option Cel, c = (fun b => if b = h167.1 then some (7, 0, ob [.ref s, .int 0, .int 0, .int 0]) else cc168 b) := ⟨_, rfl⟩
        rw [← hcd169] at Y169
        have kp169 : ∀ b x, cc168 b = some x → b ≠ h167.1 → cd169 b = some x := fun b x q n => by rw [hcd169]; exact (if_neg n).trans q
        have kn169 : cd169 (h167.1) = some (7, 0, ob [.ref s, .int 0, .int 0, .int 0]) := by rw [hcd169]; exact if_pos rfl
        obtain ⟨w169, now169, e169, ft169, fp169, Q169, X169⟩ := id Y169
        obtain ⟨hrd169, htk169, T169, ⟨he169, hQe169, hen169, hkk169⟩, hst169, hro169, hsub169, hcr169, hct169, hcp169, hcw169⟩ := id X169
        obtain ⟨num169, z169, le169, hnow169, S169, h3_169, h2_169⟩ := id T169
        obtain ⟨b169, sh169, sz169, B169⟩ := id S169
        refine g_aret rfl (by first | exact Or.inl ⟨_, rfl⟩ | exact Or.inr ⟨_, rfl⟩) (by first | exact Or.inl rfl | exact Or.inr ⟨_, rfl⟩) dX3_kind_205 ?_
        have en := hk_0 (fun hf => by have q := st_q hst0 hf; have e := is_T (i := 5) (Q := Q0) (by rw [q]; exact hf) hkk0 B0.2.2.1 (by decide) h2_0; rw [hs2, q] at e; exact e.symm.trans ceq) (fun hf => by have q := st_q hst0 hf; have e := is_T (i := 20) (Q := Q0) (by rw [q]; exact hf) hkk0 B0.2.2.1 (by decide) h2_0; rw [hs2, q] at e; exact e.symm.trans (enf hk_20 (by rw [q5]; decide))) (fun hf => by have q := st_q hst0 hf; have e := is_T (i := 22) (Q := Q0) (by rw [q]; exact hf) hkk0 B0.2.2.1 (by decide) h2_0; rw [hs2, q] at e; exact e.symm.trans (enf hk_22 (by rw [q5]; decide))) (fun hf => by have q := st_q hst0 hf; have e := is_T (i := 12) (Q := Q0) (by rw [q]; exact hf) hkk0 B0.2.2.1 (by decide) h2_0; rw [hs2, q] at e; exact e.symm.trans (enf hk_12 (by rw [q5]; decide)))
        refine ⟨_, cd169, rfl, (fun b x q => kp169 b x ((fun b x q => sub168 b x ((fun b x (q : c0 b = some x) => q) b x q)) b x q) (fun z => by have := ce_lt (hsub0 b x q); rw [z] at this; omega)), by rw [← en]; exact ⟨_, _, _, _, _, _, X169⟩, ⟨0, by omega, kn169, by omega, fun hz => absurd hz (by rw [← en]; exact f_wgN)⟩⟩
      ·
        have ceq := c_5
        refine g_iconst (x := 0) dX3_kind_81 rfl ?_
        refine g_istore_n (lv' := [(3, .int 0), (2, .ref w0), (0, .ref E.rd), (1, .ref s)]) dX3_kind_82 (by decide) rfl ?_
        refine g_goto (tgt := 125) dX3_kind_83 (by decide) ?_
        refine g_iload_n dX3_kind_125 0 rfl ?_
        refine g_tabIn (tgt := 156) dX3_kind_126 (by decide) (by decide) rfl (by decide) ?_
        refine g_new (f := ob [.null, .int 0, .int 0, .int 0]) k_7 df_7 q863 q864 q145 dX3_kind_156 (fun n170 => ?_)
        refine wp_new (Fr.refl (fun _ => False) _) n170 (fun u170 F170 z170 c170 k170 => ?_)
        obtain ⟨cc170, Y170, sub170, mx170⟩ := px_max (px_more (m := 1) (h2 := u170) (⟨_, _, _, _, _, _, X151⟩ : PX Δ E L h151 c0 P) (by have := F170.1; omega) (by have := F170.1; omega) k170)
        have cn170 := mx170 _ _ c170 (by show 7 ≠ 2; omega) (by show 7 ≠ 3; omega) (by show 7 ≠ 16; omega)
        obtain ⟨w170, now170, e170, ft170, fp170, Q170, X170⟩ := id Y170
        obtain ⟨hrd170, htk170, T170, ⟨he170, hQe170, hen170, hkk170⟩, hst170, hro170, hsub170, hcr170, hct170, hcp170, hcw170⟩ := id X170
        obtain ⟨num170, z170, le170, hnow170, S170, h3_170, h2_170⟩ := id T170
        obtain ⟨b170, sh170, sz170, B170⟩ := id S170
        refine g_dup dX3_kind_159 rfl ?_
        refine g_aload_n dX3_kind_160 3 rfl ?_
        refine g_callI (t_X8_init _ (h151.1) s (hsub170 _ _ (cn170)) (by omega)) (lw_meth q867) rfl q145 q865 q866 rfl okX8_init rfl rfl (Nat.le_of_ble_eq_true rfl) dX3_kind_161 (fun v1 u171 _ _ hq => ?_)
        obtain ⟨rfl, F171, c171⟩ := hq
        have k171 : ∀ b z, ce Δ u170 b = some z → b ≠ h151.1 → ce Δ u171 b = some z := fun b z q n => F171.2 b z q n
        show wp Δ (d + 5) muX3_kind 164 [(3, .int 0), (2, .ref w0), (0, .ref E.rd), (1, .ref s)] [.ref h151.1] u171 _
        have Y171 := px_put (h2 := u171) (⟨_, _, _, _, _, _, X170⟩ : PX Δ E (L + 1) u170 cc170 P) (cn170) ⟨by show 7 ≠ 2; omega, by show 7 ≠ 3; omega, by show 7 ≠ 5; omega, by show 7 ≠ 16; omega, by show 7 ≠ 102; omega⟩ (by have := F171.1; omega) (by have := F171.1; omega) c171 k171
        obtain ⟨cd171, hcd171⟩ : ∃ c : Nat → Option Cel, c = (fun b => if b = h151.1 then some (7, 0, ob [.ref s, .int 0, .int 0, .int 0]) else cc170 b) := ⟨_, rfl⟩
        rw [← hcd171] at Y171
        have kp171 : ∀ b x, cc170 b = some x → b ≠ h151.1 → cd171 b = some x := fun b x q n => by rw [hcd171]; exact (if_neg n).trans q
        have kn171 : cd171 (h151.1) = some (7, 0, ob [.ref s, .int 0, .int 0, .int 0]) := by rw [hcd171]; exact if_pos rfl
        obtain ⟨w171, now171, e171, ft171, fp171, Q171, X171⟩ := id Y171
        obtain ⟨hrd171, htk171, T171, ⟨he171, hQe171, hen171, hkk171⟩, hst171, hro171, hsub171, hcr171, hct171, hcp171, hcw171⟩ := id X171
        obtain ⟨num171, z171, le171, hnow171, S171, h3_171, h2_171⟩ := id T171
        obtain ⟨b171, sh171, sz171, B171⟩ := id S171
        refine g_aret rfl (by first | exact Or.inl ⟨_, rfl⟩ | exact Or.inr ⟨_, rfl⟩) (by first | exact Or.inl rfl | exact Or.inr ⟨_, rfl⟩) dX3_kind_164 ?_
        have hv : P.f = 0 → hkV P = 0 := fun hf => by unfold hkV; exact if_pos ((fun hf => by have q := st_q hst0 hf; have e := is_T (i := 5) (Q := Q0) (by rw [q]; exact hf) hkk0 B0.2.2.1 (by decide) h2_0; rw [hs2, q] at e; exact e.symm.trans ceq) hf)
        refine ⟨_, cd171, rfl, (fun b x q => kp171 b x ((fun b x q => sub170 b x ((fun b x (q : c0 b = some x) => q) b x q)) b x q) (fun z => by have := ce_lt (hsub0 b x q); rw [z] at this; omega)), by rw [← hk_p (by decide) hv]; exact ⟨_, _, _, _, _, _, X171⟩, ⟨0, by omega, kn171, by omega, fun hz => hk_v (by decide) hv hz⟩⟩
    refine g_look (tgt := 125) dX3_kind_30 (by decide) (off := 95) ((off_n (nk q20 (by decide))).trans ((off_n (nk q12 (by decide))).trans ((off_n (nk q22 (by decide))).trans ((off_n (nk q5 (by decide))).trans rfl)))) (by decide) ?_
    refine g_iload_n dX3_kind_125 0 rfl ?_
    refine g_tabOut (tgt := 192) dX3_kind_126 (by decide) (by decide) ?_
    refine g_aload_n dX3_kind_192 2 rfl ?_
    refine g_iconst (x := 1) dX3_kind_193 rfl ?_
    refine g_callV (t_X3_wrong _ EK (⟨_, _, _, _, _, _, X151⟩) 1 (by decide)) (lw_V q678 q680 qs4 q129 q681) okX3_wrong (hrd151) rfl rfl rfl rfl (Nat.le_of_ble_eq_true rfl) dX3_kind_194 (fun v1 h172 _ _ hq => ?_)
    obtain ⟨rfl, Y172⟩ := hq
    show wp Δ (d + 5) muX3_kind 197 [(3, .int (-1)), (2, .ref w0), (0, .ref E.rd), (1, .ref s)] [] h172 _
    obtain ⟨w172, now172, e172, ft172, fp172, Q172, X172⟩ := id Y172
    obtain ⟨hrd172, htk172, T172, ⟨he172, hQe172, hen172, hkk172⟩, hst172, hro172, hsub172, hcr172, hct172, hcp172, hcw172⟩ := id X172
    obtain ⟨num172, z172, le172, hnow172, S172, h3_172, h2_172⟩ := id T172
    obtain ⟨b172, sh172, sz172, B172⟩ := id S172
    refine g_new (f := ob [.null, .int 0, .int 0, .int 0]) k_7 df_7 q863 q864 q145 dX3_kind_197 (fun n173 => ?_)
    refine wp_new (Fr.refl (fun _ => False) _) n173 (fun u173 F173 z173 c173 k173 => ?_)
    obtain ⟨cc173, Y173, sub173, mx173⟩ := px_max (px_more (m := 1) (h2 := u173) (⟨_, _, _, _, _, _, X172⟩ : PX Δ E L h172 c0 (wgP 1 P.a P)) (by have := F173.1; omega) (by have := F173.1; omega) k173)
    have cn173 := mx173 _ _ c173 (by show 7 ≠ 2; omega) (by show 7 ≠ 3; omega) (by show 7 ≠ 16; omega)
    obtain ⟨w173, now173, e173, ft173, fp173, Q173, X173⟩ := id Y173
    obtain ⟨hrd173, htk173, T173, ⟨he173, hQe173, hen173, hkk173⟩, hst173, hro173, hsub173, hcr173, hct173, hcp173, hcw173⟩ := id X173
    obtain ⟨num173, z173, le173, hnow173, S173, h3_173, h2_173⟩ := id T173
    obtain ⟨b173, sh173, sz173, B173⟩ := id S173
    refine g_dup dX3_kind_200 rfl ?_
    refine g_aload_n dX3_kind_201 3 rfl ?_
    refine g_callI (t_X8_init _ (h172.1) s (hsub173 _ _ (cn173)) (by omega)) (lw_meth q867) rfl q145 q865 q866 rfl okX8_init rfl rfl (Nat.le_of_ble_eq_true rfl) dX3_kind_202 (fun v1 u174 _ _ hq => ?_)
    obtain ⟨rfl, F174, c174⟩ := hq
    have k174 : ∀ b z, ce Δ u173 b = some z → b ≠ h172.1 → ce Δ u174 b = some z := fun b z q n => F174.2 b z q n
    show wp Δ (d + 5) muX3_kind 205 [(3, .int (-1)), (2, .ref w0), (0, .ref E.rd), (1, .ref s)] [.ref h172.1] u174 _
    have Y174 := px_put (h2 := u174) (⟨_, _, _, _, _, _, X173⟩ : PX Δ E (L + 1) u173 cc173 (wgP 1 P.a P)) (cn173) ⟨by show 7 ≠ 2; omega, by show 7 ≠ 3; omega, by show 7 ≠ 5; omega, by show 7 ≠ 16; omega, by show 7 ≠ 102; omega⟩ (by have := F174.1; omega) (by have := F174.1; omega) c174 k174
    obtain ⟨cd174, hcd174⟩ : ∃ c : Nat → Option Cel, c = (fun b => if b = h172.1 then some (7, 0, ob [.ref s, .int 0, .int 0, .int 0]) else cc173 b) := ⟨_, rfl⟩
    rw [← hcd174] at Y174
    have kp174 : ∀ b x, cc173 b = some x → b ≠ h172.1 → cd174 b = some x := fun b x q n => by rw [hcd174]; exact (if_neg n).trans q
    have kn174 : cd174 (h172.1) = some (7, 0, ob [.ref s, .int 0, .int 0, .int 0]) := by rw [hcd174]; exact if_pos rfl
    obtain ⟨w174, now174, e174, ft174, fp174, Q174, X174⟩ := id Y174
    obtain ⟨hrd174, htk174, T174, ⟨he174, hQe174, hen174, hkk174⟩, hst174, hro174, hsub174, hcr174, hct174, hcp174, hcw174⟩ := id X174
    obtain ⟨num174, z174, le174, hnow174, S174, h3_174, h2_174⟩ := id T174
    obtain ⟨b174, sh174, sz174, B174⟩ := id S174
    refine g_aret rfl (by first | exact Or.inl ⟨_, rfl⟩ | exact Or.inr ⟨_, rfl⟩) (by first | exact Or.inl rfl | exact Or.inr ⟨_, rfl⟩) dX3_kind_205 ?_
    have en := hk_0 (fun hf => by have q := st_q hst0 hf; have e := is_T (i := 5) (Q := Q0) (by rw [q]; exact hf) hkk0 B0.2.2.1 (by decide) h2_0; rw [hs2, q] at e; exact e.symm.trans (enf hk_5 q5)) (fun hf => by have q := st_q hst0 hf; have e := is_T (i := 20) (Q := Q0) (by rw [q]; exact hf) hkk0 B0.2.2.1 (by decide) h2_0; rw [hs2, q] at e; exact e.symm.trans (enf hk_20 q20)) (fun hf => by have q := st_q hst0 hf; have e := is_T (i := 22) (Q := Q0) (by rw [q]; exact hf) hkk0 B0.2.2.1 (by decide) h2_0; rw [hs2, q] at e; exact e.symm.trans (enf hk_22 q22)) (fun hf => by have q := st_q hst0 hf; have e := is_T (i := 12) (Q := Q0) (by rw [q]; exact hf) hkk0 B0.2.2.1 (by decide) h2_0; rw [hs2, q] at e; exact e.symm.trans (enf hk_12 q12))
    refine ⟨_, cd174, rfl, (fun b x q => kp174 b x ((fun b x q => sub173 b x ((fun b x (q : c0 b = some x) => q) b x q)) b x q) (fun z => by have := ce_lt (hsub0 b x q); rw [z] at this; omega)), by rw [← en]; exact ⟨_, _, _, _, _, _, X174⟩, ⟨0, by omega, kn174, by omega, fun hz => absurd hz (by rw [← en]; exact f_wgN)⟩⟩
