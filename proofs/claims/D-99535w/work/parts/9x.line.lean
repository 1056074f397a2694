theorem li_gp {Δ : Cx} {E : Ev} {c : Nat → Option Cel} {fr : Nat → Int32} {EL cp cnt : Nat → Nat} {el : Nat → Nat → Nat} (G : GP Δ E c fr EL cp cnt el) (h : LI fr) : ∃ np nf, LIq (cnt 0) (cnt 1) (cnt 2) (cnt 3) np nf 13 fr := by
  obtain ⟨nb, nh, nl, ns, np, nf, I⟩ := h
  have hx : ∀ j, j < 4 → cnt j ≤ 10 := fun j hj => by
    obtain ⟨mc, g, q1, q2, q3, q4, -⟩ := G.2.2.2.1 j hj
    omega
  have h0 := hx 0 (by omega); have h1 := hx 1 (by omega); have h2 := hx 2 (by omega); have h3 := hx 3 (by omega)
  obtain ⟨e0, e1, e2, e3⟩ := G.2.2.1
  have a0 : nb = cnt 0 := (nI_eq (by have := I.1; omega) (by omega)).mp (I.2.1.1.symm.trans e0)
  have a1 : nh = cnt 1 := (nI_eq (by have := I.1; omega) (by omega)).mp (I.2.1.2.1.symm.trans e1)
  have a2 : nl = cnt 2 := (nI_eq (by have := I.1; omega) (by omega)).mp (I.2.1.2.2.1.symm.trans e2)
  have a3 : ns = cnt 3 := (nI_eq (by have := I.1; omega) (by omega)).mp (I.2.1.2.2.2.1.symm.trans e3)
  subst a0 a1 a2 a3
  exact ⟨np, nf, I⟩
set_option maxRecDepth 100000 in
theorem t_X3_line {Δ : Cx} {h : Hp} (d : Nat) {E : Ev} {L : Nat} {c0 : Nat → Option Cel} {P : Pk} (EK : EOK Δ E) (X : PX Δ E L h c0 P) {EL cp cnt : Nat → Nat} {el : Nat → Nat → Nat} {np nf : Nat} (G : GP Δ E c0 P.fr EL cp cnt el) (I : LIq (cnt 0) (cnt 1) (cnt 2) (cnt 3) np nf 13 P.fr) (EO : eOk E.n P) (hf0 : P.f = 0) : mt Δ (d + 11) muX3_line [.ref E.rd] h (LNQ Δ E L c0 (rlL E.t E.n P)) := by
  obtain ⟨w0, now0, e0, ft0, fp0, Q0, X0⟩ := id X
  obtain ⟨hrd0, htk0, T0, ⟨he0, hQe0, hen0, hkk0⟩, hst0, hro0, hsub0, hcr0, hct0, hcp0, hcw0⟩ := id X0
  obtain ⟨num0, z0, le0, hnow0, S0, h3_0, h2_0⟩ := id T0
  obtain ⟨b0, sh0, sz0, B0⟩ := id S0
  refine mt_of (lv0 := [(0, .ref E.rd)]) rfl rfl (Nat.le_of_ble_eq_true rfl) rfl ?_
  refine g_aload_n dX3_line_0 0 rfl ?_
  refine gh_get (x := .ref now0) f_2_2 q580 (hrd0) dX3_line_1 rfl ?_
  refine gh_get (x := .int (srt Q0.k)) f_5_0 q372 (hnow0) dX3_line_4 rfl ?_
  refine g_iconst (x := 2) dX3_line_7 rfl ?_
  refine g_icmp_ne (tgt := 21) dX3_line_8 (by decide) (fun c_1 => ?_) (fun c_1 => ?_)
  ·
    have hs2 : ¬ srt Q0.k = 2 := c_1
    refine g_ldcS (tx := "") (i := 0) (by decide +kernel) dX3_line_21 ?_
    refine g_astore_n (lv' := [(1, .ref (cT Δ 0)), (0, .ref E.rd)]) dX3_line_23 (by decide) rfl ?_
    refine g_iconst (x := -1) dX3_line_24 rfl ?_
    refine g_istore_n (lv' := [(2, .int (-1)), (1, .ref (cT Δ 0)), (0, .ref E.rd)]) dX3_line_25 (by decide) rfl ?_
    refine g_aload_n dX3_line_26 1 rfl ?_
    obtain ⟨f_, bz, shz, szz, SZ⟩ := st_0 EK.2.2.2.2.2.1 (px_n0 EK (⟨_, _, _, _, _, _, X0⟩))
    refine g_callV (t_J5_hashCode _ SZ) (lw_V q605 q606 q607 q135 q608) okJ5_hashCode SZ.1 rfl rfl rfl rfl (Nat.le_of_ble_eq_true rfl) dX3_line_27 (fun v1 h338 _ _ hq => ?_)
    obtain ⟨rfl, F338, -⟩ := hq
    have Y338 := px_more (m := 0) (h2 := h338) (⟨_, _, _, _, _, _, X0⟩ : PX Δ E L h c0 P) (by have := F338.1; omega) (by have := F338.1; omega) (fr_c0 EK.2.2.2.2.2.1 (px_n0 EK (⟨_, _, _, _, _, _, X0⟩)) F338)
    show wp Δ (d + 11) muX3_line 30 [(2, .int (-1)), (1, .ref (cT Δ 0)), (0, .ref E.rd)] [.int 0] h338 _
    obtain ⟨w338, now338, e338, ft338, fp338, Q338, X338⟩ := id Y338
    obtain ⟨hrd338, htk338, T338, ⟨he338, hQe338, hen338, hkk338⟩, hst338, hro338, hsub338, hcr338, hct338, hcp338, hcw338⟩ := id X338
    obtain ⟨num338, z338, le338, hnow338, S338, h3_338, h2_338⟩ := id T338
    obtain ⟨b338, sh338, sz338, B338⟩ := id S338
    refine g_look (tgt := 215) dX3_line_30 (by decide) (off := 185) (by decide) (by decide) ?_
    refine g_iload_n dX3_line_215 0 rfl ?_
    refine g_tabOut (tgt := 320) dX3_line_216 (by decide) (by decide) ?_
    refine g_aload_n dX3_line_320 2 rfl ?_
    refine g_iconst (x := 1) dX3_line_321 rfl ?_
    refine g_callV (t_X3_wrong _ EK (⟨_, _, _, _, _, _, X338⟩) 1 (by decide)) (lw_V q678 q680 qs4 q129 q681) okX3_wrong (hrd338) rfl rfl rfl rfl (Nat.le_of_ble_eq_true rfl) dX3_line_322 (fun v1 h339 _ _ hq => ?_)
    obtain ⟨rfl, Y339⟩ := hq
    show wp Δ (d + 11) muX3_line 325 [(2, .int (-1)), (1, .ref (cT Δ 0)), (0, .ref E.rd)] [] h339 _
    obtain ⟨w339, now339, e339, ft339, fp339, Q339, X339⟩ := id Y339
    obtain ⟨hrd339, htk339, T339, ⟨he339, hQe339, hen339, hkk339⟩, hst339, hro339, hsub339, hcr339, hct339, hcp339, hcw339⟩ := id X339
    obtain ⟨num339, z339, le339, hnow339, S339, h3_339, h2_339⟩ := id T339
    obtain ⟨b339, sh339, sz339, B339⟩ := id S339
    refine g_vret rfl dX3_line_325 ?_
    have en : rlL E.t E.n P = wgP 1 P.a P := by unfold rlL; rw [if_neg (bf ((fun hf => by have q := st_q hst0 hf; exact isW_2 (fun z => hs2 (by rw [q, z]; decide))) hf0)), if_neg (bf ((fun hf => by have q := st_q hst0 hf; exact isW_2 (fun z => hs2 (by rw [q, z]; decide))) hf0)), if_neg (bf ((fun hf => by have q := st_q hst0 hf; exact isW_2 (fun z => hs2 (by rw [q, z]; decide))) hf0)), if_neg (bf ((fun hf => by have q := st_q hst0 hf; exact isW_2 (fun z => hs2 (by rw [q, z]; decide))) hf0)), if_neg (bf ((fun hf => by have q := st_q hst0 hf; exact isW_2 (fun z => hs2 (by rw [q, z]; decide))) hf0)), if_neg (bf ((fun hf => by have q := st_q hst0 hf; exact isW_2 (fun z => hs2 (by rw [q, z]; decide))) hf0)), if_neg (bf ((fun hf => by have q := st_q hst0 hf; exact isW_2 (fun z => hs2 (by rw [q, z]; decide))) hf0)), if_neg (bf ((fun hf => by have q := st_q hst0 hf; exact isW_2 (fun z => hs2 (by rw [q, z]; decide))) hf0))]
    exact lnq_no (c1 := c0) (by rw [en]; exact lnq_m 2 ⟨_, _, _, _, _, _, X339⟩) (fun b x _ q => q) (by rw [en]; exact f_wgN) ⟨_, _, _, _, _, G⟩
  ·
    have hs2 : decide (srt Q0.k = 2) = true := decide_eq_true c_1
    refine g_aload_n dX3_line_11 0 rfl ?_
    refine gh_get (x := .ref now0) f_2_2 q580 (hrd0) dX3_line_12 rfl ?_
    refine gh_get (x := .ref w0) f_5_3 q378 (hnow0) dX3_line_15 rfl ?_
    refine g_goto (tgt := 23) dX3_line_18 (by decide) ?_
    refine g_astore_n (lv' := [(1, .ref w0), (0, .ref E.rd)]) dX3_line_23 (by decide) rfl ?_
    refine g_iconst (x := -1) dX3_line_24 rfl ?_
    refine g_istore_n (lv' := [(2, .int (-1)), (1, .ref w0), (0, .ref E.rd)]) dX3_line_25 (by decide) rfl ?_
    refine g_aload_n dX3_line_26 1 rfl ?_
    refine g_callV (t_J5_hashCode _ B0) (lw_V q605 q606 q607 q135 q608) okJ5_hashCode B0.1 rfl rfl rfl rfl (Nat.le_of_ble_eq_true rfl) dX3_line_27 (fun v1 h340 _ _ hq => ?_)
    obtain ⟨rfl, F340, shK, szK, SBK⟩ := hq
    have XN340 := px_hash EK X0 F340 ⟨num0, z0, le0, F340.2 _ _ hnow0 (tg_ne hnow0 B0.1 (by show 5 ≠ 16; omega)), ⟨_, _, _, SBK⟩, h3_0, h2_0⟩
    have SNK : ST Δ (ce Δ h340) w0 z0 le0 := ⟨_, _, _, SBK⟩
    show wp Δ (d + 11) muX3_line 30 [(2, .int (-1)), (1, .ref w0), (0, .ref E.rd)] [.int (hvS le0 z0)] h340 _
    obtain ⟨w340, now340, e340, ft340, fp340, Q340, X340⟩ := id (⟨_, _, _, _, _, _, XN340⟩ : PX Δ E L h340 c0 P)
    obtain ⟨hrd340, htk340, T340, ⟨he340, hQe340, hen340, hkk340⟩, hst340, hro340, hsub340, hcr340, hct340, hcp340, hcw340⟩ := id X340
    obtain ⟨num340, z340, le340, hnow340, S340, h3_340, h2_340⟩ := id T340
    obtain ⟨b340, sh340, sz340, B340⟩ := id S340
    by_cases q1 : hvS le0 z0 = -1424030939
    ·
      refine g_look (tgt := 160) dX3_line_30 (by decide) (by rw [q1]) (by decide) ?_
      refine g_aload_n dX3_line_160 1 rfl ?_
      refine g_ldcS (tx := "aboard") (i := 1) (by decide +kernel) dX3_line_161 ?_
      refine g_callV (t_J5_equals _ SNK.tx ((EK.2.2.2.2.1 1 (by decide)).tx (px_n0 EK (⟨_, _, _, _, _, _, X340⟩)))) (lw_V q659 q660 q661 q135 q662) okJ5_equals SBK.1 rfl rfl rfl rfl (Nat.le_of_ble_eq_true rfl) dX3_line_163 (fun v1 h1 _ _ hq => ?_)
      obtain ⟨rfl, hh⟩ := hq
      rw [hh]
      show wp Δ (d + 11) muX3_line 166 [(2, .int (-1)), (1, .ref w0), (0, .ref E.rd)] [.int (bI (eqW le0 z0 (txF 1) (txN 1)))] h340 _
      refine gb_eq (tgt := 215) dX3_line_166 (by decide) (fun c_2 => ?_) (fun c_2 => ?_)
      ·
        have ceq := c_2
        refine g_iload_n dX3_line_215 0 rfl ?_
        refine g_tabOut (tgt := 320) dX3_line_216 (by decide) (by decide) ?_
        refine g_aload_n dX3_line_320 2 rfl ?_
        refine g_iconst (x := 1) dX3_line_321 rfl ?_
        refine g_callV (t_X3_wrong _ EK (⟨_, _, _, _, _, _, X340⟩) 1 (by decide)) (lw_V q678 q680 qs4 q129 q681) okX3_wrong (hrd340) rfl rfl rfl rfl (Nat.le_of_ble_eq_true rfl) dX3_line_322 (fun v1 h341 _ _ hq => ?_)
        obtain ⟨rfl, Y341⟩ := hq
        show wp Δ (d + 11) muX3_line 325 [(2, .int (-1)), (1, .ref w0), (0, .ref E.rd)] [] h341 _
        obtain ⟨w341, now341, e341, ft341, fp341, Q341, X341⟩ := id Y341
        obtain ⟨hrd341, htk341, T341, ⟨he341, hQe341, hen341, hkk341⟩, hst341, hro341, hsub341, hcr341, hct341, hcp341, hcw341⟩ := id X341
        obtain ⟨num341, z341, le341, hnow341, S341, h3_341, h2_341⟩ := id T341
        obtain ⟨b341, sh341, sz341, B341⟩ := id S341
        refine g_vret rfl dX3_line_325 ?_
        have en : rlL E.t E.n P = wgP 1 P.a P := by unfold rlL; rw [if_neg (bf ((fun hf => by have q := st_q hst0 hf; have e := is_T (i := 14) (Q := Q0) (by rw [q]; exact hf) hkk0 B0.2.2.1 (by decide) h2_0; rw [hs2, q] at e; exact e.symm.trans (enf hk_14 (by rw [q1]; decide))) hf0)), if_neg (bf ((fun hf => by have q := st_q hst0 hf; have e := is_T (i := 2) (Q := Q0) (by rw [q]; exact hf) hkk0 B0.2.2.1 (by decide) h2_0; rw [hs2, q] at e; exact e.symm.trans (enf hk_2 (by rw [q1]; decide))) hf0)), if_neg (bf ((fun hf => by have q := st_q hst0 hf; have e := is_T (i := 7) (Q := Q0) (by rw [q]; exact hf) hkk0 B0.2.2.1 (by decide) h2_0; rw [hs2, q] at e; exact e.symm.trans (enf hk_7 (by rw [q1]; decide))) hf0)), if_neg (bf ((fun hf => by have q := st_q hst0 hf; have e := is_T (i := 9) (Q := Q0) (by rw [q]; exact hf) hkk0 B0.2.2.1 (by decide) h2_0; rw [hs2, q] at e; exact e.symm.trans (enf hk_9 (by rw [q1]; decide))) hf0)), if_neg (bf ((fun hf => by have q := st_q hst0 hf; have e := is_T (i := 1) (Q := Q0) (by rw [q]; exact hf) hkk0 B0.2.2.1 (by decide) h2_0; rw [hs2, q] at e; exact e.symm.trans ceq) hf0)), if_neg (bf ((fun hf => by have q := st_q hst0 hf; have e := is_T (i := 6) (Q := Q0) (by rw [q]; exact hf) hkk0 B0.2.2.1 (by decide) h2_0; rw [hs2, q] at e; exact e.symm.trans (enf hk_6 (by rw [q1]; decide))) hf0)), if_neg (bf ((fun hf => by have q := st_q hst0 hf; have e := is_T (i := 11) (Q := Q0) (by rw [q]; exact hf) hkk0 B0.2.2.1 (by decide) h2_0; rw [hs2, q] at e; exact e.symm.trans (enf hk_11 (by rw [q1]; decide))) hf0)), if_neg (bf ((fun hf => by have q := st_q hst0 hf; have e := is_T (i := 17) (Q := Q0) (by rw [q]; exact hf) hkk0 B0.2.2.1 (by decide) h2_0; rw [hs2, q] at e; exact e.symm.trans (enf hk_17 (by rw [q1]; decide))) hf0))]
        exact lnq_no (c1 := c0) (by rw [en]; exact lnq_m 2 ⟨_, _, _, _, _, _, X341⟩) (fun b x _ q => q) (by rw [en]; exact f_wgN) ⟨_, _, _, _, _, G⟩
      ·
        have ceq := c_2
        refine g_iconst (x := 4) dX3_line_169 rfl ?_
        refine g_istore_n (lv' := [(2, .int 4), (1, .ref w0), (0, .ref E.rd)]) dX3_line_170 (by decide) rfl ?_
        refine g_goto (tgt := 215) dX3_line_171 (by decide) ?_
        refine g_iload_n dX3_line_215 0 rfl ?_
        refine g_tabIn (tgt := 292) dX3_line_216 (by decide) (by decide) rfl (by decide) ?_
        refine g_aload_n dX3_line_292 2 rfl ?_
        refine g_callV (t_X3_aboard _ EK (⟨_, _, _, _, _, _, X340⟩) G I EO ((fun hf => by have q := st_q hst0 hf; have e := is_T (i := 1) (Q := Q0) (by rw [q]; exact hf) hkk0 B0.2.2.1 (by decide) h2_0; rw [hs2, q] at e; exact e.symm.trans ceq) hf0)) (lw_V q962 q964 qs20 q129 q965) okX3_aboard (hrd340) rfl rfl rfl rfl (Nat.le_of_ble_eq_true rfl) dX3_line_293 (fun v1 h342 _ _ hq => ?_)
        obtain rfl : v1 = none := hq.1
        show wp Δ (d + 11) muX3_line 296 [(2, .int 4), (1, .ref w0), (0, .ref E.rd)] [] h342 _
        refine g_goto (tgt := 325) dX3_line_296 (by decide) ?_
        refine g_vret rfl dX3_line_325 ?_
        have en : rlL E.t E.n P = abL E.t E.n (beP E.t E.n 1 true P) := by unfold rlL; rw [if_neg (bf ((fun hf => by have q := st_q hst0 hf; have e := is_T (i := 14) (Q := Q0) (by rw [q]; exact hf) hkk0 B0.2.2.1 (by decide) h2_0; rw [hs2, q] at e; exact e.symm.trans (enf hk_14 (by rw [q1]; decide))) hf0)), if_neg (bf ((fun hf => by have q := st_q hst0 hf; have e := is_T (i := 2) (Q := Q0) (by rw [q]; exact hf) hkk0 B0.2.2.1 (by decide) h2_0; rw [hs2, q] at e; exact e.symm.trans (enf hk_2 (by rw [q1]; decide))) hf0)), if_neg (bf ((fun hf => by have q := st_q hst0 hf; have e := is_T (i := 7) (Q := Q0) (by rw [q]; exact hf) hkk0 B0.2.2.1 (by decide) h2_0; rw [hs2, q] at e; exact e.symm.trans (enf hk_7 (by rw [q1]; decide))) hf0)), if_neg (bf ((fun hf => by have q := st_q hst0 hf; have e := is_T (i := 9) (Q := Q0) (by rw [q]; exact hf) hkk0 B0.2.2.1 (by decide) h2_0; rw [hs2, q] at e; exact e.symm.trans (enf hk_9 (by rw [q1]; decide))) hf0)), if_pos ((fun hf => by have q := st_q hst0 hf; have e := is_T (i := 1) (Q := Q0) (by rw [q]; exact hf) hkk0 B0.2.2.1 (by decide) h2_0; rw [hs2, q] at e; exact e.symm.trans ceq) hf0)]
        rw [en]
        exact hq
    by_cases q6 : hvS le0 z0 = -1266283874
    ·
      refine g_look (tgt := 174) dX3_line_30 (by decide) (by rw [q6]) (by decide) ?_
      refine g_aload_n dX3_line_174 1 rfl ?_
      refine g_ldcS (tx := "friend") (i := 6) (by decide +kernel) dX3_line_175 ?_
      refine g_callV (t_J5_equals _ SNK.tx ((EK.2.2.2.2.1 6 (by decide)).tx (px_n0 EK (⟨_, _, _, _, _, _, X340⟩)))) (lw_V q659 q660 q661 q135 q662) okJ5_equals SBK.1 rfl rfl rfl rfl (Nat.le_of_ble_eq_true rfl) dX3_line_177 (fun v1 h1 _ _ hq => ?_)
      obtain ⟨rfl, hh⟩ := hq
      rw [hh]
      show wp Δ (d + 11) muX3_line 180 [(2, .int (-1)), (1, .ref w0), (0, .ref E.rd)] [.int (bI (eqW le0 z0 (txF 6) (txN 6)))] h340 _
      refine gb_eq (tgt := 215) dX3_line_180 (by decide) (fun c_3 => ?_) (fun c_3 => ?_)
      ·
        have ceq := c_3
        refine g_iload_n dX3_line_215 0 rfl ?_
        refine g_tabOut (tgt := 320) dX3_line_216 (by decide) (by decide) ?_
        refine g_aload_n dX3_line_320 2 rfl ?_
        refine g_iconst (x := 1) dX3_line_321 rfl ?_
        refine g_callV (t_X3_wrong _ EK (⟨_, _, _, _, _, _, X340⟩) 1 (by decide)) (lw_V q678 q680 qs4 q129 q681) okX3_wrong (hrd340) rfl rfl rfl rfl (Nat.le_of_ble_eq_true rfl) dX3_line_322 (fun v1 h343 _ _ hq => ?_)
        obtain ⟨rfl, Y343⟩ := hq
        show wp Δ (d + 11) muX3_line 325 [(2, .int (-1)), (1, .ref w0), (0, .ref E.rd)] [] h343 _
        obtain ⟨w343, now343, e343, ft343, fp343, Q343, X343⟩ := id Y343
        obtain ⟨hrd343, htk343, T343, ⟨he343, hQe343, hen343, hkk343⟩, hst343, hro343, hsub343, hcr343, hct343, hcp343, hcw343⟩ := id X343
        obtain ⟨num343, z343, le343, hnow343, S343, h3_343, h2_343⟩ := id T343
        obtain ⟨b343, sh343, sz343, B343⟩ := id S343
        refine g_vret rfl dX3_line_325 ?_
        have en : rlL E.t E.n P = wgP 1 P.a P := by unfold rlL; rw [if_neg (bf ((fun hf => by have q := st_q hst0 hf; have e := is_T (i := 14) (Q := Q0) (by rw [q]; exact hf) hkk0 B0.2.2.1 (by decide) h2_0; rw [hs2, q] at e; exact e.symm.trans (enf hk_14 (by rw [q6]; decide))) hf0)), if_neg (bf ((fun hf => by have q := st_q hst0 hf; have e := is_T (i := 2) (Q := Q0) (by rw [q]; exact hf) hkk0 B0.2.2.1 (by decide) h2_0; rw [hs2, q] at e; exact e.symm.trans (enf hk_2 (by rw [q6]; decide))) hf0)), if_neg (bf ((fun hf => by have q := st_q hst0 hf; have e := is_T (i := 7) (Q := Q0) (by rw [q]; exact hf) hkk0 B0.2.2.1 (by decide) h2_0; rw [hs2, q] at e; exact e.symm.trans (enf hk_7 (by rw [q6]; decide))) hf0)), if_neg (bf ((fun hf => by have q := st_q hst0 hf; have e := is_T (i := 9) (Q := Q0) (by rw [q]; exact hf) hkk0 B0.2.2.1 (by decide) h2_0; rw [hs2, q] at e; exact e.symm.trans (enf hk_9 (by rw [q6]; decide))) hf0)), if_neg (bf ((fun hf => by have q := st_q hst0 hf; have e := is_T (i := 1) (Q := Q0) (by rw [q]; exact hf) hkk0 B0.2.2.1 (by decide) h2_0; rw [hs2, q] at e; exact e.symm.trans (enf hk_1 (by rw [q6]; decide))) hf0)), if_neg (bf ((fun hf => by have q := st_q hst0 hf; have e := is_T (i := 6) (Q := Q0) (by rw [q]; exact hf) hkk0 B0.2.2.1 (by decide) h2_0; rw [hs2, q] at e; exact e.symm.trans ceq) hf0)), if_neg (bf ((fun hf => by have q := st_q hst0 hf; have e := is_T (i := 11) (Q := Q0) (by rw [q]; exact hf) hkk0 B0.2.2.1 (by decide) h2_0; rw [hs2, q] at e; exact e.symm.trans (enf hk_11 (by rw [q6]; decide))) hf0)), if_neg (bf ((fun hf => by have q := st_q hst0 hf; have e := is_T (i := 17) (Q := Q0) (by rw [q]; exact hf) hkk0 B0.2.2.1 (by decide) h2_0; rw [hs2, q] at e; exact e.symm.trans (enf hk_17 (by rw [q6]; decide))) hf0))]
        exact lnq_no (c1 := c0) (by rw [en]; exact lnq_m 2 ⟨_, _, _, _, _, _, X343⟩) (fun b x _ q => q) (by rw [en]; exact f_wgN) ⟨_, _, _, _, _, G⟩
      ·
        have ceq := c_3
        refine g_iconst (x := 5) dX3_line_183 rfl ?_
        refine g_istore_n (lv' := [(2, .int 5), (1, .ref w0), (0, .ref E.rd)]) dX3_line_184 (by decide) rfl ?_
        refine g_goto (tgt := 215) dX3_line_185 (by decide) ?_
        refine g_iload_n dX3_line_215 0 rfl ?_
        refine g_tabIn (tgt := 299) dX3_line_216 (by decide) (by decide) rfl (by decide) ?_
        refine g_aload_n dX3_line_299 2 rfl ?_
        refine g_callV (t_X3_friend _ EK (⟨_, _, _, _, _, _, X340⟩) G I EO ((fun hf => by have q := st_q hst0 hf; have e := is_T (i := 6) (Q := Q0) (by rw [q]; exact hf) hkk0 B0.2.2.1 (by decide) h2_0; rw [hs2, q] at e; exact e.symm.trans ceq) hf0)) (lw_V q983 q985 qs24 q129 q986) okX3_friend (hrd340) rfl rfl rfl rfl (Nat.le_of_ble_eq_true rfl) dX3_line_300 (fun v1 h344 _ _ hq => ?_)
        obtain rfl : v1 = none := hq.1
        show wp Δ (d + 11) muX3_line 303 [(2, .int 5), (1, .ref w0), (0, .ref E.rd)] [] h344 _
        refine g_goto (tgt := 325) dX3_line_303 (by decide) ?_
        refine g_vret rfl dX3_line_325 ?_
        have en : rlL E.t E.n P = frL E.t E.n (beP E.t E.n 6 (cB P 8 6) P) := by unfold rlL; rw [if_neg (bf ((fun hf => by have q := st_q hst0 hf; have e := is_T (i := 14) (Q := Q0) (by rw [q]; exact hf) hkk0 B0.2.2.1 (by decide) h2_0; rw [hs2, q] at e; exact e.symm.trans (enf hk_14 (by rw [q6]; decide))) hf0)), if_neg (bf ((fun hf => by have q := st_q hst0 hf; have e := is_T (i := 2) (Q := Q0) (by rw [q]; exact hf) hkk0 B0.2.2.1 (by decide) h2_0; rw [hs2, q] at e; exact e.symm.trans (enf hk_2 (by rw [q6]; decide))) hf0)), if_neg (bf ((fun hf => by have q := st_q hst0 hf; have e := is_T (i := 7) (Q := Q0) (by rw [q]; exact hf) hkk0 B0.2.2.1 (by decide) h2_0; rw [hs2, q] at e; exact e.symm.trans (enf hk_7 (by rw [q6]; decide))) hf0)), if_neg (bf ((fun hf => by have q := st_q hst0 hf; have e := is_T (i := 9) (Q := Q0) (by rw [q]; exact hf) hkk0 B0.2.2.1 (by decide) h2_0; rw [hs2, q] at e; exact e.symm.trans (enf hk_9 (by rw [q6]; decide))) hf0)), if_neg (bf ((fun hf => by have q := st_q hst0 hf; have e := is_T (i := 1) (Q := Q0) (by rw [q]; exact hf) hkk0 B0.2.2.1 (by decide) h2_0; rw [hs2, q] at e; exact e.symm.trans (enf hk_1 (by rw [q6]; decide))) hf0)), if_pos ((fun hf => by have q := st_q hst0 hf; have e := is_T (i := 6) (Q := Q0) (by rw [q]; exact hf) hkk0 B0.2.2.1 (by decide) h2_0; rw [hs2, q] at e; exact e.symm.trans ceq) hf0)]
        rw [en]
        exact hq
    by_cases q9 : hvS le0 z0 = -1097426829
    ·
      refine g_look (tgt := 146) dX3_line_30 (by decide) (by rw [q9]) (by decide) ?_
      refine g_aload_n dX3_line_146 1 rfl ?_
      refine g_ldcS (tx := "lodger") (i := 9) (by decide +kernel) dX3_line_147 ?_
      refine g_callV (t_J5_equals _ SNK.tx ((EK.2.2.2.2.1 9 (by decide)).tx (px_n0 EK (⟨_, _, _, _, _, _, X340⟩)))) (lw_V q659 q660 q661 q135 q662) okJ5_equals SBK.1 rfl rfl rfl rfl (Nat.le_of_ble_eq_true rfl) dX3_line_149 (fun v1 h1 _ _ hq => ?_)
      obtain ⟨rfl, hh⟩ := hq
      rw [hh]
      show wp Δ (d + 11) muX3_line 152 [(2, .int (-1)), (1, .ref w0), (0, .ref E.rd)] [.int (bI (eqW le0 z0 (txF 9) (txN 9)))] h340 _
      refine gb_eq (tgt := 215) dX3_line_152 (by decide) (fun c_4 => ?_) (fun c_4 => ?_)
      ·
        have ceq := c_4
        refine g_iload_n dX3_line_215 0 rfl ?_
        refine g_tabOut (tgt := 320) dX3_line_216 (by decide) (by decide) ?_
        refine g_aload_n dX3_line_320 2 rfl ?_
        refine g_iconst (x := 1) dX3_line_321 rfl ?_
        refine g_callV (t_X3_wrong _ EK (⟨_, _, _, _, _, _, X340⟩) 1 (by decide)) (lw_V q678 q680 qs4 q129 q681) okX3_wrong (hrd340) rfl rfl rfl rfl (Nat.le_of_ble_eq_true rfl) dX3_line_322 (fun v1 h345 _ _ hq => ?_)
        obtain ⟨rfl, Y345⟩ := hq
        show wp Δ (d + 11) muX3_line 325 [(2, .int (-1)), (1, .ref w0), (0, .ref E.rd)] [] h345 _
        obtain ⟨w345, now345, e345, ft345, fp345, Q345, X345⟩ := id Y345
        obtain ⟨hrd345, htk345, T345, ⟨he345, hQe345, hen345, hkk345⟩, hst345, hro345, hsub345, hcr345, hct345, hcp345, hcw345⟩ := id X345
        obtain ⟨num345, z345, le345, hnow345, S345, h3_345, h2_345⟩ := id T345
        obtain ⟨b345, sh345, sz345, B345⟩ := id S345
        refine g_vret rfl dX3_line_325 ?_
        have en : rlL E.t E.n P = wgP 1 P.a P := by unfold rlL; rw [if_neg (bf ((fun hf => by have q := st_q hst0 hf; have e := is_T (i := 14) (Q := Q0) (by rw [q]; exact hf) hkk0 B0.2.2.1 (by decide) h2_0; rw [hs2, q] at e; exact e.symm.trans (enf hk_14 (by rw [q9]; decide))) hf0)), if_neg (bf ((fun hf => by have q := st_q hst0 hf; have e := is_T (i := 2) (Q := Q0) (by rw [q]; exact hf) hkk0 B0.2.2.1 (by decide) h2_0; rw [hs2, q] at e; exact e.symm.trans (enf hk_2 (by rw [q9]; decide))) hf0)), if_neg (bf ((fun hf => by have q := st_q hst0 hf; have e := is_T (i := 7) (Q := Q0) (by rw [q]; exact hf) hkk0 B0.2.2.1 (by decide) h2_0; rw [hs2, q] at e; exact e.symm.trans (enf hk_7 (by rw [q9]; decide))) hf0)), if_neg (bf ((fun hf => by have q := st_q hst0 hf; have e := is_T (i := 9) (Q := Q0) (by rw [q]; exact hf) hkk0 B0.2.2.1 (by decide) h2_0; rw [hs2, q] at e; exact e.symm.trans ceq) hf0)), if_neg (bf ((fun hf => by have q := st_q hst0 hf; have e := is_T (i := 1) (Q := Q0) (by rw [q]; exact hf) hkk0 B0.2.2.1 (by decide) h2_0; rw [hs2, q] at e; exact e.symm.trans (enf hk_1 (by rw [q9]; decide))) hf0)), if_neg (bf ((fun hf => by have q := st_q hst0 hf; have e := is_T (i := 6) (Q := Q0) (by rw [q]; exact hf) hkk0 B0.2.2.1 (by decide) h2_0; rw [hs2, q] at e; exact e.symm.trans (enf hk_6 (by rw [q9]; decide))) hf0)), if_neg (bf ((fun hf => by have q := st_q hst0 hf; have e := is_T (i := 11) (Q := Q0) (by rw [q]; exact hf) hkk0 B0.2.2.1 (by decide) h2_0; rw [hs2, q] at e; exact e.symm.trans (enf hk_11 (by rw [q9]; decide))) hf0)), if_neg (bf ((fun hf => by have q := st_q hst0 hf; have e := is_T (i := 17) (Q := Q0) (by rw [q]; exact hf) hkk0 B0.2.2.1 (by decide) h2_0; rw [hs2, q] at e; exact e.symm.trans (enf hk_17 (by rw [q9]; decide))) hf0))]
        exact lnq_no (c1 := c0) (by rw [en]; exact lnq_m 2 ⟨_, _, _, _, _, _, X345⟩) (fun b x _ q => q) (by rw [en]; exact f_wgN) ⟨_, _, _, _, _, G⟩
      ·
        have ceq := c_4
        refine g_iconst (x := 3) dX3_line_155 rfl ?_
        refine g_istore_n (lv' := [(2, .int 3), (1, .ref w0), (0, .ref E.rd)]) dX3_line_156 (by decide) rfl ?_
        refine g_goto (tgt := 215) dX3_line_157 (by decide) ?_
        refine g_iload_n dX3_line_215 0 rfl ?_
        refine g_tabIn (tgt := 285) dX3_line_216 (by decide) (by decide) rfl (by decide) ?_
        refine g_aload_n dX3_line_285 2 rfl ?_
        refine g_callV (t_X3_lodger _ EK (⟨_, _, _, _, _, _, X340⟩) G I EO ((fun hf => by have q := st_q hst0 hf; have e := is_T (i := 9) (Q := Q0) (by rw [q]; exact hf) hkk0 B0.2.2.1 (by decide) h2_0; rw [hs2, q] at e; exact e.symm.trans ceq) hf0)) (lw_V q924 q926 qs19 q129 q927) okX3_lodger (hrd340) rfl rfl rfl rfl (Nat.le_of_ble_eq_true rfl) dX3_line_286 (fun v1 h346 _ _ hq => ?_)
        obtain rfl : v1 = none := hq.1
        show wp Δ (d + 11) muX3_line 289 [(2, .int 3), (1, .ref w0), (0, .ref E.rd)] [] h346 _
        refine g_goto (tgt := 325) dX3_line_289 (by decide) ?_
        refine g_vret rfl dX3_line_325 ?_
        have en : rlL E.t E.n P = loL E.t E.n (beP E.t E.n 9 (cB P 7 5) P) := by unfold rlL; rw [if_neg (bf ((fun hf => by have q := st_q hst0 hf; have e := is_T (i := 14) (Q := Q0) (by rw [q]; exact hf) hkk0 B0.2.2.1 (by decide) h2_0; rw [hs2, q] at e; exact e.symm.trans (enf hk_14 (by rw [q9]; decide))) hf0)), if_neg (bf ((fun hf => by have q := st_q hst0 hf; have e := is_T (i := 2) (Q := Q0) (by rw [q]; exact hf) hkk0 B0.2.2.1 (by decide) h2_0; rw [hs2, q] at e; exact e.symm.trans (enf hk_2 (by rw [q9]; decide))) hf0)), if_neg (bf ((fun hf => by have q := st_q hst0 hf; have e := is_T (i := 7) (Q := Q0) (by rw [q]; exact hf) hkk0 B0.2.2.1 (by decide) h2_0; rw [hs2, q] at e; exact e.symm.trans (enf hk_7 (by rw [q9]; decide))) hf0)), if_pos ((fun hf => by have q := st_q hst0 hf; have e := is_T (i := 9) (Q := Q0) (by rw [q]; exact hf) hkk0 B0.2.2.1 (by decide) h2_0; rw [hs2, q] at e; exact e.symm.trans ceq) hf0)]
        rw [en]
        exact hq
    by_cases q17 : hvS le0 z0 = 113641
    ·
      refine g_look (tgt := 203) dX3_line_30 (by decide) (by rw [q17]) (by decide) ?_
      refine g_aload_n dX3_line_203 1 rfl ?_
      refine g_ldcS (tx := "saw") (i := 17) (by decide +kernel) dX3_line_204 ?_
      refine g_callV (t_J5_equals _ SNK.tx ((EK.2.2.2.2.1 17 (by decide)).tx (px_n0 EK (⟨_, _, _, _, _, _, X340⟩)))) (lw_V q659 q660 q661 q135 q662) okJ5_equals SBK.1 rfl rfl rfl rfl (Nat.le_of_ble_eq_true rfl) dX3_line_206 (fun v1 h1 _ _ hq => ?_)
      obtain ⟨rfl, hh⟩ := hq
      rw [hh]
      show wp Δ (d + 11) muX3_line 209 [(2, .int (-1)), (1, .ref w0), (0, .ref E.rd)] [.int (bI (eqW le0 z0 (txF 17) (txN 17)))] h340 _
      refine gb_eq (tgt := 215) dX3_line_209 (by decide) (fun c_5 => ?_) (fun c_5 => ?_)
      ·
        have ceq := c_5
        refine g_iload_n dX3_line_215 0 rfl ?_
        refine g_tabOut (tgt := 320) dX3_line_216 (by decide) (by decide) ?_
        refine g_aload_n dX3_line_320 2 rfl ?_
        refine g_iconst (x := 1) dX3_line_321 rfl ?_
        refine g_callV (t_X3_wrong _ EK (⟨_, _, _, _, _, _, X340⟩) 1 (by decide)) (lw_V q678 q680 qs4 q129 q681) okX3_wrong (hrd340) rfl rfl rfl rfl (Nat.le_of_ble_eq_true rfl) dX3_line_322 (fun v1 h347 _ _ hq => ?_)
        obtain ⟨rfl, Y347⟩ := hq
        show wp Δ (d + 11) muX3_line 325 [(2, .int (-1)), (1, .ref w0), (0, .ref E.rd)] [] h347 _
        obtain ⟨w347, now347, e347, ft347, fp347, Q347, X347⟩ := id Y347
        obtain ⟨hrd347, htk347, T347, ⟨he347, hQe347, hen347, hkk347⟩, hst347, hro347, hsub347, hcr347, hct347, hcp347, hcw347⟩ := id X347
        obtain ⟨num347, z347, le347, hnow347, S347, h3_347, h2_347⟩ := id T347
        obtain ⟨b347, sh347, sz347, B347⟩ := id S347
        refine g_vret rfl dX3_line_325 ?_
        have en : rlL E.t E.n P = wgP 1 P.a P := by unfold rlL; rw [if_neg (bf ((fun hf => by have q := st_q hst0 hf; have e := is_T (i := 14) (Q := Q0) (by rw [q]; exact hf) hkk0 B0.2.2.1 (by decide) h2_0; rw [hs2, q] at e; exact e.symm.trans (enf hk_14 (by rw [q17]; decide))) hf0)), if_neg (bf ((fun hf => by have q := st_q hst0 hf; have e := is_T (i := 2) (Q := Q0) (by rw [q]; exact hf) hkk0 B0.2.2.1 (by decide) h2_0; rw [hs2, q] at e; exact e.symm.trans (enf hk_2 (by rw [q17]; decide))) hf0)), if_neg (bf ((fun hf => by have q := st_q hst0 hf; have e := is_T (i := 7) (Q := Q0) (by rw [q]; exact hf) hkk0 B0.2.2.1 (by decide) h2_0; rw [hs2, q] at e; exact e.symm.trans (enf hk_7 (by rw [q17]; decide))) hf0)), if_neg (bf ((fun hf => by have q := st_q hst0 hf; have e := is_T (i := 9) (Q := Q0) (by rw [q]; exact hf) hkk0 B0.2.2.1 (by decide) h2_0; rw [hs2, q] at e; exact e.symm.trans (enf hk_9 (by rw [q17]; decide))) hf0)), if_neg (bf ((fun hf => by have q := st_q hst0 hf; have e := is_T (i := 1) (Q := Q0) (by rw [q]; exact hf) hkk0 B0.2.2.1 (by decide) h2_0; rw [hs2, q] at e; exact e.symm.trans (enf hk_1 (by rw [q17]; decide))) hf0)), if_neg (bf ((fun hf => by have q := st_q hst0 hf; have e := is_T (i := 6) (Q := Q0) (by rw [q]; exact hf) hkk0 B0.2.2.1 (by decide) h2_0; rw [hs2, q] at e; exact e.symm.trans (enf hk_6 (by rw [q17]; decide))) hf0)), if_neg (bf ((fun hf => by have q := st_q hst0 hf; have e := is_T (i := 11) (Q := Q0) (by rw [q]; exact hf) hkk0 B0.2.2.1 (by decide) h2_0; rw [hs2, q] at e; exact e.symm.trans (enf hk_11 (by rw [q17]; decide))) hf0)), if_neg (bf ((fun hf => by have q := st_q hst0 hf; have e := is_T (i := 17) (Q := Q0) (by rw [q]; exact hf) hkk0 B0.2.2.1 (by decide) h2_0; rw [hs2, q] at e; exact e.symm.trans ceq) hf0))]
        exact lnq_no (c1 := c0) (by rw [en]; exact lnq_m 2 ⟨_, _, _, _, _, _, X347⟩) (fun b x _ q => q) (by rw [en]; exact f_wgN) ⟨_, _, _, _, _, G⟩
      ·
        have ceq := c_5
        refine g_bipush (x := 7) dX3_line_212 rfl ?_
        refine g_istore_n (lv' := [(2, .int 7), (1, .ref w0), (0, .ref E.rd)]) dX3_line_214 (by decide) rfl ?_
        refine g_iload_n dX3_line_215 0 rfl ?_
        refine g_tabIn (tgt := 313) dX3_line_216 (by decide) (by decide) rfl (by decide) ?_
        refine g_aload_n dX3_line_313 2 rfl ?_
        refine g_callV (t_X3_saw _ EK (⟨_, _, _, _, _, _, X340⟩) G I EO ((fun hf => by have q := st_q hst0 hf; have e := is_T (i := 17) (Q := Q0) (by rw [q]; exact hf) hkk0 B0.2.2.1 (by decide) h2_0; rw [hs2, q] at e; exact e.symm.trans ceq) hf0)) (lw_V q998 q1000 qs27 q129 q1001) okX3_saw (hrd340) rfl rfl rfl rfl (Nat.le_of_ble_eq_true rfl) dX3_line_314 (fun v1 h348 _ _ hq => ?_)
        obtain rfl : v1 = none := hq.1
        show wp Δ (d + 11) muX3_line 317 [(2, .int 7), (1, .ref w0), (0, .ref E.rd)] [] h348 _
        refine g_goto (tgt := 325) dX3_line_317 (by decide) ?_
        refine g_vret rfl dX3_line_325 ?_
        have en : rlL E.t E.n P = saL E.t E.n (beP E.t E.n 17 (cB P 10 5) P) := by unfold rlL; rw [if_neg (bf ((fun hf => by have q := st_q hst0 hf; have e := is_T (i := 14) (Q := Q0) (by rw [q]; exact hf) hkk0 B0.2.2.1 (by decide) h2_0; rw [hs2, q] at e; exact e.symm.trans (enf hk_14 (by rw [q17]; decide))) hf0)), if_neg (bf ((fun hf => by have q := st_q hst0 hf; have e := is_T (i := 2) (Q := Q0) (by rw [q]; exact hf) hkk0 B0.2.2.1 (by decide) h2_0; rw [hs2, q] at e; exact e.symm.trans (enf hk_2 (by rw [q17]; decide))) hf0)), if_neg (bf ((fun hf => by have q := st_q hst0 hf; have e := is_T (i := 7) (Q := Q0) (by rw [q]; exact hf) hkk0 B0.2.2.1 (by decide) h2_0; rw [hs2, q] at e; exact e.symm.trans (enf hk_7 (by rw [q17]; decide))) hf0)), if_neg (bf ((fun hf => by have q := st_q hst0 hf; have e := is_T (i := 9) (Q := Q0) (by rw [q]; exact hf) hkk0 B0.2.2.1 (by decide) h2_0; rw [hs2, q] at e; exact e.symm.trans (enf hk_9 (by rw [q17]; decide))) hf0)), if_neg (bf ((fun hf => by have q := st_q hst0 hf; have e := is_T (i := 1) (Q := Q0) (by rw [q]; exact hf) hkk0 B0.2.2.1 (by decide) h2_0; rw [hs2, q] at e; exact e.symm.trans (enf hk_1 (by rw [q17]; decide))) hf0)), if_neg (bf ((fun hf => by have q := st_q hst0 hf; have e := is_T (i := 6) (Q := Q0) (by rw [q]; exact hf) hkk0 B0.2.2.1 (by decide) h2_0; rw [hs2, q] at e; exact e.symm.trans (enf hk_6 (by rw [q17]; decide))) hf0)), if_neg (bf ((fun hf => by have q := st_q hst0 hf; have e := is_T (i := 11) (Q := Q0) (by rw [q]; exact hf) hkk0 B0.2.2.1 (by decide) h2_0; rw [hs2, q] at e; exact e.symm.trans (enf hk_11 (by rw [q17]; decide))) hf0)), if_pos ((fun hf => by have q := st_q hst0 hf; have e := is_T (i := 17) (Q := Q0) (by rw [q]; exact hf) hkk0 B0.2.2.1 (by decide) h2_0; rw [hs2, q] at e; exact e.symm.trans ceq) hf0)]
        rw [en]
        exact hq
    by_cases q2 : hvS le0 z0 = 3020089
    ·
      refine g_look (tgt := 118) dX3_line_30 (by decide) (by rw [q2]) (by decide) ?_
      refine g_aload_n dX3_line_118 1 rfl ?_
      refine g_ldcS (tx := "bend") (i := 2) (by decide +kernel) dX3_line_119 ?_
      refine g_callV (t_J5_equals _ SNK.tx ((EK.2.2.2.2.1 2 (by decide)).tx (px_n0 EK (⟨_, _, _, _, _, _, X340⟩)))) (lw_V q659 q660 q661 q135 q662) okJ5_equals SBK.1 rfl rfl rfl rfl (Nat.le_of_ble_eq_true rfl) dX3_line_121 (fun v1 h1 _ _ hq => ?_)
      obtain ⟨rfl, hh⟩ := hq
      rw [hh]
      show wp Δ (d + 11) muX3_line 124 [(2, .int (-1)), (1, .ref w0), (0, .ref E.rd)] [.int (bI (eqW le0 z0 (txF 2) (txN 2)))] h340 _
      refine gb_eq (tgt := 215) dX3_line_124 (by decide) (fun c_6 => ?_) (fun c_6 => ?_)
      ·
        have ceq := c_6
        refine g_iload_n dX3_line_215 0 rfl ?_
        refine g_tabOut (tgt := 320) dX3_line_216 (by decide) (by decide) ?_
        refine g_aload_n dX3_line_320 2 rfl ?_
        refine g_iconst (x := 1) dX3_line_321 rfl ?_
        refine g_callV (t_X3_wrong _ EK (⟨_, _, _, _, _, _, X340⟩) 1 (by decide)) (lw_V q678 q680 qs4 q129 q681) okX3_wrong (hrd340) rfl rfl rfl rfl (Nat.le_of_ble_eq_true rfl) dX3_line_322 (fun v1 h349 _ _ hq => ?_)
        obtain ⟨rfl, Y349⟩ := hq
        show wp Δ (d + 11) muX3_line 325 [(2, .int (-1)), (1, .ref w0), (0, .ref E.rd)] [] h349 _
        obtain ⟨w349, now349, e349, ft349, fp349, Q349, X349⟩ := id Y349
        obtain ⟨hrd349, htk349, T349, ⟨he349, hQe349, hen349, hkk349⟩, hst349, hro349, hsub349, hcr349, hct349, hcp349, hcw349⟩ := id X349
        obtain ⟨num349, z349, le349, hnow349, S349, h3_349, h2_349⟩ := id T349
        obtain ⟨b349, sh349, sz349, B349⟩ := id S349
        refine g_vret rfl dX3_line_325 ?_
        have en : rlL E.t E.n P = wgP 1 P.a P := by unfold rlL; rw [if_neg (bf ((fun hf => by have q := st_q hst0 hf; have e := is_T (i := 14) (Q := Q0) (by rw [q]; exact hf) hkk0 B0.2.2.1 (by decide) h2_0; rw [hs2, q] at e; exact e.symm.trans (enf hk_14 (by rw [q2]; decide))) hf0)), if_neg (bf ((fun hf => by have q := st_q hst0 hf; have e := is_T (i := 2) (Q := Q0) (by rw [q]; exact hf) hkk0 B0.2.2.1 (by decide) h2_0; rw [hs2, q] at e; exact e.symm.trans ceq) hf0)), if_neg (bf ((fun hf => by have q := st_q hst0 hf; have e := is_T (i := 7) (Q := Q0) (by rw [q]; exact hf) hkk0 B0.2.2.1 (by decide) h2_0; rw [hs2, q] at e; exact e.symm.trans (enf hk_7 (by rw [q2]; decide))) hf0)), if_neg (bf ((fun hf => by have q := st_q hst0 hf; have e := is_T (i := 9) (Q := Q0) (by rw [q]; exact hf) hkk0 B0.2.2.1 (by decide) h2_0; rw [hs2, q] at e; exact e.symm.trans (enf hk_9 (by rw [q2]; decide))) hf0)), if_neg (bf ((fun hf => by have q := st_q hst0 hf; have e := is_T (i := 1) (Q := Q0) (by rw [q]; exact hf) hkk0 B0.2.2.1 (by decide) h2_0; rw [hs2, q] at e; exact e.symm.trans (enf hk_1 (by rw [q2]; decide))) hf0)), if_neg (bf ((fun hf => by have q := st_q hst0 hf; have e := is_T (i := 6) (Q := Q0) (by rw [q]; exact hf) hkk0 B0.2.2.1 (by decide) h2_0; rw [hs2, q] at e; exact e.symm.trans (enf hk_6 (by rw [q2]; decide))) hf0)), if_neg (bf ((fun hf => by have q := st_q hst0 hf; have e := is_T (i := 11) (Q := Q0) (by rw [q]; exact hf) hkk0 B0.2.2.1 (by decide) h2_0; rw [hs2, q] at e; exact e.symm.trans (enf hk_11 (by rw [q2]; decide))) hf0)), if_neg (bf ((fun hf => by have q := st_q hst0 hf; have e := is_T (i := 17) (Q := Q0) (by rw [q]; exact hf) hkk0 B0.2.2.1 (by decide) h2_0; rw [hs2, q] at e; exact e.symm.trans (enf hk_17 (by rw [q2]; decide))) hf0))]
        exact lnq_no (c1 := c0) (by rw [en]; exact lnq_m 2 ⟨_, _, _, _, _, _, X349⟩) (fun b x _ q => q) (by rw [en]; exact f_wgN) ⟨_, _, _, _, _, G⟩
      ·
        have ceq := c_6
        refine g_iconst (x := 1) dX3_line_127 rfl ?_
        refine g_istore_n (lv' := [(2, .int 1), (1, .ref w0), (0, .ref E.rd)]) dX3_line_128 (by decide) rfl ?_
        refine g_goto (tgt := 215) dX3_line_129 (by decide) ?_
        refine g_iload_n dX3_line_215 0 rfl ?_
        refine g_tabIn (tgt := 271) dX3_line_216 (by decide) (by decide) rfl (by decide) ?_
        refine g_aload_n dX3_line_271 2 rfl ?_
        refine g_callV (t_X3_bend _ EK (⟨_, _, _, _, _, _, X340⟩) G I EO ((fun hf => by have q := st_q hst0 hf; have e := is_T (i := 2) (Q := Q0) (by rw [q]; exact hf) hkk0 B0.2.2.1 (by decide) h2_0; rw [hs2, q] at e; exact e.symm.trans ceq) hf0)) (lw_V q713 q715 qs10 q129 q716) okX3_bend (hrd340) rfl rfl rfl rfl (Nat.le_of_ble_eq_true rfl) dX3_line_272 (fun v1 h350 _ _ hq => ?_)
        obtain rfl : v1 = none := hq.1
        show wp Δ (d + 11) muX3_line 275 [(2, .int 1), (1, .ref w0), (0, .ref E.rd)] [] h350 _
        refine g_goto (tgt := 325) dX3_line_275 (by decide) ?_
        refine g_vret rfl dX3_line_325 ?_
        have en : rlL E.t E.n P = beL E.t E.n (beP E.t E.n 2 (cB P 5 4) P) := by unfold rlL; rw [if_neg (bf ((fun hf => by have q := st_q hst0 hf; have e := is_T (i := 14) (Q := Q0) (by rw [q]; exact hf) hkk0 B0.2.2.1 (by decide) h2_0; rw [hs2, q] at e; exact e.symm.trans (enf hk_14 (by rw [q2]; decide))) hf0)), if_pos ((fun hf => by have q := st_q hst0 hf; have e := is_T (i := 2) (Q := Q0) (by rw [q]; exact hf) hkk0 B0.2.2.1 (by decide) h2_0; rw [hs2, q] at e; exact e.symm.trans ceq) hf0)]
        rw [en]
        exact hq
    by_cases q7 : hvS le0 z0 = 99469088
    ·
      refine g_look (tgt := 132) dX3_line_30 (by decide) (by rw [q7]) (by decide) ?_
      refine g_aload_n dX3_line_132 1 rfl ?_
      refine g_ldcS (tx := "house") (i := 7) (by decide +kernel) dX3_line_133 ?_
      refine g_callV (t_J5_equals _ SNK.tx ((EK.2.2.2.2.1 7 (by decide)).tx (px_n0 EK (⟨_, _, _, _, _, _, X340⟩)))) (lw_V q659 q660 q661 q135 q662) okJ5_equals SBK.1 rfl rfl rfl rfl (Nat.le_of_ble_eq_true rfl) dX3_line_135 (fun v1 h1 _ _ hq => ?_)
      obtain ⟨rfl, hh⟩ := hq
      rw [hh]
      show wp Δ (d + 11) muX3_line 138 [(2, .int (-1)), (1, .ref w0), (0, .ref E.rd)] [.int (bI (eqW le0 z0 (txF 7) (txN 7)))] h340 _
      refine gb_eq (tgt := 215) dX3_line_138 (by decide) (fun c_7 => ?_) (fun c_7 => ?_)
      ·
        have ceq := c_7
        refine g_iload_n dX3_line_215 0 rfl ?_
        refine g_tabOut (tgt := 320) dX3_line_216 (by decide) (by decide) ?_
        refine g_aload_n dX3_line_320 2 rfl ?_
        refine g_iconst (x := 1) dX3_line_321 rfl ?_
        refine g_callV (t_X3_wrong _ EK (⟨_, _, _, _, _, _, X340⟩) 1 (by decide)) (lw_V q678 q680 qs4 q129 q681) okX3_wrong (hrd340) rfl rfl rfl rfl (Nat.le_of_ble_eq_true rfl) dX3_line_322 (fun v1 h351 _ _ hq => ?_)
        obtain ⟨rfl, Y351⟩ := hq
        show wp Δ (d + 11) muX3_line 325 [(2, .int (-1)), (1, .ref w0), (0, .ref E.rd)] [] h351 _
        obtain ⟨w351, now351, e351, ft351, fp351, Q351, X351⟩ := id Y351
        obtain ⟨hrd351, htk351, T351, ⟨he351, hQe351, hen351, hkk351⟩, hst351, hro351, hsub351, hcr351, hct351, hcp351, hcw351⟩ := id X351
        obtain ⟨num351, z351, le351, hnow351, S351, h3_351, h2_351⟩ := id T351
        obtain ⟨b351, sh351, sz351, B351⟩ := id S351
        refine g_vret rfl dX3_line_325 ?_
        have en : rlL E.t E.n P = wgP 1 P.a P := by unfold rlL; rw [if_neg (bf ((fun hf => by have q := st_q hst0 hf; have e := is_T (i := 14) (Q := Q0) (by rw [q]; exact hf) hkk0 B0.2.2.1 (by decide) h2_0; rw [hs2, q] at e; exact e.symm.trans (enf hk_14 (by rw [q7]; decide))) hf0)), if_neg (bf ((fun hf => by have q := st_q hst0 hf; have e := is_T (i := 2) (Q := Q0) (by rw [q]; exact hf) hkk0 B0.2.2.1 (by decide) h2_0; rw [hs2, q] at e; exact e.symm.trans (enf hk_2 (by rw [q7]; decide))) hf0)), if_neg (bf ((fun hf => by have q := st_q hst0 hf; have e := is_T (i := 7) (Q := Q0) (by rw [q]; exact hf) hkk0 B0.2.2.1 (by decide) h2_0; rw [hs2, q] at e; exact e.symm.trans ceq) hf0)), if_neg (bf ((fun hf => by have q := st_q hst0 hf; have e := is_T (i := 9) (Q := Q0) (by rw [q]; exact hf) hkk0 B0.2.2.1 (by decide) h2_0; rw [hs2, q] at e; exact e.symm.trans (enf hk_9 (by rw [q7]; decide))) hf0)), if_neg (bf ((fun hf => by have q := st_q hst0 hf; have e := is_T (i := 1) (Q := Q0) (by rw [q]; exact hf) hkk0 B0.2.2.1 (by decide) h2_0; rw [hs2, q] at e; exact e.symm.trans (enf hk_1 (by rw [q7]; decide))) hf0)), if_neg (bf ((fun hf => by have q := st_q hst0 hf; have e := is_T (i := 6) (Q := Q0) (by rw [q]; exact hf) hkk0 B0.2.2.1 (by decide) h2_0; rw [hs2, q] at e; exact e.symm.trans (enf hk_6 (by rw [q7]; decide))) hf0)), if_neg (bf ((fun hf => by have q := st_q hst0 hf; have e := is_T (i := 11) (Q := Q0) (by rw [q]; exact hf) hkk0 B0.2.2.1 (by decide) h2_0; rw [hs2, q] at e; exact e.symm.trans (enf hk_11 (by rw [q7]; decide))) hf0)), if_neg (bf ((fun hf => by have q := st_q hst0 hf; have e := is_T (i := 17) (Q := Q0) (by rw [q]; exact hf) hkk0 B0.2.2.1 (by decide) h2_0; rw [hs2, q] at e; exact e.symm.trans (enf hk_17 (by rw [q7]; decide))) hf0))]
        exact lnq_no (c1 := c0) (by rw [en]; exact lnq_m 2 ⟨_, _, _, _, _, _, X351⟩) (fun b x _ q => q) (by rw [en]; exact f_wgN) ⟨_, _, _, _, _, G⟩
      ·
        have ceq := c_7
        refine g_iconst (x := 2) dX3_line_141 rfl ?_
        refine g_istore_n (lv' := [(2, .int 2), (1, .ref w0), (0, .ref E.rd)]) dX3_line_142 (by decide) rfl ?_
        refine g_goto (tgt := 215) dX3_line_143 (by decide) ?_
        refine g_iload_n dX3_line_215 0 rfl ?_
        refine g_tabIn (tgt := 278) dX3_line_216 (by decide) (by decide) rfl (by decide) ?_
        refine g_aload_n dX3_line_278 2 rfl ?_
        refine g_callV (t_X3_house _ EK (⟨_, _, _, _, _, _, X340⟩) G I EO ((fun hf => by have q := st_q hst0 hf; have e := is_T (i := 7) (Q := Q0) (by rw [q]; exact hf) hkk0 B0.2.2.1 (by decide) h2_0; rw [hs2, q] at e; exact e.symm.trans ceq) hf0)) (lw_V q851 q853 qs17 q129 q854) okX3_house (hrd340) rfl rfl rfl rfl (Nat.le_of_ble_eq_true rfl) dX3_line_279 (fun v1 h352 _ _ hq => ?_)
        obtain rfl : v1 = none := hq.1
        show wp Δ (d + 11) muX3_line 282 [(2, .int 2), (1, .ref w0), (0, .ref E.rd)] [] h352 _
        refine g_goto (tgt := 325) dX3_line_282 (by decide) ?_
        refine g_vret rfl dX3_line_325 ?_
        have en : rlL E.t E.n P = hoL E.t E.n (beP E.t E.n 7 (cB P 6 4) P) := by unfold rlL; rw [if_neg (bf ((fun hf => by have q := st_q hst0 hf; have e := is_T (i := 14) (Q := Q0) (by rw [q]; exact hf) hkk0 B0.2.2.1 (by decide) h2_0; rw [hs2, q] at e; exact e.symm.trans (enf hk_14 (by rw [q7]; decide))) hf0)), if_neg (bf ((fun hf => by have q := st_q hst0 hf; have e := is_T (i := 2) (Q := Q0) (by rw [q]; exact hf) hkk0 B0.2.2.1 (by decide) h2_0; rw [hs2, q] at e; exact e.symm.trans (enf hk_2 (by rw [q7]; decide))) hf0)), if_pos ((fun hf => by have q := st_q hst0 hf; have e := is_T (i := 7) (Q := Q0) (by rw [q]; exact hf) hkk0 B0.2.2.1 (by decide) h2_0; rw [hs2, q] at e; exact e.symm.trans ceq) hf0)]
        rw [en]
        exact hq
    by_cases q11 : hvS le0 z0 = 106935314
    ·
      refine g_look (tgt := 188) dX3_line_30 (by decide) (by rw [q11]) (by decide) ?_
      refine g_aload_n dX3_line_188 1 rfl ?_
      refine g_ldcS (tx := "prize") (i := 11) (by decide +kernel) dX3_line_189 ?_
      refine g_callV (t_J5_equals _ SNK.tx ((EK.2.2.2.2.1 11 (by decide)).tx (px_n0 EK (⟨_, _, _, _, _, _, X340⟩)))) (lw_V q659 q660 q661 q135 q662) okJ5_equals SBK.1 rfl rfl rfl rfl (Nat.le_of_ble_eq_true rfl) dX3_line_191 (fun v1 h1 _ _ hq => ?_)
      obtain ⟨rfl, hh⟩ := hq
      rw [hh]
      show wp Δ (d + 11) muX3_line 194 [(2, .int (-1)), (1, .ref w0), (0, .ref E.rd)] [.int (bI (eqW le0 z0 (txF 11) (txN 11)))] h340 _
      refine gb_eq (tgt := 215) dX3_line_194 (by decide) (fun c_8 => ?_) (fun c_8 => ?_)
      ·
        have ceq := c_8
        refine g_iload_n dX3_line_215 0 rfl ?_
        refine g_tabOut (tgt := 320) dX3_line_216 (by decide) (by decide) ?_
        refine g_aload_n dX3_line_320 2 rfl ?_
        refine g_iconst (x := 1) dX3_line_321 rfl ?_
        refine g_callV (t_X3_wrong _ EK (⟨_, _, _, _, _, _, X340⟩) 1 (by decide)) (lw_V q678 q680 qs4 q129 q681) okX3_wrong (hrd340) rfl rfl rfl rfl (Nat.le_of_ble_eq_true rfl) dX3_line_322 (fun v1 h353 _ _ hq => ?_)
        obtain ⟨rfl, Y353⟩ := hq
        show wp Δ (d + 11) muX3_line 325 [(2, .int (-1)), (1, .ref w0), (0, .ref E.rd)] [] h353 _
        obtain ⟨w353, now353, e353, ft353, fp353, Q353, X353⟩ := id Y353
        obtain ⟨hrd353, htk353, T353, ⟨he353, hQe353, hen353, hkk353⟩, hst353, hro353, hsub353, hcr353, hct353, hcp353, hcw353⟩ := id X353
        obtain ⟨num353, z353, le353, hnow353, S353, h3_353, h2_353⟩ := id T353
        obtain ⟨b353, sh353, sz353, B353⟩ := id S353
        refine g_vret rfl dX3_line_325 ?_
        have en : rlL E.t E.n P = wgP 1 P.a P := by unfold rlL; rw [if_neg (bf ((fun hf => by have q := st_q hst0 hf; have e := is_T (i := 14) (Q := Q0) (by rw [q]; exact hf) hkk0 B0.2.2.1 (by decide) h2_0; rw [hs2, q] at e; exact e.symm.trans (enf hk_14 (by rw [q11]; decide))) hf0)), if_neg (bf ((fun hf => by have q := st_q hst0 hf; have e := is_T (i := 2) (Q := Q0) (by rw [q]; exact hf) hkk0 B0.2.2.1 (by decide) h2_0; rw [hs2, q] at e; exact e.symm.trans (enf hk_2 (by rw [q11]; decide))) hf0)), if_neg (bf ((fun hf => by have q := st_q hst0 hf; have e := is_T (i := 7) (Q := Q0) (by rw [q]; exact hf) hkk0 B0.2.2.1 (by decide) h2_0; rw [hs2, q] at e; exact e.symm.trans (enf hk_7 (by rw [q11]; decide))) hf0)), if_neg (bf ((fun hf => by have q := st_q hst0 hf; have e := is_T (i := 9) (Q := Q0) (by rw [q]; exact hf) hkk0 B0.2.2.1 (by decide) h2_0; rw [hs2, q] at e; exact e.symm.trans (enf hk_9 (by rw [q11]; decide))) hf0)), if_neg (bf ((fun hf => by have q := st_q hst0 hf; have e := is_T (i := 1) (Q := Q0) (by rw [q]; exact hf) hkk0 B0.2.2.1 (by decide) h2_0; rw [hs2, q] at e; exact e.symm.trans (enf hk_1 (by rw [q11]; decide))) hf0)), if_neg (bf ((fun hf => by have q := st_q hst0 hf; have e := is_T (i := 6) (Q := Q0) (by rw [q]; exact hf) hkk0 B0.2.2.1 (by decide) h2_0; rw [hs2, q] at e; exact e.symm.trans (enf hk_6 (by rw [q11]; decide))) hf0)), if_neg (bf ((fun hf => by have q := st_q hst0 hf; have e := is_T (i := 11) (Q := Q0) (by rw [q]; exact hf) hkk0 B0.2.2.1 (by decide) h2_0; rw [hs2, q] at e; exact e.symm.trans ceq) hf0)), if_neg (bf ((fun hf => by have q := st_q hst0 hf; have e := is_T (i := 17) (Q := Q0) (by rw [q]; exact hf) hkk0 B0.2.2.1 (by decide) h2_0; rw [hs2, q] at e; exact e.symm.trans (enf hk_17 (by rw [q11]; decide))) hf0))]
        exact lnq_no (c1 := c0) (by rw [en]; exact lnq_m 2 ⟨_, _, _, _, _, _, X353⟩) (fun b x _ q => q) (by rw [en]; exact f_wgN) ⟨_, _, _, _, _, G⟩
      ·
        have ceq := c_8
        refine g_bipush (x := 6) dX3_line_197 rfl ?_
        refine g_istore_n (lv' := [(2, .int 6), (1, .ref w0), (0, .ref E.rd)]) dX3_line_199 (by decide) rfl ?_
        refine g_goto (tgt := 215) dX3_line_200 (by decide) ?_
        refine g_iload_n dX3_line_215 0 rfl ?_
        refine g_tabIn (tgt := 306) dX3_line_216 (by decide) (by decide) rfl (by decide) ?_
        refine g_aload_n dX3_line_306 2 rfl ?_
        refine g_callV (t_X3_prize _ EK (⟨_, _, _, _, _, _, X340⟩) G I EO ((fun hf => by have q := st_q hst0 hf; have e := is_T (i := 11) (Q := Q0) (by rw [q]; exact hf) hkk0 B0.2.2.1 (by decide) h2_0; rw [hs2, q] at e; exact e.symm.trans ceq) hf0)) (lw_V q994 q996 qs26 q129 q997) okX3_prize (hrd340) rfl rfl rfl rfl (Nat.le_of_ble_eq_true rfl) dX3_line_307 (fun v1 h354 _ _ hq => ?_)
        obtain rfl : v1 = none := hq.1
        show wp Δ (d + 11) muX3_line 310 [(2, .int 6), (1, .ref w0), (0, .ref E.rd)] [] h354 _
        refine g_goto (tgt := 325) dX3_line_310 (by decide) ?_
        refine g_vret rfl dX3_line_325 ?_
        have en : rlL E.t E.n P = prL E.t E.n (beP E.t E.n 11 (cB P 9 4) P) := by unfold rlL; rw [if_neg (bf ((fun hf => by have q := st_q hst0 hf; have e := is_T (i := 14) (Q := Q0) (by rw [q]; exact hf) hkk0 B0.2.2.1 (by decide) h2_0; rw [hs2, q] at e; exact e.symm.trans (enf hk_14 (by rw [q11]; decide))) hf0)), if_neg (bf ((fun hf => by have q := st_q hst0 hf; have e := is_T (i := 2) (Q := Q0) (by rw [q]; exact hf) hkk0 B0.2.2.1 (by decide) h2_0; rw [hs2, q] at e; exact e.symm.trans (enf hk_2 (by rw [q11]; decide))) hf0)), if_neg (bf ((fun hf => by have q := st_q hst0 hf; have e := is_T (i := 7) (Q := Q0) (by rw [q]; exact hf) hkk0 B0.2.2.1 (by decide) h2_0; rw [hs2, q] at e; exact e.symm.trans (enf hk_7 (by rw [q11]; decide))) hf0)), if_neg (bf ((fun hf => by have q := st_q hst0 hf; have e := is_T (i := 9) (Q := Q0) (by rw [q]; exact hf) hkk0 B0.2.2.1 (by decide) h2_0; rw [hs2, q] at e; exact e.symm.trans (enf hk_9 (by rw [q11]; decide))) hf0)), if_neg (bf ((fun hf => by have q := st_q hst0 hf; have e := is_T (i := 1) (Q := Q0) (by rw [q]; exact hf) hkk0 B0.2.2.1 (by decide) h2_0; rw [hs2, q] at e; exact e.symm.trans (enf hk_1 (by rw [q11]; decide))) hf0)), if_neg (bf ((fun hf => by have q := st_q hst0 hf; have e := is_T (i := 6) (Q := Q0) (by rw [q]; exact hf) hkk0 B0.2.2.1 (by decide) h2_0; rw [hs2, q] at e; exact e.symm.trans (enf hk_6 (by rw [q11]; decide))) hf0)), if_pos ((fun hf => by have q := st_q hst0 hf; have e := is_T (i := 11) (Q := Q0) (by rw [q]; exact hf) hkk0 B0.2.2.1 (by decide) h2_0; rw [hs2, q] at e; exact e.symm.trans ceq) hf0)]
        rw [en]
        exact hq
    by_cases q14 : hvS le0 z0 = 1085876340
    ·
      refine g_look (tgt := 104) dX3_line_30 (by decide) (by rw [q14]) (by decide) ?_
      refine g_aload_n dX3_line_104 1 rfl ?_
      refine g_ldcS (tx := "regatta") (i := 14) (by decide +kernel) dX3_line_105 ?_
      refine g_callV (t_J5_equals _ SNK.tx ((EK.2.2.2.2.1 14 (by decide)).tx (px_n0 EK (⟨_, _, _, _, _, _, X340⟩)))) (lw_V q659 q660 q661 q135 q662) okJ5_equals SBK.1 rfl rfl rfl rfl (Nat.le_of_ble_eq_true rfl) dX3_line_107 (fun v1 h1 _ _ hq => ?_)
      obtain ⟨rfl, hh⟩ := hq
      rw [hh]
      show wp Δ (d + 11) muX3_line 110 [(2, .int (-1)), (1, .ref w0), (0, .ref E.rd)] [.int (bI (eqW le0 z0 (txF 14) (txN 14)))] h340 _
      refine gb_eq (tgt := 215) dX3_line_110 (by decide) (fun c_9 => ?_) (fun c_9 => ?_)
      ·
        have ceq := c_9
        refine g_iload_n dX3_line_215 0 rfl ?_
        refine g_tabOut (tgt := 320) dX3_line_216 (by decide) (by decide) ?_
        refine g_aload_n dX3_line_320 2 rfl ?_
        refine g_iconst (x := 1) dX3_line_321 rfl ?_
        refine g_callV (t_X3_wrong _ EK (⟨_, _, _, _, _, _, X340⟩) 1 (by decide)) (lw_V q678 q680 qs4 q129 q681) okX3_wrong (hrd340) rfl rfl rfl rfl (Nat.le_of_ble_eq_true rfl) dX3_line_322 (fun v1 h355 _ _ hq => ?_)
        obtain ⟨rfl, Y355⟩ := hq
        show wp Δ (d + 11) muX3_line 325 [(2, .int (-1)), (1, .ref w0), (0, .ref E.rd)] [] h355 _
        obtain ⟨w355, now355, e355, ft355, fp355, Q355, X355⟩ := id Y355
        obtain ⟨hrd355, htk355, T355, ⟨he355, hQe355, hen355, hkk355⟩, hst355, hro355, hsub355, hcr355, hct355, hcp355, hcw355⟩ := id X355
        obtain ⟨num355, z355, le355, hnow355, S355, h3_355, h2_355⟩ := id T355
        obtain ⟨b355, sh355, sz355, B355⟩ := id S355
        refine g_vret rfl dX3_line_325 ?_
        have en : rlL E.t E.n P = wgP 1 P.a P := by unfold rlL; rw [if_neg (bf ((fun hf => by have q := st_q hst0 hf; have e := is_T (i := 14) (Q := Q0) (by rw [q]; exact hf) hkk0 B0.2.2.1 (by decide) h2_0; rw [hs2, q] at e; exact e.symm.trans ceq) hf0)), if_neg (bf ((fun hf => by have q := st_q hst0 hf; have e := is_T (i := 2) (Q := Q0) (by rw [q]; exact hf) hkk0 B0.2.2.1 (by decide) h2_0; rw [hs2, q] at e; exact e.symm.trans (enf hk_2 (by rw [q14]; decide))) hf0)), if_neg (bf ((fun hf => by have q := st_q hst0 hf; have e := is_T (i := 7) (Q := Q0) (by rw [q]; exact hf) hkk0 B0.2.2.1 (by decide) h2_0; rw [hs2, q] at e; exact e.symm.trans (enf hk_7 (by rw [q14]; decide))) hf0)), if_neg (bf ((fun hf => by have q := st_q hst0 hf; have e := is_T (i := 9) (Q := Q0) (by rw [q]; exact hf) hkk0 B0.2.2.1 (by decide) h2_0; rw [hs2, q] at e; exact e.symm.trans (enf hk_9 (by rw [q14]; decide))) hf0)), if_neg (bf ((fun hf => by have q := st_q hst0 hf; have e := is_T (i := 1) (Q := Q0) (by rw [q]; exact hf) hkk0 B0.2.2.1 (by decide) h2_0; rw [hs2, q] at e; exact e.symm.trans (enf hk_1 (by rw [q14]; decide))) hf0)), if_neg (bf ((fun hf => by have q := st_q hst0 hf; have e := is_T (i := 6) (Q := Q0) (by rw [q]; exact hf) hkk0 B0.2.2.1 (by decide) h2_0; rw [hs2, q] at e; exact e.symm.trans (enf hk_6 (by rw [q14]; decide))) hf0)), if_neg (bf ((fun hf => by have q := st_q hst0 hf; have e := is_T (i := 11) (Q := Q0) (by rw [q]; exact hf) hkk0 B0.2.2.1 (by decide) h2_0; rw [hs2, q] at e; exact e.symm.trans (enf hk_11 (by rw [q14]; decide))) hf0)), if_neg (bf ((fun hf => by have q := st_q hst0 hf; have e := is_T (i := 17) (Q := Q0) (by rw [q]; exact hf) hkk0 B0.2.2.1 (by decide) h2_0; rw [hs2, q] at e; exact e.symm.trans (enf hk_17 (by rw [q14]; decide))) hf0))]
        exact lnq_no (c1 := c0) (by rw [en]; exact lnq_m 2 ⟨_, _, _, _, _, _, X355⟩) (fun b x _ q => q) (by rw [en]; exact f_wgN) ⟨_, _, _, _, _, G⟩
      ·
        have ceq := c_9
        refine g_iconst (x := 0) dX3_line_113 rfl ?_
        refine g_istore_n (lv' := [(2, .int 0), (1, .ref w0), (0, .ref E.rd)]) dX3_line_114 (by decide) rfl ?_
        refine g_goto (tgt := 215) dX3_line_115 (by decide) ?_
        refine g_iload_n dX3_line_215 0 rfl ?_
        refine g_tabIn (tgt := 264) dX3_line_216 (by decide) (by decide) rfl (by decide) ?_
        refine g_aload_n dX3_line_264 2 rfl ?_
        refine g_callV (t_X3_regattaLine _ EK (⟨_, _, _, _, _, _, X340⟩) G I EO ((fun hf => by have q := st_q hst0 hf; have e := is_T (i := 14) (Q := Q0) (by rw [q]; exact hf) hkk0 B0.2.2.1 (by decide) h2_0; rw [hs2, q] at e; exact e.symm.trans ceq) hf0)) (lw_V q674 q676 qs3 q129 q677) okX3_regattaLine (hrd340) rfl rfl rfl rfl (Nat.le_of_ble_eq_true rfl) dX3_line_265 (fun v1 h356 _ _ hq => ?_)
        obtain rfl : v1 = none := hq.1
        show wp Δ (d + 11) muX3_line 268 [(2, .int 0), (1, .ref w0), (0, .ref E.rd)] [] h356 _
        refine g_goto (tgt := 325) dX3_line_268 (by decide) ?_
        refine g_vret rfl dX3_line_325 ?_
        have en : rlL E.t E.n P = reL E.t E.n P := by unfold rlL; rw [if_pos ((fun hf => by have q := st_q hst0 hf; have e := is_T (i := 14) (Q := Q0) (by rw [q]; exact hf) hkk0 B0.2.2.1 (by decide) h2_0; rw [hs2, q] at e; exact e.symm.trans ceq) hf0)]
        rw [en]
        exact hq
    refine g_look (tgt := 215) dX3_line_30 (by decide) (off := 185) ((off_n (nk q1 (by decide))).trans ((off_n (nk q6 (by decide))).trans ((off_n (nk q9 (by decide))).trans ((off_n (nk q17 (by decide))).trans ((off_n (nk q2 (by decide))).trans ((off_n (nk q7 (by decide))).trans ((off_n (nk q11 (by decide))).trans ((off_n (nk q14 (by decide))).trans rfl)))))))) (by decide) ?_
    refine g_iload_n dX3_line_215 0 rfl ?_
    refine g_tabOut (tgt := 320) dX3_line_216 (by decide) (by decide) ?_
    refine g_aload_n dX3_line_320 2 rfl ?_
    refine g_iconst (x := 1) dX3_line_321 rfl ?_
    refine g_callV (t_X3_wrong _ EK (⟨_, _, _, _, _, _, X340⟩) 1 (by decide)) (lw_V q678 q680 qs4 q129 q681) okX3_wrong (hrd340) rfl rfl rfl rfl (Nat.le_of_ble_eq_true rfl) dX3_line_322 (fun v1 h357 _ _ hq => ?_)
    obtain ⟨rfl, Y357⟩ := hq
    show wp Δ (d + 11) muX3_line 325 [(2, .int (-1)), (1, .ref w0), (0, .ref E.rd)] [] h357 _
    obtain ⟨w357, now357, e357, ft357, fp357, Q357, X357⟩ := id Y357
    obtain ⟨hrd357, htk357, T357, ⟨he357, hQe357, hen357, hkk357⟩, hst357, hro357, hsub357, hcr357, hct357, hcp357, hcw357⟩ := id X357
    obtain ⟨num357, z357, le357, hnow357, S357, h3_357, h2_357⟩ := id T357
    obtain ⟨b357, sh357, sz357, B357⟩ := id S357
    refine g_vret rfl dX3_line_325 ?_
    have en : rlL E.t E.n P = wgP 1 P.a P := by unfold rlL; rw [if_neg (bf ((fun hf => by have q := st_q hst0 hf; have e := is_T (i := 14) (Q := Q0) (by rw [q]; exact hf) hkk0 B0.2.2.1 (by decide) h2_0; rw [hs2, q] at e; exact e.symm.trans (enf hk_14 q14)) hf0)), if_neg (bf ((fun hf => by have q := st_q hst0 hf; have e := is_T (i := 2) (Q := Q0) (by rw [q]; exact hf) hkk0 B0.2.2.1 (by decide) h2_0; rw [hs2, q] at e; exact e.symm.trans (enf hk_2 q2)) hf0)), if_neg (bf ((fun hf => by have q := st_q hst0 hf; have e := is_T (i := 7) (Q := Q0) (by rw [q]; exact hf) hkk0 B0.2.2.1 (by decide) h2_0; rw [hs2, q] at e; exact e.symm.trans (enf hk_7 q7)) hf0)), if_neg (bf ((fun hf => by have q := st_q hst0 hf; have e := is_T (i := 9) (Q := Q0) (by rw [q]; exact hf) hkk0 B0.2.2.1 (by decide) h2_0; rw [hs2, q] at e; exact e.symm.trans (enf hk_9 q9)) hf0)), if_neg (bf ((fun hf => by have q := st_q hst0 hf; have e := is_T (i := 1) (Q := Q0) (by rw [q]; exact hf) hkk0 B0.2.2.1 (by decide) h2_0; rw [hs2, q] at e; exact e.symm.trans (enf hk_1 q1)) hf0)), if_neg (bf ((fun hf => by have q := st_q hst0 hf; have e := is_T (i := 6) (Q := Q0) (by rw [q]; exact hf) hkk0 B0.2.2.1 (by decide) h2_0; rw [hs2, q] at e; exact e.symm.trans (enf hk_6 q6)) hf0)), if_neg (bf ((fun hf => by have q := st_q hst0 hf; have e := is_T (i := 11) (Q := Q0) (by rw [q]; exact hf) hkk0 B0.2.2.1 (by decide) h2_0; rw [hs2, q] at e; exact e.symm.trans (enf hk_11 q11)) hf0)), if_neg (bf ((fun hf => by have q := st_q hst0 hf; have e := is_T (i := 17) (Q := Q0) (by rw [q]; exact hf) hkk0 B0.2.2.1 (by decide) h2_0; rw [hs2, q] at e; exact e.symm.trans (enf hk_17 q17)) hf0))]
    exact lnq_no (c1 := c0) (by rw [en]; exact lnq_m 2 ⟨_, _, _, _, _, _, X357⟩) (fun b x _ q => q) (by rw [en]; exact f_wgN) ⟨_, _, _, _, _, G⟩
