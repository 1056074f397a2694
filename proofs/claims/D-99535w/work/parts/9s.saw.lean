set_option maxRecDepth 100000 in
theorem t_X3_saw {Δ : Cx} {h : Hp} (d : Nat) {E : Ev} {L : Nat} {c0 : Nat → Option Cel} {P : Pk} (EK : EOK Δ E) (X : PX Δ E L h c0 P) {EL cp cnt : Nat → Nat} {el : Nat → Nat → Nat} {np nf : Nat} (G : GP Δ E c0 P.fr EL cp cnt el) (I : LIq (cnt 0) (cnt 1) (cnt 2) (cnt 3) np nf 13 P.fr) (EO : eOk E.n P) (hi : isT 17 P = true) : mt Δ (d + 10) muX3_saw [.ref E.rd] h (LNQ Δ E L c0 (saL E.t E.n (beP E.t E.n 17 (cB P 10 5) P))) := by
  obtain ⟨w0, now0, e0, ft0, fp0, Q0, X0⟩ := id X
  obtain ⟨hrd0, htk0, T0, ⟨he0, hQe0, hen0, hkk0⟩, hst0, hro0, hsub0, hcr0, hct0, hcp0, hcw0⟩ := id X0
  obtain ⟨num0, z0, le0, hnow0, S0, h3_0, h2_0⟩ := id T0
  obtain ⟨b0, sh0, sz0, B0⟩ := id S0
  refine mt_of (lv0 := [(0, .ref E.rd)]) rfl rfl (Nat.le_of_ble_eq_true rfl) rfl ?_
  refine g_aload_n dX3_saw_0 0 rfl ?_
  refine g_aload_n dX3_saw_1 0 rfl ?_
  refine gh_get (x := .ref E.rg) f_2_1 q579 (hrd0) dX3_saw_2 rfl ?_
  refine gh_get (x := .ref (E.rg + 5)) f_4_11 q329 (hsub0 _ _ (G.1)) dX3_saw_5 rfl ?_
  obtain ⟨lf_, hl_⟩ := AL_c ((LX.al (G.2.2.2.1 3 (by omega))).mono hsub0)
  refine g_callV (t_J2_size _ ((LX.al (G.2.2.2.1 3 (by omega))).mono hsub0)) (lw_V q717 q718 q719 q127 q720) okJ2_size hl_ rfl rfl rfl rfl (Nat.le_of_ble_eq_true rfl) dX3_saw_8 (fun v1 h1 _ _ hq => ?_)
  obtain ⟨rfl, hh⟩ := hq
  rw [hh]
  show wp Δ (d + 10) muX3_saw 11 [(0, .ref E.rd)] [.int (nI (cnt 3)), .ref E.rd] h _
  refine g_iconst (x := 5) dX3_saw_11 rfl ?_
  refine g_callV (t_X3_begins _ EK (⟨_, _, _, _, _, _, X0⟩) (G.1) rfl (nI (cnt 3)) 5) (lw_V q721 q723 qs11 q129 q724) okX3_begins (hrd0) rfl rfl rfl rfl (Nat.le_of_ble_eq_true rfl) dX3_saw_12 (fun v1 h218 _ _ hq => ?_)
  obtain ⟨rfl, Y218⟩ := hq
  show wp Δ (d + 10) muX3_saw 15 [(0, .ref E.rd)] [] h218 _
  obtain ⟨w218, now218, e218, ft218, fp218, Q218, X218⟩ := id Y218
  obtain ⟨hrd218, htk218, T218, ⟨he218, hQe218, hen218, hkk218⟩, hst218, hro218, hsub218, hcr218, hct218, hcp218, hcw218⟩ := id X218
  obtain ⟨num218, z218, le218, hnow218, S218, h3_218, h2_218⟩ := id T218
  obtain ⟨b218, sh218, sz218, B218⟩ := id S218
  have eP : paP E.t E.n (beC (decide (¬ nI (cnt 3) = 5)) P) = beP E.t E.n 17 (cB P 10 5) P := by unfold beP; rw [if_pos hi]; exact congrArg (fun b => paP E.t E.n (beC b P)) (cb_eq (m := 5) (by have := I.1; omega) (by omega) (I.2.1.2.2.2.1))
  obtain ⟨P1, hP1⟩ : ∃ S : Pk, S = beP E.t E.n 17 (cB P 10 5) P := ⟨_, rfl⟩
  have Z1 : PX Δ E L h218 c0 P1 := by rw [hP1, ← eP]; exact Y218
  have hfr : P1.fr = P.fr := by rw [hP1]; exact fr_be
  have G1 : GP Δ E c0 P1.fr EL cp cnt el := by rw [hfr]; exact G
  have I1 : LIq (cnt 0) (cnt 1) (cnt 2) (cnt 3) np nf 13 P1.fr := by rw [hfr]; exact I
  have EO1 : eOk E.n P1 := by rw [hP1]; exact eOk_be EK.1 EO
  obtain ⟨w219, now219, e219, ft219, fp219, Q219, X219⟩ := id Z1
  obtain ⟨hrd219, htk219, T219, ⟨he219, hQe219, hen219, hkk219⟩, hst219, hro219, hsub219, hcr219, hct219, hcp219, hcw219⟩ := id X219
  obtain ⟨num219, z219, le219, hnow219, S219, h3_219, h2_219⟩ := id T219
  obtain ⟨b219, sh219, sz219, B219⟩ := id S219
  refine g_aload_n dX3_saw_15 0 rfl ?_
  refine g_callV (t_X3_knownHouse _ EK (⟨_, _, _, _, _, _, X219⟩) G1 I1 EO1) (lw_V q975 q977 qs23 q129 q978) okX3_knownHouse (hrd219) rfl rfl rfl rfl (Nat.le_of_ble_eq_true rfl) dX3_saw_16 (fun v1 h220 _ _ hq => ?_)
  obtain ⟨rfl, Y220⟩ := hq
  show wp Δ (d + 10) muX3_saw 19 [(0, .ref E.rd)] [.int (ndV 0 3 P1)] h220 _
  obtain ⟨w220, now220, e220, ft220, fp220, Q220, X220⟩ := id Y220
  obtain ⟨hrd220, htk220, T220, ⟨he220, hQe220, hen220, hkk220⟩, hst220, hro220, hsub220, hcr220, hct220, hcp220, hcw220⟩ := id X220
  obtain ⟨num220, z220, le220, hnow220, S220, h3_220, h2_220⟩ := id T220
  obtain ⟨b220, sh220, sz220, B220⟩ := id S220
  refine g_istore_n (lv' := [(1, .int (ndV 0 3 P1)), (0, .ref E.rd)]) dX3_saw_19 (by decide) rfl ?_
  refine g_aload_n dX3_saw_20 1 rfl ?_
  refine g_callV (t_X3_on _ EK (⟨_, _, _, _, _, _, X220⟩)) (lw_V q686 q688 qs6 q129 q689) okX3_on (hrd220) rfl rfl rfl rfl (Nat.le_of_ble_eq_true rfl) dX3_saw_21 (fun v1 h221 _ _ hq => ?_)
  obtain ⟨rfl, Y221⟩ := hq
  show wp Δ (d + 10) muX3_saw 24 [(1, .int (ndV 0 3 P1)), (0, .ref E.rd)] [] h221 _
  obtain ⟨w221, now221, e221, ft221, fp221, Q221, X221⟩ := id Y221
  obtain ⟨hrd221, htk221, T221, ⟨he221, hQe221, hen221, hkk221⟩, hst221, hro221, hsub221, hcr221, hct221, hcp221, hcw221⟩ := id X221
  obtain ⟨num221, z221, le221, hnow221, S221, h3_221, h2_221⟩ := id T221
  obtain ⟨b221, sh221, sz221, B221⟩ := id S221
  obtain ⟨S1, qS1⟩ : ∃ S : Pk, S = saQ E.t E.n P1 := ⟨_, rfl⟩
  have ZS1 : PX Δ E L h221 c0 S1 := by rw [qS1]; exact Y221
  have hfS1 : S1.fr = P1.fr := by rw [qS1]; unfold saQ; rw [fr_pa, fr_nd]
  have GS1 : GP Δ E c0 S1.fr EL cp cnt el := by rw [hfS1]; exact G1
  have IS1 : LIq (cnt 0) (cnt 1) (cnt 2) (cnt 3) np nf 13 S1.fr := by rw [hfS1]; exact I1
  have EOS1 : eOk E.n S1 := by rw [qS1]; exact eOk_pa EK.1 (eOk_nd EO1)
  obtain ⟨w222, now222, e222, ft222, fp222, Q222, X222⟩ := id ZS1
  obtain ⟨hrd222, htk222, T222, ⟨he222, hQe222, hen222, hkk222⟩, hst222, hro222, hsub222, hcr222, hct222, hcp222, hcw222⟩ := id X222
  obtain ⟨num222, z222, le222, hnow222, S222, h3_222, h2_222⟩ := id T222
  obtain ⟨b222, sh222, sz222, B222⟩ := id S222
  refine g_aload_n dX3_saw_24 1 rfl ?_
  refine g_iload_n dX3_saw_25 0 rfl ?_
  refine g_aload_n dX3_saw_26 1 rfl ?_
  refine g_callV (t_X3_knownHouse _ EK (⟨_, _, _, _, _, _, X222⟩) GS1 IS1 EOS1) (lw_V q975 q977 qs23 q129 q978) okX3_knownHouse (hrd222) rfl rfl rfl rfl (Nat.le_of_ble_eq_true rfl) dX3_saw_27 (fun v1 h223 _ _ hq => ?_)
  obtain ⟨rfl, Y223⟩ := hq
  show wp Δ (d + 10) muX3_saw 30 [(1, .int (ndV 0 3 P1)), (0, .ref E.rd)] [.int (ndV 0 3 S1), .int (ndV 0 3 P1), .ref E.rd] h223 _
  obtain ⟨w223, now223, e223, ft223, fp223, Q223, X223⟩ := id Y223
  obtain ⟨hrd223, htk223, T223, ⟨he223, hQe223, hen223, hkk223⟩, hst223, hro223, hsub223, hcr223, hct223, hcp223, hcw223⟩ := id X223
  obtain ⟨num223, z223, le223, hnow223, S223, h3_223, h2_223⟩ := id T223
  obtain ⟨b223, sh223, sz223, B223⟩ := id S223
  refine g_callV (t_X3_unlike _ EK (⟨_, _, _, _, _, _, X223⟩) (ndV 0 3 P1) (ndV 0 3 S1)) (lw_V q990 q992 qs25 q129 q993) okX3_unlike (hrd223) rfl rfl rfl rfl (Nat.le_of_ble_eq_true rfl) dX3_saw_30 (fun v1 h224 _ _ hq => ?_)
  obtain ⟨rfl, Y224⟩ := hq
  show wp Δ (d + 10) muX3_saw 33 [(1, .int (ndV 0 3 P1)), (0, .ref E.rd)] [.int (ndV 0 3 S1)] h224 _
  obtain ⟨w224, now224, e224, ft224, fp224, Q224, X224⟩ := id Y224
  obtain ⟨hrd224, htk224, T224, ⟨he224, hQe224, hen224, hkk224⟩, hst224, hro224, hsub224, hcr224, hct224, hcp224, hcw224⟩ := id X224
  obtain ⟨num224, z224, le224, hnow224, S224, h3_224, h2_224⟩ := id T224
  obtain ⟨b224, sh224, sz224, B224⟩ := id S224
  obtain ⟨va, hva, eva0⟩ := ndV_nat (lo := 0) (hi := 3) (P := P1) (by omega) (by omega)
  have eva : ndV 0 3 P1 = nI va := eva0
  obtain ⟨vb, hvb, evb0⟩ := ndV_nat (lo := 0) (hi := 3) (P := S1) (by omega) (by omega)
  have evb : ndV 0 3 S1 = nI vb := evb0
  obtain ⟨S2, qS2⟩ : ∃ S : Pk, S = saR E.t E.n P1 := ⟨_, rfl⟩
  have ZS2 : PX Δ E L h224 c0 S2 := by rw [qS2]; exact (by unfold saR; rw [← qS1, eva, evb, ix_nI (by omega), ix_nI (by omega), ← sa_un (by omega) (by omega), ← eva, ← evb]; exact Y224)
  have hfS2 : S2.fr = P1.fr := by rw [qS2]; unfold saR; rw [fr_pa, fr_sw, fr_nd, ← qS1, hfS1]
  have GS2 : GP Δ E c0 S2.fr EL cp cnt el := by rw [hfS2]; exact G1
  have IS2 : LIq (cnt 0) (cnt 1) (cnt 2) (cnt 3) np nf 13 S2.fr := by rw [hfS2]; exact I1
  have EOS2 : eOk E.n S2 := by rw [qS2]; exact (by unfold saR; rw [← qS1]; exact eOk_pa EK.1 (eOk_sw (eOk_nd EOS1)))
  obtain ⟨w225, now225, e225, ft225, fp225, Q225, X225⟩ := id ZS2
  obtain ⟨hrd225, htk225, T225, ⟨he225, hQe225, hen225, hkk225⟩, hst225, hro225, hsub225, hcr225, hct225, hcp225, hcw225⟩ := id X225
  obtain ⟨num225, z225, le225, hnow225, S225, h3_225, h2_225⟩ := id T225
  obtain ⟨b225, sh225, sz225, B225⟩ := id S225
  refine g_istore_n (lv' := [(2, .int (ndV 0 3 S1)), (1, .int (ndV 0 3 P1)), (0, .ref E.rd)]) dX3_saw_33 (by decide) rfl ?_
  refine g_aload_n dX3_saw_34 2 rfl ?_
  refine g_aload_n dX3_saw_35 2 rfl ?_
  refine gh_get (x := .ref E.rg) f_2_1 q579 (hrd225) dX3_saw_36 rfl ?_
  refine g_aload_n dX3_saw_39 2 rfl ?_
  refine gh_get (x := .ref now225) f_2_2 q580 (hrd225) dX3_saw_40 rfl ?_
  refine gh_get (x := .ref w225) f_5_3 q378 (hnow225) dX3_saw_43 rfl ?_
  refine g_callV (t_X5_bend _ (hsub225 _ _ GS2.1) rfl ((LX.al (GS2.2.2.2.1 0 (by omega))).mono hsub225) (fun i hi => bd_ex hsub225 (gp_b GS2 i hi)) S225.tx S225.z8) (lw_V q744 q745 q746 q131 q747) okX5_bend (hsub225 _ _ GS2.1) rfl rfl rfl rfl (Nat.le_of_ble_eq_true rfl) dX3_saw_46 (fun v1 h1 _ _ hq => ?_)
  obtain ⟨rfl, hh⟩ := hq
  rw [hh]
  show wp Δ (d + 10) muX3_saw 49 [(2, .int (ndV 0 3 S1)), (1, .int (ndV 0 3 P1)), (0, .ref E.rd)] [.int (fdB (fun i => nmE S2.fr (4 + i) le225 z225) (cnt 0) 0), .ref E.rd] h224 _
  refine g_callV (t_X3_known _ EK (⟨_, _, _, _, _, _, X225⟩) _ 4 7 (fun hf hk => by have q := st_q hst225 hf; obtain ⟨y1, y2⟩ := h2_225 (by rw [q]; exact hk); rw [q] at y1 y2; exact (fd_P EOS2 hk B225.2.2.1 y1 y2).trans (fn_b IS2)) (fun q => (fn_pos (lo := 4) (hi := 7) (by omega) q).2)) (lw_V q970 q972 qs22 q129 q973) okX3_known (hrd225) rfl rfl rfl rfl (Nat.le_of_ble_eq_true rfl) dX3_saw_49 (fun v1 h226 _ _ hq => ?_)
  obtain ⟨rfl, Y226⟩ := hq
  show wp Δ (d + 10) muX3_saw 52 [(2, .int (ndV 0 3 S1)), (1, .int (ndV 0 3 P1)), (0, .ref E.rd)] [.int (ndV 4 7 S2)] h226 _
  obtain ⟨w226, now226, e226, ft226, fp226, Q226, X226⟩ := id Y226
  obtain ⟨hrd226, htk226, T226, ⟨he226, hQe226, hen226, hkk226⟩, hst226, hro226, hsub226, hcr226, hct226, hcp226, hcw226⟩ := id X226
  obtain ⟨num226, z226, le226, hnow226, S226, h3_226, h2_226⟩ := id T226
  obtain ⟨b226, sh226, sz226, B226⟩ := id S226
  refine g_istore_n (lv' := [(3, .int (ndV 4 7 S2)), (2, .int (ndV 0 3 S1)), (1, .int (ndV 0 3 P1)), (0, .ref E.rd)]) dX3_saw_52 (by decide) rfl ?_
  refine g_aload_n dX3_saw_53 3 rfl ?_
  refine g_callV (t_X3_on _ EK (⟨_, _, _, _, _, _, X226⟩)) (lw_V q686 q688 qs6 q129 q689) okX3_on (hrd226) rfl rfl rfl rfl (Nat.le_of_ble_eq_true rfl) dX3_saw_54 (fun v1 h227 _ _ hq => ?_)
  obtain ⟨rfl, Y227⟩ := hq
  show wp Δ (d + 10) muX3_saw 57 [(3, .int (ndV 4 7 S2)), (2, .int (ndV 0 3 S1)), (1, .int (ndV 0 3 P1)), (0, .ref E.rd)] [] h227 _
  obtain ⟨w227, now227, e227, ft227, fp227, Q227, X227⟩ := id Y227
  obtain ⟨hrd227, htk227, T227, ⟨he227, hQe227, hen227, hkk227⟩, hst227, hro227, hsub227, hcr227, hct227, hcp227, hcw227⟩ := id X227
  obtain ⟨num227, z227, le227, hnow227, S227, h3_227, h2_227⟩ := id T227
  obtain ⟨b227, sh227, sz227, B227⟩ := id S227
  obtain ⟨S3, qS3⟩ : ∃ S : Pk, S = paP E.t E.n (ndP 4 7 S2) := ⟨_, rfl⟩
  have ZS3 : PX Δ E L h227 c0 S3 := by rw [qS3]; exact Y227
  have hfS3 : S3.fr = P1.fr := by rw [qS3, fr_pa, fr_nd, hfS2]
  have GS3 : GP Δ E c0 S3.fr EL cp cnt el := by rw [hfS3]; exact G1
  have IS3 : LIq (cnt 0) (cnt 1) (cnt 2) (cnt 3) np nf 13 S3.fr := by rw [hfS3]; exact I1
  have EOS3 : eOk E.n S3 := by rw [qS3]; exact eOk_pa EK.1 (eOk_nd EOS2)
  obtain ⟨w228, now228, e228, ft228, fp228, Q228, X228⟩ := id ZS3
  obtain ⟨hrd228, htk228, T228, ⟨he228, hQe228, hen228, hkk228⟩, hst228, hro228, hsub228, hcr228, hct228, hcp228, hcw228⟩ := id X228
  obtain ⟨num228, z228, le228, hnow228, S228, h3_228, h2_228⟩ := id T228
  obtain ⟨b228, sh228, sz228, B228⟩ := id S228
  refine g_aload_n dX3_saw_57 3 rfl ?_
  refine g_callV (t_X3_isOver _ (⟨_, _, _, _, _, _, X228⟩)) (lw_V q682 q684 qs5 q129 q685) okX3_isOver (hrd228) rfl rfl rfl rfl (Nat.le_of_ble_eq_true rfl) dX3_saw_58 (fun v1 h1 _ _ hq => ?_)
  obtain ⟨rfl, hh⟩ := hq
  rw [hh]
  show wp Δ (d + 10) muX3_saw 61 [(3, .int (ndV 4 7 S2)), (2, .int (ndV 0 3 S1)), (1, .int (ndV 0 3 P1)), (0, .ref E.rd)] [.int (bI (decide (¬ S3.f = 0)))] h227 _
  refine gb_ne (tgt := 85) dX3_saw_61 (by decide) (fun c_1 => ?_) (fun c_1 => ?_)
  ·
    have hov := ov_t c_1
    refine g_vret rfl dX3_saw_85 ?_
    obtain ⟨vk, hvk, evk0⟩ := ndV_nat (lo := 4) (hi := 7) (P := S2) (by omega) (by omega)
    have evk : ndV 4 7 S2 = nI vk := evk0
    have eL : saL E.t E.n P1 = saE (cnt 3) va vb vk S3 := by
      unfold saL
      rw [← qS1, ← qS2, ← qS3, eva, evb, evk, ix_nI (by omega), ix_nI (by omega), ix_nI (by omega), I1.2.1.2.2.2.1, ix_nI (by have := I.1; omega)]
    exact lnq_no (c1 := c0) (by rw [← hP1, eL]; exact px_saE (lnq_m 2 (⟨_, _, _, _, _, _, X228⟩))) (fun b x _ q => (fun b x (q : c0 b = some x) => q) b x q) (by rw [← hP1, eL, saE_f]; exact hov) ⟨_, _, _, _, _, gp_mono (fun b x (q : c0 b = some x) => q) G⟩
  ·
    have hov := ov_f c_1
    refine g_aload_n dX3_saw_64 3 rfl ?_
    refine gh_get (x := .ref E.rg) f_2_1 q579 (hrd228) dX3_saw_65 rfl ?_
    refine gh_get (x := .ref (E.rg + 5)) f_4_11 q329 (hsub228 _ _ (G.1)) dX3_saw_68 rfl ?_
    refine g_new (f := ob [.int 0, .int 0, .int 0]) k_12 df_12 q1002 q1003 q150 dX3_saw_71 (fun n229 => ?_)
    refine wp_new (Fr.refl (fun _ => False) _) n229 (fun u229 F229 z229 c229 k229 => ?_)
    obtain ⟨cc229, Y229, sub229, mx229⟩ := px_max (px_more (m := 1) (h2 := u229) (⟨_, _, _, _, _, _, X228⟩ : PX Δ E L h227 c0 S3) (by have := F229.1; omega) (by have := F229.1; omega) k229)
    have cn229 := mx229 _ _ c229 (by show 12 ≠ 2; omega) (by show 12 ≠ 3; omega) (by show 12 ≠ 16; omega)
    obtain ⟨w229, now229, e229, ft229, fp229, Q229, X229⟩ := id Y229
    obtain ⟨hrd229, htk229, T229, ⟨he229, hQe229, hen229, hkk229⟩, hst229, hro229, hsub229, hcr229, hct229, hcp229, hcw229⟩ := id X229
    obtain ⟨num229, z229, le229, hnow229, S229, h3_229, h2_229⟩ := id T229
    obtain ⟨b229, sh229, sz229, B229⟩ := id S229
    refine g_dup dX3_saw_74 rfl ?_
    refine g_iload_n dX3_saw_75 2 rfl ?_
    refine g_iload_n dX3_saw_76 1 rfl ?_
    refine g_iload_n dX3_saw_77 0 rfl ?_
    refine g_callI (t_X13_init _ (h227.1) (ndV 0 3 P1) (ndV 0 3 S1) (ndV 4 7 S2) (hsub229 _ _ (cn229)) (by omega)) (lw_meth q1006) rfl q150 q1004 q1005 rfl okX13_init rfl rfl (Nat.le_of_ble_eq_true rfl) dX3_saw_78 (fun v1 u230 _ _ hq => ?_)
    obtain ⟨rfl, F230, c230⟩ := hq
    have k230 : ∀ b z, ce Δ u229 b = some z → b ≠ h227.1 → ce Δ u230 b = some z := fun b z q n => F230.2 b z q n
    show wp Δ (d + 10) muX3_saw 81 [(3, .int (ndV 4 7 S2)), (2, .int (ndV 0 3 S1)), (1, .int (ndV 0 3 P1)), (0, .ref E.rd)] [.ref h227.1, .ref (E.rg + 5)] u230 _
    have Y230 := px_put (h2 := u230) (⟨_, _, _, _, _, _, X229⟩ : PX Δ E (L + 1) u229 cc229 S3) (cn229) ⟨by show 12 ≠ 2; omega, by show 12 ≠ 3; omega, by show 12 ≠ 5; omega, by show 12 ≠ 16; omega, by show 12 ≠ 102; omega⟩ (by have := F230.1; omega) (by have := F230.1; omega) c230 k230
    obtain ⟨cd230, hcd230⟩ : ∃ c : Nat → Option Cel, c = (fun b => if b = h227.1 then some (12, 0, ob [.int (ndV 0 3 P1), .int (ndV 0 3 S1), .int (ndV 4 7 S2)]) else cc229 b) := ⟨_, rfl⟩
    rw [← hcd230] at Y230
    have kp230 : ∀ b x, cc229 b = some x → b ≠ h227.1 → cd230 b = some x := fun b x q n => by rw [hcd230]; exact (if_neg n).trans q
    have kn230 : cd230 (h227.1) = some (12, 0, ob [.int (ndV 0 3 P1), .int (ndV 0 3 S1), .int (ndV 4 7 S2)]) := by rw [hcd230]; exact if_pos rfl
    obtain ⟨w230, now230, e230, ft230, fp230, Q230, X230⟩ := id Y230
    obtain ⟨hrd230, htk230, T230, ⟨he230, hQe230, hen230, hkk230⟩, hst230, hro230, hsub230, hcr230, hct230, hcp230, hcw230⟩ := id X230
    obtain ⟨num230, z230, le230, hnow230, S230, h3_230, h2_230⟩ := id T230
    obtain ⟨b230, sh230, sz230, B230⟩ := id S230
    have XL := (G1.2.2.2.1 3 (by omega)).mono (fun b x q => hsub230 b x ((fun b x q => kp230 b x ((fun b x q => sub229 b x ((fun b x (q : c0 b = some x) => q) b x q)) b x q) (fun z => by have := ce_lt (hsub0 b x q); rw [z] at this; omega)) b x q))
    obtain ⟨mcL, gL, l1L, l2L, -⟩ := id XL
    refine g_callV (lx_add _ XL (by have := I.1; omega) (hsub230 _ _ (kn230)) rfl q2375 ⟨by omega, by omega⟩) (lw_V q800 q801 q802 q127 q803) okJ2_add l1L rfl rfl rfl rfl (Nat.le_of_ble_eq_true rfl) dX3_saw_81 (fun v1 h231 _ _ hq => ?_)
    obtain ⟨rfl, E', X', hE', F'⟩ := hq
    obtain ⟨c2, Y2, kp2, mx2⟩ := px_gen (⟨_, _, _, _, _, _, X230⟩ : PX Δ E (L + 1) u230 cd230 S3) F' (lx_W XL)
    show wp Δ (d + 10) muX3_saw 84 [(3, .int (ndV 4 7 S2)), (2, .int (ndV 0 3 S1)), (1, .int (ndV 0 3 P1)), (0, .ref E.rd)] [.int 1] h231 _
    refine g_pop dX3_saw_84 rfl ?_
    refine g_vret rfl dX3_saw_85 ?_
    obtain ⟨vk, hvk, evk0⟩ := ndV_nat (lo := 4) (hi := 7) (P := S2) (by omega) (by omega)
    have evk : ndV 4 7 S2 = nI vk := evk0
    have eL : saL E.t E.n P1 = saE (cnt 3) va vb vk S3 := by
      unfold saL
      rw [← qS1, ← qS2, ← qS3, eva, evb, evk, ix_nI (by omega), ix_nI (by omega), ix_nI (by omega), I1.2.1.2.2.2.1, ix_nI (by have := I.1; omega)]
    have fP1 : P1.f = 0 := f_saL (t := E.t) (n := E.n) (by rw [eL, saE_f]; exact hov)
    have hsubG : ∀ b x, c0 b = some x → ¬ (b = E.rg + 2 + 3 ∨ (b = EL 3 ∧ cp 3 = 10)) → c2 b = some x := fun b x q n => kp2 b x ((fun b x q => kp230 b x ((fun b x q => sub229 b x ((fun b x (q : c0 b = some x) => q) b x q)) b x q) (fun z => by have := ce_lt (hsub0 b x q); rw [z] at this; omega)) b x q) n
    have hlt : ∀ b x, c0 b = some x → b < h.1 := fun b x q => ce_lt (hsub0 b x q)
    have hrgl := hlt _ _ G.1
    have nWt : ∀ b (x : Cel), cd230 b = some x → x.1 ≠ 14 → x.1 ≠ 103 → ¬ (b = E.rg + 2 + 3 ∨ (b = EL 3 ∧ cp 3 = 10)) := fun b x q n1 n2 z => by
      rcases z with z | ⟨z, -⟩
      · exact tg_ne (hsub230 b x q) l1L n1 z
      · exact tg_ne (hsub230 b x q) l2L n2 z
    have hEE : (E' = EL 3 ∧ cp 3 = 10) ∨ ((∀ b x, c0 b = some x → b ≠ E') ∧ E.rg ≤ E') := by
      rcases hE' with z | ⟨z, -⟩
      · exact Or.inl z
      · exact Or.inr ⟨fun b x q e => by have := hlt b x q; omega, by omega⟩
    have haa : (∀ b x, c0 b = some x → b ≠ h227.1) ∧ E.rg ≤ h227.1 := ⟨fun b x q e => by have := hlt b x q; omega, by omega⟩
    have hcell := kp2 _ _ (kn230) (nWt _ _ (kn230) (by show 12 ≠ 14; omega) (by show 12 ≠ 103; omega))
    have h4 : cnt 3 < 5 := by
      have qb : (beP E.t E.n 17 (cB P 10 5) P).f = 0 := by rw [← hP1]; exact fP1
      exact cB_ltI (c := 5) 5 rfl (be_ok hi qb).1 I.2.1.2.2.2.1 (by have := I.1; omega) (by omega)
    refine lnq_mk (c1 := c2) (by rw [← hP1]; exact by rw [eL]; exact px_saE Y2) (fun b x hb q => hsubG b x q (fun z => ?_)) ?_
    · rcases z with z | ⟨z, z2⟩
      · omega
      · have := (G.2.2.2.2.2.2.1 3 (by omega)).1 z2; omega
    · rw [← hP1]
      exact ⟨_, _, _, _, by rw [eL]; exact fin_sa G1 I1 hfS3 hov h4 hsubG (lx_up X' mx2) hEE haa (by rw [hcell, eva, evb, evk])⟩
