theorem lnq_m {Δ : Cx} {E : Ev} {L : Nat} {h : Hp} {c : Nat → Option Cel} {P : Pk} (m : Nat) (X : PX Δ E L h c P) : PX Δ E (L + m) h c P := px_more X (by omega) (by omega) (fun _ _ q => q)
set_option maxRecDepth 100000 in
theorem t_X3_bend {Δ : Cx} {h : Hp} (d : Nat) {E : Ev} {L : Nat} {c0 : Nat → Option Cel} {P : Pk} (EK : EOK Δ E) (X : PX Δ E L h c0 P) {EL cp cnt : Nat → Nat} {el : Nat → Nat → Nat} {np nf : Nat} (G : GP Δ E c0 P.fr EL cp cnt el) (I : LIq (cnt 0) (cnt 1) (cnt 2) (cnt 3) np nf 13 P.fr) (EO : eOk E.n P) (hi : isT 2 P = true) : mt Δ (d + 10) muX3_bend [.ref E.rd] h (LNQ Δ E L c0 (beL E.t E.n (beP E.t E.n 2 (cB P 5 4) P))) := by
  obtain ⟨w0, now0, e0, ft0, fp0, Q0, X0⟩ := id X
  obtain ⟨hrd0, htk0, T0, ⟨he0, hQe0, hen0, hkk0⟩, hst0, hro0, hsub0, hcr0, hct0, hcp0, hcw0⟩ := id X0
  obtain ⟨num0, z0, le0, hnow0, S0, h3_0, h2_0⟩ := id T0
  obtain ⟨b0, sh0, sz0, B0⟩ := id S0
  refine mt_of (lv0 := [(0, .ref E.rd)]) rfl rfl (Nat.le_of_ble_eq_true rfl) rfl ?_
  refine g_aload_n dX3_bend_0 0 rfl ?_
  refine g_aload_n dX3_bend_1 0 rfl ?_
  refine gh_get (x := .ref E.rg) f_2_1 q579 (hrd0) dX3_bend_2 rfl ?_
  refine gh_get (x := .ref (E.rg + 2)) f_4_8 q319 (hsub0 _ _ (G.1)) dX3_bend_5 rfl ?_
  obtain ⟨lf_, hl_⟩ := AL_c ((LX.al (G.2.2.2.1 0 (by omega))).mono hsub0)
  refine g_callV (t_J2_size _ ((LX.al (G.2.2.2.1 0 (by omega))).mono hsub0)) (lw_V q717 q718 q719 q127 q720) okJ2_size hl_ rfl rfl rfl rfl (Nat.le_of_ble_eq_true rfl) dX3_bend_8 (fun v1 h1 _ _ hq => ?_)
  obtain ⟨rfl, hh⟩ := hq
  rw [hh]
  show wp Δ (d + 10) muX3_bend 11 [(0, .ref E.rd)] [.int (nI (cnt 0)), .ref E.rd] h _
  refine g_iconst (x := 4) dX3_bend_11 rfl ?_
  refine g_callV (t_X3_begins _ EK (⟨_, _, _, _, _, _, X0⟩) (G.1) rfl (nI (cnt 0)) 4) (lw_V q721 q723 qs11 q129 q724) okX3_begins (hrd0) rfl rfl rfl rfl (Nat.le_of_ble_eq_true rfl) dX3_bend_12 (fun v1 h175 _ _ hq => ?_)
  obtain ⟨rfl, Y175⟩ := hq
  show wp Δ (d + 10) muX3_bend 15 [(0, .ref E.rd)] [] h175 _
  obtain ⟨w175, now175, e175, ft175, fp175, Q175, X175⟩ := id Y175
  obtain ⟨hrd175, htk175, T175, ⟨he175, hQe175, hen175, hkk175⟩, hst175, hro175, hsub175, hcr175, hct175, hcp175, hcw175⟩ := id X175
  obtain ⟨num175, z175, le175, hnow175, S175, h3_175, h2_175⟩ := id T175
  obtain ⟨b175, sh175, sz175, B175⟩ := id S175
  have eP : paP E.t E.n (beC (decide (¬ nI (cnt 0) = 4)) P) = beP E.t E.n 2 (cB P 5 4) P := by unfold beP; rw [if_pos hi]; exact congrArg (fun b => paP E.t E.n (beC b P)) (cb_eq (m := 4) (by have := I.1; omega) (by omega) (I.2.1.1))
  obtain ⟨P1, hP1⟩ : ∃ S : Pk, S = beP E.t E.n 2 (cB P 5 4) P := ⟨_, rfl⟩
  have Z1 : PX Δ E L h175 c0 P1 := by rw [hP1, ← eP]; exact Y175
  have hfr : P1.fr = P.fr := by rw [hP1]; exact fr_be
  have G1 : GP Δ E c0 P1.fr EL cp cnt el := by rw [hfr]; exact G
  have I1 : LIq (cnt 0) (cnt 1) (cnt 2) (cnt 3) np nf 13 P1.fr := by rw [hfr]; exact I
  have EO1 : eOk E.n P1 := by rw [hP1]; exact eOk_be EK.1 EO
  obtain ⟨w176, now176, e176, ft176, fp176, Q176, X176⟩ := id Z1
  obtain ⟨hrd176, htk176, T176, ⟨he176, hQe176, hen176, hkk176⟩, hst176, hro176, hsub176, hcr176, hct176, hcp176, hcw176⟩ := id X176
  obtain ⟨num176, z176, le176, hnow176, S176, h3_176, h2_176⟩ := id T176
  obtain ⟨b176, sh176, sz176, B176⟩ := id S176
  refine g_new (f := ob [.null, .int 0, .int 0]) k_6 df_6 q725 q726 q143 dX3_bend_15 (fun n177 => ?_)
  refine wp_new (Fr.refl (fun _ => False) _) n177 (fun u177 F177 z177 c177 k177 => ?_)
  obtain ⟨cc177, Y177, sub177, mx177⟩ := px_max (px_more (m := 1) (h2 := u177) (⟨_, _, _, _, _, _, X176⟩ : PX Δ E L h175 c0 P1) (by have := F177.1; omega) (by have := F177.1; omega) k177)
  have cn177 := mx177 _ _ c177 (by show 6 ≠ 2; omega) (by show 6 ≠ 3; omega) (by show 6 ≠ 16; omega)
  obtain ⟨w177, now177, e177, ft177, fp177, Q177, X177⟩ := id Y177
  obtain ⟨hrd177, htk177, T177, ⟨he177, hQe177, hen177, hkk177⟩, hst177, hro177, hsub177, hcr177, hct177, hcp177, hcw177⟩ := id X177
  obtain ⟨num177, z177, le177, hnow177, S177, h3_177, h2_177⟩ := id T177
  obtain ⟨b177, sh177, sz177, B177⟩ := id S177
  refine g_dup dX3_bend_18 rfl ?_
  refine g_aload_n dX3_bend_19 0 rfl ?_
  refine g_callV (t_X3_fresh _ EK (⟨_, _, _, _, _, _, X177⟩) (gp_mono (fun b x q => sub177 b x ((fun b x (q : c0 b = some x) => q) b x q)) G1) I1 EO1 (4 + ix (P1.fr 5))) (lw_V q727 q729 qs12 q129 q730) okX3_fresh (hrd177) rfl rfl rfl rfl (Nat.le_of_ble_eq_true rfl) dX3_bend_20 (fun v1 h178 _ _ hq => ?_)
  obtain ⟨ns, rfl, cf, sf, Y178, hst_⟩ := hq
  show wp Δ (d + 10) muX3_bend 23 [(0, .ref E.rd)] [.ref ns, .ref h175.1, .ref h175.1] h178 _
  obtain ⟨w178, now178, e178, ft178, fp178, Q178, X178⟩ := id Y178
  obtain ⟨hrd178, htk178, T178, ⟨he178, hQe178, hen178, hkk178⟩, hst178, hro178, hsub178, hcr178, hct178, hcp178, hcw178⟩ := id X178
  obtain ⟨num178, z178, le178, hnow178, S178, h3_178, h2_178⟩ := id T178
  obtain ⟨b178, sh178, sz178, B178⟩ := id S178
  have hsubF := hsub178
  obtain ⟨S1, qS1⟩ : ∃ S : Pk, S = nnP E.t E.n (4 + ix (P1.fr 5)) P1 := ⟨_, rfl⟩
  have ZS1 : PX Δ E (L + 1) h178 cf S1 := by rw [qS1]; exact Y178
  obtain ⟨w179, now179, e179, ft179, fp179, Q179, X179⟩ := id ZS1
  obtain ⟨hrd179, htk179, T179, ⟨he179, hQe179, hen179, hkk179⟩, hst179, hro179, hsub179, hcr179, hct179, hcp179, hcw179⟩ := id X179
  obtain ⟨num179, z179, le179, hnow179, S179, h3_179, h2_179⟩ := id T179
  obtain ⟨b179, sh179, sz179, B179⟩ := id S179
  refine g_callI (t_X7_init _ (h175.1) ns (hsub179 _ _ (sf _ _ (cn177))) (by omega)) (lw_meth q775) rfl q143 q773 q774 rfl okX7_init rfl rfl (Nat.le_of_ble_eq_true rfl) dX3_bend_23 (fun v1 u180 _ _ hq => ?_)
  obtain ⟨rfl, F180, c180⟩ := hq
  have k180 : ∀ b z, ce Δ h178 b = some z → b ≠ h175.1 → ce Δ u180 b = some z := fun b z q n => F180.2 b z q n
  show wp Δ (d + 10) muX3_bend 26 [(0, .ref E.rd)] [.ref h175.1] u180 _
  have Y180 := px_put (h2 := u180) (⟨_, _, _, _, _, _, X179⟩ : PX Δ E (L + 1) h178 cf S1) (sf _ _ (cn177)) ⟨by show 6 ≠ 2; omega, by show 6 ≠ 3; omega, by show 6 ≠ 5; omega, by show 6 ≠ 16; omega, by show 6 ≠ 102; omega⟩ (by have := F180.1; omega) (by have := F180.1; omega) c180 k180
  obtain ⟨cd180, hcd180⟩ : ∃ c : Nat → Option Cel, c = (fun b => if b = h175.1 then some (6, 0, ob [.ref ns, .int 0, .int 0]) else cf b) := ⟨_, rfl⟩
  rw [← hcd180] at Y180
  have kp180 : ∀ b x, cf b = some x → b ≠ h175.1 → cd180 b = some x := fun b x q n => by rw [hcd180]; exact (if_neg n).trans q
  have kn180 : cd180 (h175.1) = some (6, 0, ob [.ref ns, .int 0, .int 0]) := by rw [hcd180]; exact if_pos rfl
  obtain ⟨w180, now180, e180, ft180, fp180, Q180, X180⟩ := id Y180
  obtain ⟨hrd180, htk180, T180, ⟨he180, hQe180, hen180, hkk180⟩, hst180, hro180, hsub180, hcr180, hct180, hcp180, hcw180⟩ := id X180
  obtain ⟨num180, z180, le180, hnow180, S180, h3_180, h2_180⟩ := id T180
  obtain ⟨b180, sh180, sz180, B180⟩ := id S180
  refine g_astore_n (lv' := [(1, .ref h175.1), (0, .ref E.rd)]) dX3_bend_26 (by decide) rfl ?_
  refine g_aload_n dX3_bend_27 0 rfl ?_
  refine g_aload_n dX3_bend_28 1 rfl ?_
  refine g_ldcS (tx := "long") (i := 10) (by decide +kernel) dX3_bend_29 ?_
  refine g_iconst (x := 1) dX3_bend_31 rfl ?_
  refine g_bipush (x := 30) dX3_bend_32 rfl ?_
  refine g_callV (t_X3_part _ EK (⟨_, _, _, _, _, _, X180⟩) 10 (by decide) 1 30) (lw_V q691 q693 qs7 q129 q694) okX3_part (hrd180) rfl rfl rfl rfl (Nat.le_of_ble_eq_true rfl) dX3_bend_34 (fun v1 h181 _ _ hq => ?_)
  obtain ⟨r181, rfl, hr181, Y181⟩ := hq
  show wp Δ (d + 10) muX3_bend 37 [(1, .ref h175.1), (0, .ref E.rd)] [.int r181, .ref h175.1] h181 _
  obtain ⟨w181, now181, e181, ft181, fp181, Q181, X181⟩ := id Y181
  obtain ⟨hrd181, htk181, T181, ⟨he181, hQe181, hen181, hkk181⟩, hst181, hro181, hsub181, hcr181, hct181, hcp181, hcw181⟩ := id X181
  obtain ⟨num181, z181, le181, hnow181, S181, h3_181, h2_181⟩ := id T181
  obtain ⟨b181, sh181, sz181, B181⟩ := id S181
  obtain ⟨S2, qS2⟩ : ∃ S : Pk, S = stA E.t E.n 10 (11 + 2 * ix (P1.fr 5)) 1 30 S1 := ⟨_, rfl⟩
  have ZS2 : PX Δ E (L + 1) h181 cd180 S2 := by rw [qS2]; exact px_sf Y181
  obtain ⟨w182, now182, e182, ft182, fp182, Q182, X182⟩ := id ZS2
  obtain ⟨hrd182, htk182, T182, ⟨he182, hQe182, hen182, hkk182⟩, hst182, hro182, hsub182, hcr182, hct182, hcp182, hcw182⟩ := id X182
  obtain ⟨num182, z182, le182, hnow182, S182, h3_182, h2_182⟩ := id T182
  obtain ⟨b182, sh182, sz182, B182⟩ := id S182
  refine gh_put (f2 := ob [.ref ns, .int r181, .int 0]) f_6_1 q780 (hsub182 _ _ (kn180)) (by omega) dX3_bend_37 rfl rfl (ob_u [.ref ns, .int 0, .int 0] 1 (.int r181) (Nat.le_of_ble_eq_true rfl)) ?_
  refine wp_put (Fr.refl (fun b => b = h175.1) _) (fun _ => rfl) (hsub182 _ _ (kn180)) (by omega) (fun u183 F183 z183 c183 k183 => ?_)
  have Y183 := px_put (h2 := u183) (⟨_, _, _, _, _, _, X182⟩ : PX Δ E (L + 1) h181 cd180 S2) (kn180) ⟨by show 6 ≠ 2; omega, by show 6 ≠ 3; omega, by show 6 ≠ 5; omega, by show 6 ≠ 16; omega, by show 6 ≠ 102; omega⟩ (by have := F183.1; omega) (by have := F183.1; omega) c183 k183
  obtain ⟨cd183, hcd183⟩ : ∃ c : Nat → Option Cel, c = (fun b => if b = h175.1 then some (6, 0, ob [.ref ns, .int r181, .int 0]) else cd180 b) := ⟨_, rfl⟩
  rw [← hcd183] at Y183
  have kp183 : ∀ b x, cd180 b = some x → b ≠ h175.1 → cd183 b = some x := fun b x q n => by rw [hcd183]; exact (if_neg n).trans q
  have kn183 : cd183 (h175.1) = some (6, 0, ob [.ref ns, .int r181, .int 0]) := by rw [hcd183]; exact if_pos rfl
  obtain ⟨w183, now183, e183, ft183, fp183, Q183, X183⟩ := id Y183
  obtain ⟨hrd183, htk183, T183, ⟨he183, hQe183, hen183, hkk183⟩, hst183, hro183, hsub183, hcr183, hct183, hcp183, hcw183⟩ := id X183
  obtain ⟨num183, z183, le183, hnow183, S183, h3_183, h2_183⟩ := id T183
  obtain ⟨b183, sh183, sz183, B183⟩ := id S183
  refine g_aload_n dX3_bend_40 0 rfl ?_
  refine g_aload_n dX3_bend_41 1 rfl ?_
  refine g_callV (t_X3_side _ EK (⟨_, _, _, _, _, _, X183⟩)) (lw_V q794 q796 qs13 q129 q797) okX3_side (hrd183) rfl rfl rfl rfl (Nat.le_of_ble_eq_true rfl) dX3_bend_42 (fun v1 h184 _ _ hq => ?_)
  obtain ⟨r184, rfl, hr184, Y184⟩ := hq
  show wp Δ (d + 10) muX3_bend 45 [(1, .ref h175.1), (0, .ref E.rd)] [.int r184, .ref h175.1] h184 _
  obtain ⟨w184, now184, e184, ft184, fp184, Q184, X184⟩ := id Y184
  obtain ⟨hrd184, htk184, T184, ⟨he184, hQe184, hen184, hkk184⟩, hst184, hro184, hsub184, hcr184, hct184, hcp184, hcw184⟩ := id X184
  obtain ⟨num184, z184, le184, hnow184, S184, h3_184, h2_184⟩ := id T184
  obtain ⟨b184, sh184, sz184, B184⟩ := id S184
  obtain ⟨S3, qS3⟩ : ∃ S : Pk, S = stS E.t E.n (11 + 2 * ix (P1.fr 5) + 1) S2 := ⟨_, rfl⟩
  have ZS3 : PX Δ E (L + 1) h184 cd183 S3 := by rw [qS3]; exact px_sf Y184
  obtain ⟨w185, now185, e185, ft185, fp185, Q185, X185⟩ := id ZS3
  obtain ⟨hrd185, htk185, T185, ⟨he185, hQe185, hen185, hkk185⟩, hst185, hro185, hsub185, hcr185, hct185, hcp185, hcw185⟩ := id X185
  obtain ⟨num185, z185, le185, hnow185, S185, h3_185, h2_185⟩ := id T185
  obtain ⟨b185, sh185, sz185, B185⟩ := id S185
  refine gh_put (f2 := ob [.ref ns, .int r181, .int r184]) f_6_2 q784 (hsub185 _ _ (kn183)) (by omega) dX3_bend_45 rfl rfl (ob_u [.ref ns, .int r181, .int 0] 2 (.int r184) (Nat.le_of_ble_eq_true rfl)) ?_
  refine wp_put (Fr.refl (fun b => b = h175.1) _) (fun _ => rfl) (hsub185 _ _ (kn183)) (by omega) (fun u186 F186 z186 c186 k186 => ?_)
  have Y186 := px_put (h2 := u186) (⟨_, _, _, _, _, _, X185⟩ : PX Δ E (L + 1) h184 cd183 S3) (kn183) ⟨by show 6 ≠ 2; omega, by show 6 ≠ 3; omega, by show 6 ≠ 5; omega, by show 6 ≠ 16; omega, by show 6 ≠ 102; omega⟩ (by have := F186.1; omega) (by have := F186.1; omega) c186 k186
  obtain ⟨cd186, hcd186⟩ : ∃ c : Nat → Option Cel, c = (fun b => if b = h175.1 then some (6, 0, ob [.ref ns, .int r181, .int r184]) else cd183 b) := ⟨_, rfl⟩
  rw [← hcd186] at Y186
  have kp186 : ∀ b x, cd183 b = some x → b ≠ h175.1 → cd186 b = some x := fun b x q n => by rw [hcd186]; exact (if_neg n).trans q
  have kn186 : cd186 (h175.1) = some (6, 0, ob [.ref ns, .int r181, .int r184]) := by rw [hcd186]; exact if_pos rfl
  obtain ⟨w186, now186, e186, ft186, fp186, Q186, X186⟩ := id Y186
  obtain ⟨hrd186, htk186, T186, ⟨he186, hQe186, hen186, hkk186⟩, hst186, hro186, hsub186, hcr186, hct186, hcp186, hcw186⟩ := id X186
  obtain ⟨num186, z186, le186, hnow186, S186, h3_186, h2_186⟩ := id T186
  obtain ⟨b186, sh186, sz186, B186⟩ := id S186
  refine g_aload_n dX3_bend_48 1 rfl ?_
  refine g_callV (t_X3_isOver _ (⟨_, _, _, _, _, _, X186⟩)) (lw_V q682 q684 qs5 q129 q685) okX3_isOver (hrd186) rfl rfl rfl rfl (Nat.le_of_ble_eq_true rfl) dX3_bend_49 (fun v1 h1 _ _ hq => ?_)
  obtain ⟨rfl, hh⟩ := hq
  rw [hh]
  show wp Δ (d + 10) muX3_bend 52 [(1, .ref h175.1), (0, .ref E.rd)] [.int (bI (decide (¬ S3.f = 0)))] u186 _
  refine gb_ne (tgt := 67) dX3_bend_52 (by decide) (fun c_1 => ?_) (fun c_1 => ?_)
  ·
    have hov := ov_t c_1
    refine g_vret rfl dX3_bend_67 ?_
    exact lnq_no (c1 := cd186) (by rw [← hP1]; exact px_be qS1 qS2 qS3 (lnq_m 1 ⟨_, _, _, _, _, _, X186⟩)) (fun b x _ q => (fun b x q => kp186 b x ((fun b x q => kp183 b x ((fun b x q => kp180 b x ((fun b x q => sf b x ((fun b x q => sub177 b x ((fun b x (q : c0 b = some x) => q) b x q)) b x q)) b x q) (fun z => by have := ce_lt (hsub0 b x q); rw [z] at this; omega)) b x q) (fun z => by have := ce_lt (hsub0 b x q); rw [z] at this; omega)) b x q) (fun z => by have := ce_lt (hsub0 b x q); rw [z] at this; omega)) b x q) (by rw [← hP1]; exact be_nf qS1 qS2 qS3 hov) ⟨_, _, _, _, _, gp_mono (fun b x q => kp186 b x ((fun b x q => kp183 b x ((fun b x q => kp180 b x ((fun b x q => sf b x ((fun b x q => sub177 b x ((fun b x (q : c0 b = some x) => q) b x q)) b x q)) b x q) (fun z => by have := ce_lt (hsub0 b x q); rw [z] at this; omega)) b x q) (fun z => by have := ce_lt (hsub0 b x q); rw [z] at this; omega)) b x q) (fun z => by have := ce_lt (hsub0 b x q); rw [z] at this; omega)) G⟩
  ·
    have hov := ov_f c_1
    refine g_aload_n dX3_bend_55 1 rfl ?_
    refine gh_get (x := .ref E.rg) f_2_1 q579 (hrd186) dX3_bend_56 rfl ?_
    refine gh_get (x := .ref (E.rg + 2)) f_4_8 q319 (hsub186 _ _ (kp186 _ _ (kp183 _ _ (kp180 _ _ (sf _ _ (sub177 _ _ (G.1))) (tg_ne (sf _ _ (sub177 _ _ (G.1))) (sf _ _ (cn177)) (by show 4 ≠ 6; omega))) (tg_ne (kp180 _ _ (sf _ _ (sub177 _ _ (G.1))) (tg_ne (sf _ _ (sub177 _ _ (G.1))) (sf _ _ (cn177)) (by show 4 ≠ 6; omega))) (kn180) (by show 4 ≠ 6; omega))) (tg_ne (kp183 _ _ (kp180 _ _ (sf _ _ (sub177 _ _ (G.1))) (tg_ne (sf _ _ (sub177 _ _ (G.1))) (sf _ _ (cn177)) (by show 4 ≠ 6; omega))) (tg_ne (kp180 _ _ (sf _ _ (sub177 _ _ (G.1))) (tg_ne (sf _ _ (sub177 _ _ (G.1))) (sf _ _ (cn177)) (by show 4 ≠ 6; omega))) (kn180) (by show 4 ≠ 6; omega))) (kn183) (by show 4 ≠ 6; omega)))) dX3_bend_59 rfl ?_
    refine g_aload_n dX3_bend_62 0 rfl ?_
    have XL := (G1.2.2.2.1 0 (by omega)).mono (fun b x q => hsub186 b x ((fun b x q => kp186 b x ((fun b x q => kp183 b x ((fun b x q => kp180 b x ((fun b x q => sf b x ((fun b x q => sub177 b x ((fun b x (q : c0 b = some x) => q) b x q)) b x q)) b x q) (fun z => by have := ce_lt (hsub0 b x q); rw [z] at this; omega)) b x q) (fun z => by have := ce_lt (hsub0 b x q); rw [z] at this; omega)) b x q) (fun z => by have := ce_lt (hsub0 b x q); rw [z] at this; omega)) b x q))
    obtain ⟨mcL, gL, l1L, l2L, -⟩ := id XL
    refine g_callV (lx_add _ XL (by have := I.1; omega) (hsub186 _ _ (kn186)) rfl q2369 ⟨by omega, by omega⟩) (lw_V q800 q801 q802 q127 q803) okJ2_add l1L rfl rfl rfl rfl (Nat.le_of_ble_eq_true rfl) dX3_bend_63 (fun v1 h187 _ _ hq => ?_)
    obtain ⟨rfl, E', X', hE', F'⟩ := hq
    obtain ⟨c2, Y2, kp2, mx2⟩ := px_gen (⟨_, _, _, _, _, _, X186⟩ : PX Δ E (L + 1) u186 cd186 S3) F' (lx_W XL)
    show wp Δ (d + 10) muX3_bend 66 [(1, .ref h175.1), (0, .ref E.rd)] [.int 1] h187 _
    refine g_pop dX3_bend_66 rfl ?_
    refine g_vret rfl dX3_bend_67 ?_
    have fP1 : P1.f = 0 := (be_fr qS1 qS2 qS3 hov).1
    have fS2 : S2.f = 0 := f_sS (t := E.t) (n := E.n) (x := 11 + 2 * ix (P1.fr 5) + 1) (by rw [← qS3]; exact hov)
    have hsubG : ∀ b x, c0 b = some x → ¬ (b = E.rg + 2 + 0 ∨ (b = EL 0 ∧ cp 0 = 10)) → c2 b = some x := fun b x q n => kp2 b x ((fun b x q => kp186 b x ((fun b x q => kp183 b x ((fun b x q => kp180 b x ((fun b x q => sf b x ((fun b x q => sub177 b x ((fun b x (q : c0 b = some x) => q) b x q)) b x q)) b x q) (fun z => by have := ce_lt (hsub0 b x q); rw [z] at this; omega)) b x q) (fun z => by have := ce_lt (hsub0 b x q); rw [z] at this; omega)) b x q) (fun z => by have := ce_lt (hsub0 b x q); rw [z] at this; omega)) b x q) n
    have hlt : ∀ b x, c0 b = some x → b < h.1 := fun b x q => ce_lt (hsub0 b x q)
    have hrgl := hlt _ _ G.1
    have nWt : ∀ b (x : Cel), cd186 b = some x → x.1 ≠ 14 → x.1 ≠ 103 → ¬ (b = E.rg + 2 + 0 ∨ (b = EL 0 ∧ cp 0 = 10)) := fun b x q n1 n2 z => by
      rcases z with z | ⟨z, -⟩
      · exact tg_ne (hsub186 b x q) l1L n1 z
      · exact tg_ne (hsub186 b x q) l2L n2 z
    have hEE : (E' = EL 0 ∧ cp 0 = 10) ∨ ((∀ b x, c0 b = some x → b ≠ E') ∧ E.rg ≤ E') := by
      rcases hE' with z | ⟨z, -⟩
      · exact Or.inl z
      · exact Or.inr ⟨fun b x q e => by have := hlt b x q; omega, by omega⟩
    have haa : (∀ b x, c0 b = some x → b ≠ h175.1) ∧ E.rg ≤ h175.1 := ⟨fun b x q e => by have := hlt b x q; omega, by omega⟩
    have hcell := kp2 _ _ (kn186) (nWt _ _ (kn186) (by show 6 ≠ 14; omega) (by show 6 ≠ 103; omega))
    have h4 : cnt 0 < 4 := by
      have qb : (beP E.t E.n 2 (cB P 5 4) P).f = 0 := by rw [← hP1]; exact fP1
      exact cB_ltI (c := 4) 4 rfl (be_ok hi qb).1 I.2.1.1 (by have := I.1; omega) (by omega)
    have fS1 : S1.f = 0 := (f_sA (t := E.t) (n := E.n) (i := 10) (x := 11 + 2 * ix (P1.fr 5)) (lo := 1) (hi := 30) (by rw [← qS2]; exact fS2))
    obtain ⟨nz, nle, ⟨b_, sh_, sz_, s1_, s2_, s3_⟩, hnz, hnl⟩ := hst_ (by rw [← qS1]; exact fS1)
    have nA : ∀ b (x : Cel), cf b = some x → x.1 = 16 ∨ x.1 = 102 → b ≠ h175.1 := fun b x q z => tg_ne q (sf _ _ (cn177)) (by show x.1 ≠ 6; omega)
    have sK : ∀ b (x : Cel), cf b = some x → x.1 = 16 ∨ x.1 = 102 → c2 b = some x := fun b x q z => kp2 b x ((fun b x q n => kp186 b x ((fun b x q n => kp183 b x ((fun b x q n => kp180 b x ((fun b x q _ => q) b x q n) n) b x q n) n) b x q n) n) b x q (nA b x q z)) (nWt b x ((fun b x q n => kp186 b x ((fun b x q n => kp183 b x ((fun b x q n => kp180 b x ((fun b x q _ => q) b x q n) n) b x q n) n) b x q n) n) b x q (nA b x q z)) (by omega) (by omega))
    have sT2 : ST Δ c2 ns nz nle := ⟨b_, sh_, sz_, sK _ _ s1_ (Or.inl rfl), sK _ _ s2_ (Or.inr rfl), s3_⟩
    refine lnq_mk (c1 := c2) (by rw [← hP1]; exact px_be qS1 qS2 qS3 Y2) (fun b x hb q => hsubG b x q (fun z => ?_)) ?_
    · rcases z with z | ⟨z, z2⟩
      · omega
      · have := (G.2.2.2.2.2.2.1 0 (by omega)).1 z2; omega
    · rw [← hP1]
      exact ⟨_, _, _, _, fin_be G1 I1 EO1 qS1 qS2 qS3 hov h4 hsubG (lx_up X' mx2) hEE haa hcell sT2 hnz hnl (hr181 (by have q := fS2; rw [qS2] at q; exact q)) (hr184 (by have q := hov; rw [qS3] at q; exact q))⟩
set_option maxRecDepth 100000 in
theorem t_X3_lodger {Δ : Cx} {h : Hp} (d : Nat) {E : Ev} {L : Nat} {c0 : Nat → Option Cel} {P : Pk} (EK : EOK Δ E) (X : PX Δ E L h c0 P) {EL cp cnt : Nat → Nat} {el : Nat → Nat → Nat} {np nf : Nat} (G : GP Δ E c0 P.fr EL cp cnt el) (I : LIq (cnt 0) (cnt 1) (cnt 2) (cnt 3) np nf 13 P.fr) (EO : eOk E.n P) (hi : isT 9 P = true) : mt Δ (d + 10) muX3_lodger [.ref E.rd] h (LNQ Δ E L c0 (loL E.t E.n (beP E.t E.n 9 (cB P 7 5) P))) := by
  obtain ⟨w0, now0, e0, ft0, fp0, Q0, X0⟩ := id X
  obtain ⟨hrd0, htk0, T0, ⟨he0, hQe0, hen0, hkk0⟩, hst0, hro0, hsub0, hcr0, hct0, hcp0, hcw0⟩ := id X0
  obtain ⟨num0, z0, le0, hnow0, S0, h3_0, h2_0⟩ := id T0
  obtain ⟨b0, sh0, sz0, B0⟩ := id S0
  refine mt_of (lv0 := [(0, .ref E.rd)]) rfl rfl (Nat.le_of_ble_eq_true rfl) rfl ?_
  refine g_aload_n dX3_lodger_0 0 rfl ?_
  refine g_aload_n dX3_lodger_1 0 rfl ?_
  refine gh_get (x := .ref E.rg) f_2_1 q579 (hrd0) dX3_lodger_2 rfl ?_
  refine gh_get (x := .ref (E.rg + 4)) f_4_10 q327 (hsub0 _ _ (G.1)) dX3_lodger_5 rfl ?_
  obtain ⟨lf_, hl_⟩ := AL_c ((LX.al (G.2.2.2.1 2 (by omega))).mono hsub0)
  refine g_callV (t_J2_size _ ((LX.al (G.2.2.2.1 2 (by omega))).mono hsub0)) (lw_V q717 q718 q719 q127 q720) okJ2_size hl_ rfl rfl rfl rfl (Nat.le_of_ble_eq_true rfl) dX3_lodger_8 (fun v1 h1 _ _ hq => ?_)
  obtain ⟨rfl, hh⟩ := hq
  rw [hh]
  show wp Δ (d + 10) muX3_lodger 11 [(0, .ref E.rd)] [.int (nI (cnt 2)), .ref E.rd] h _
  refine g_iconst (x := 5) dX3_lodger_11 rfl ?_
  refine g_callV (t_X3_begins _ EK (⟨_, _, _, _, _, _, X0⟩) (G.1) rfl (nI (cnt 2)) 5) (lw_V q721 q723 qs11 q129 q724) okX3_begins (hrd0) rfl rfl rfl rfl (Nat.le_of_ble_eq_true rfl) dX3_lodger_12 (fun v1 h188 _ _ hq => ?_)
  obtain ⟨rfl, Y188⟩ := hq
  show wp Δ (d + 10) muX3_lodger 15 [(0, .ref E.rd)] [] h188 _
  obtain ⟨w188, now188, e188, ft188, fp188, Q188, X188⟩ := id Y188
  obtain ⟨hrd188, htk188, T188, ⟨he188, hQe188, hen188, hkk188⟩, hst188, hro188, hsub188, hcr188, hct188, hcp188, hcw188⟩ := id X188
  obtain ⟨num188, z188, le188, hnow188, S188, h3_188, h2_188⟩ := id T188
  obtain ⟨b188, sh188, sz188, B188⟩ := id S188
  have eP : paP E.t E.n (beC (decide (¬ nI (cnt 2) = 5)) P) = beP E.t E.n 9 (cB P 7 5) P := by unfold beP; rw [if_pos hi]; exact congrArg (fun b => paP E.t E.n (beC b P)) (cb_eq (m := 5) (by have := I.1; omega) (by omega) (I.2.1.2.2.1))
  obtain ⟨P1, hP1⟩ : ∃ S : Pk, S = beP E.t E.n 9 (cB P 7 5) P := ⟨_, rfl⟩
  have Z1 : PX Δ E L h188 c0 P1 := by rw [hP1, ← eP]; exact Y188
  have hfr : P1.fr = P.fr := by rw [hP1]; exact fr_be
  have G1 : GP Δ E c0 P1.fr EL cp cnt el := by rw [hfr]; exact G
  have I1 : LIq (cnt 0) (cnt 1) (cnt 2) (cnt 3) np nf 13 P1.fr := by rw [hfr]; exact I
  have EO1 : eOk E.n P1 := by rw [hP1]; exact eOk_be EK.1 EO
  obtain ⟨w189, now189, e189, ft189, fp189, Q189, X189⟩ := id Z1
  obtain ⟨hrd189, htk189, T189, ⟨he189, hQe189, hen189, hkk189⟩, hst189, hro189, hsub189, hcr189, hct189, hcp189, hcw189⟩ := id X189
  obtain ⟨num189, z189, le189, hnow189, S189, h3_189, h2_189⟩ := id T189
  obtain ⟨b189, sh189, sz189, B189⟩ := id S189
  refine g_new (f := ob [.null, .int 0, .int 0, .int 0, .int 0]) k_11 df_11 q928 q929 q149 dX3_lodger_15 (fun n190 => ?_)
  refine wp_new (Fr.refl (fun _ => False) _) n190 (fun u190 F190 z190 c190 k190 => ?_)
  obtain ⟨cc190, Y190, sub190, mx190⟩ := px_max (px_more (m := 1) (h2 := u190) (⟨_, _, _, _, _, _, X189⟩ : PX Δ E L h188 c0 P1) (by have := F190.1; omega) (by have := F190.1; omega) k190)
  have cn190 := mx190 _ _ c190 (by show 11 ≠ 2; omega) (by show 11 ≠ 3; omega) (by show 11 ≠ 16; omega)
  obtain ⟨w190, now190, e190, ft190, fp190, Q190, X190⟩ := id Y190
  obtain ⟨hrd190, htk190, T190, ⟨he190, hQe190, hen190, hkk190⟩, hst190, hro190, hsub190, hcr190, hct190, hcp190, hcw190⟩ := id X190
  obtain ⟨num190, z190, le190, hnow190, S190, h3_190, h2_190⟩ := id T190
  obtain ⟨b190, sh190, sz190, B190⟩ := id S190
  refine g_dup dX3_lodger_18 rfl ?_
  refine g_aload_n dX3_lodger_19 0 rfl ?_
  refine g_callV (t_X3_fresh _ EK (⟨_, _, _, _, _, _, X190⟩) (gp_mono (fun b x q => sub190 b x ((fun b x (q : c0 b = some x) => q) b x q)) G1) I1 EO1 (8 + ix (P1.fr 7))) (lw_V q727 q729 qs12 q129 q730) okX3_fresh (hrd190) rfl rfl rfl rfl (Nat.le_of_ble_eq_true rfl) dX3_lodger_20 (fun v1 h191 _ _ hq => ?_)
  obtain ⟨ns, rfl, cf, sf, Y191, hst_⟩ := hq
  show wp Δ (d + 10) muX3_lodger 23 [(0, .ref E.rd)] [.ref ns, .ref h188.1, .ref h188.1] h191 _
  obtain ⟨w191, now191, e191, ft191, fp191, Q191, X191⟩ := id Y191
  obtain ⟨hrd191, htk191, T191, ⟨he191, hQe191, hen191, hkk191⟩, hst191, hro191, hsub191, hcr191, hct191, hcp191, hcw191⟩ := id X191
  obtain ⟨num191, z191, le191, hnow191, S191, h3_191, h2_191⟩ := id T191
  obtain ⟨b191, sh191, sz191, B191⟩ := id S191
  have hsubF := hsub191
  obtain ⟨S1, qS1⟩ : ∃ S : Pk, S = nnP E.t E.n (8 + ix (P1.fr 7)) P1 := ⟨_, rfl⟩
  have ZS1 : PX Δ E (L + 1) h191 cf S1 := by rw [qS1]; exact Y191
  obtain ⟨w192, now192, e192, ft192, fp192, Q192, X192⟩ := id ZS1
  obtain ⟨hrd192, htk192, T192, ⟨he192, hQe192, hen192, hkk192⟩, hst192, hro192, hsub192, hcr192, hct192, hcp192, hcw192⟩ := id X192
  obtain ⟨num192, z192, le192, hnow192, S192, h3_192, h2_192⟩ := id T192
  obtain ⟨b192, sh192, sz192, B192⟩ := id S192
  refine g_callI (t_X12_init _ (h188.1) ns (hsub192 _ _ (sf _ _ (cn190))) (by omega)) (lw_meth q932) rfl q149 q930 q931 rfl okX12_init rfl rfl (Nat.le_of_ble_eq_true rfl) dX3_lodger_23 (fun v1 u193 _ _ hq => ?_)
  obtain ⟨rfl, F193, c193⟩ := hq
  have k193 : ∀ b z, ce Δ h191 b = some z → b ≠ h188.1 → ce Δ u193 b = some z := fun b z q n => F193.2 b z q n
  show wp Δ (d + 10) muX3_lodger 26 [(0, .ref E.rd)] [.ref h188.1] u193 _
  have Y193 := px_put (h2 := u193) (⟨_, _, _, _, _, _, X192⟩ : PX Δ E (L + 1) h191 cf S1) (sf _ _ (cn190)) ⟨by show 11 ≠ 2; omega, by show 11 ≠ 3; omega, by show 11 ≠ 5; omega, by show 11 ≠ 16; omega, by show 11 ≠ 102; omega⟩ (by have := F193.1; omega) (by have := F193.1; omega) c193 k193
  obtain ⟨cd193, hcd193⟩ : ∃ c : Nat → Option Cel, c = (fun b => if b = h188.1 then some (11, 0, ob [.ref ns, .int 0, .int 0, .int (-2), .int 0]) else cf b) := ⟨_, rfl⟩
  rw [← hcd193] at Y193
  have kp193 : ∀ b x, cf b = some x → b ≠ h188.1 → cd193 b = some x := fun b x q n => by rw [hcd193]; exact (if_neg n).trans q
  have kn193 : cd193 (h188.1) = some (11, 0, ob [.ref ns, .int 0, .int 0, .int (-2), .int 0]) := by rw [hcd193]; exact if_pos rfl
  obtain ⟨w193, now193, e193, ft193, fp193, Q193, X193⟩ := id Y193
  obtain ⟨hrd193, htk193, T193, ⟨he193, hQe193, hen193, hkk193⟩, hst193, hro193, hsub193, hcr193, hct193, hcp193, hcw193⟩ := id X193
  obtain ⟨num193, z193, le193, hnow193, S193, h3_193, h2_193⟩ := id T193
  obtain ⟨b193, sh193, sz193, B193⟩ := id S193
  refine g_astore_n (lv' := [(1, .ref h188.1), (0, .ref E.rd)]) dX3_lodger_26 (by decide) rfl ?_
  refine g_aload_n dX3_lodger_27 0 rfl ?_
  refine g_aload_n dX3_lodger_28 1 rfl ?_
  refine g_ldcS (tx := "weighs") (i := 24) (by decide +kernel) dX3_lodger_29 ?_
  refine g_iconst (x := 0) dX3_lodger_31 rfl ?_
  refine g_bipush (x := 30) dX3_lodger_32 rfl ?_
  refine g_callV (t_X3_part _ EK (⟨_, _, _, _, _, _, X193⟩) 24 (by decide) 0 30) (lw_V q691 q693 qs7 q129 q694) okX3_part (hrd193) rfl rfl rfl rfl (Nat.le_of_ble_eq_true rfl) dX3_lodger_34 (fun v1 h194 _ _ hq => ?_)
  obtain ⟨r194, rfl, hr194, Y194⟩ := hq
  show wp Δ (d + 10) muX3_lodger 37 [(1, .ref h188.1), (0, .ref E.rd)] [.int r194, .ref h188.1] h194 _
  obtain ⟨w194, now194, e194, ft194, fp194, Q194, X194⟩ := id Y194
  obtain ⟨hrd194, htk194, T194, ⟨he194, hQe194, hen194, hkk194⟩, hst194, hro194, hsub194, hcr194, hct194, hcp194, hcw194⟩ := id X194
  obtain ⟨num194, z194, le194, hnow194, S194, h3_194, h2_194⟩ := id T194
  obtain ⟨b194, sh194, sz194, B194⟩ := id S194
  obtain ⟨S2, qS2⟩ : ∃ S : Pk, S = stA E.t E.n 24 (35 + 4 * ix (P1.fr 7)) 0 30 S1 := ⟨_, rfl⟩
  have ZS2 : PX Δ E (L + 1) h194 cd193 S2 := by rw [qS2]; exact px_sf Y194
  obtain ⟨w195, now195, e195, ft195, fp195, Q195, X195⟩ := id ZS2
  obtain ⟨hrd195, htk195, T195, ⟨he195, hQe195, hen195, hkk195⟩, hst195, hro195, hsub195, hcr195, hct195, hcp195, hcw195⟩ := id X195
  obtain ⟨num195, z195, le195, hnow195, S195, h3_195, h2_195⟩ := id T195
  obtain ⟨b195, sh195, sz195, B195⟩ := id S195
  refine gh_put (f2 := ob [.ref ns, .int r194, .int 0, .int (-2), .int 0]) f_11_1 q937 (hsub195 _ _ (kn193)) (by omega) dX3_lodger_37 rfl rfl (ob_u [.ref ns, .int 0, .int 0, .int (-2), .int 0] 1 (.int r194) (Nat.le_of_ble_eq_true rfl)) ?_
  refine wp_put (Fr.refl (fun b => b = h188.1) _) (fun _ => rfl) (hsub195 _ _ (kn193)) (by omega) (fun u196 F196 z196 c196 k196 => ?_)
  have Y196 := px_put (h2 := u196) (⟨_, _, _, _, _, _, X195⟩ : PX Δ E (L + 1) h194 cd193 S2) (kn193) ⟨by show 11 ≠ 2; omega, by show 11 ≠ 3; omega, by show 11 ≠ 5; omega, by show 11 ≠ 16; omega, by show 11 ≠ 102; omega⟩ (by have := F196.1; omega) (by have := F196.1; omega) c196 k196
  obtain ⟨cd196, hcd196⟩ : ∃ c : Nat → Option Cel, c = (fun b => if b = h188.1 then some (11, 0, ob [.ref ns, .int r194, .int 0, .int (-2), .int 0]) else cd193 b) := ⟨_, rfl⟩
  rw [← hcd196] at Y196
  have kp196 : ∀ b x, cd193 b = some x → b ≠ h188.1 → cd196 b = some x := fun b x q n => by rw [hcd196]; exact (if_neg n).trans q
  have kn196 : cd196 (h188.1) = some (11, 0, ob [.ref ns, .int r194, .int 0, .int (-2), .int 0]) := by rw [hcd196]; exact if_pos rfl
  obtain ⟨w196, now196, e196, ft196, fp196, Q196, X196⟩ := id Y196
  obtain ⟨hrd196, htk196, T196, ⟨he196, hQe196, hen196, hkk196⟩, hst196, hro196, hsub196, hcr196, hct196, hcp196, hcw196⟩ := id X196
  obtain ⟨num196, z196, le196, hnow196, S196, h3_196, h2_196⟩ := id T196
  obtain ⟨b196, sh196, sz196, B196⟩ := id S196
  refine g_aload_n dX3_lodger_40 0 rfl ?_
  refine g_aload_n dX3_lodger_41 1 rfl ?_
  refine g_ldcSw (tx := "rows") (i := 16) (by decide +kernel) dX3_lodger_42 ?_
  refine g_iconst (x := 0) dX3_lodger_45 rfl ?_
  refine g_bipush (x := 9) dX3_lodger_46 rfl ?_
  refine g_callV (t_X3_part _ EK (⟨_, _, _, _, _, _, X196⟩) 16 (by decide) 0 9) (lw_V q691 q693 qs7 q129 q694) okX3_part (hrd196) rfl rfl rfl rfl (Nat.le_of_ble_eq_true rfl) dX3_lodger_48 (fun v1 h197 _ _ hq => ?_)
  obtain ⟨r197, rfl, hr197, Y197⟩ := hq
  show wp Δ (d + 10) muX3_lodger 51 [(1, .ref h188.1), (0, .ref E.rd)] [.int r197, .ref h188.1] h197 _
  obtain ⟨w197, now197, e197, ft197, fp197, Q197, X197⟩ := id Y197
  obtain ⟨hrd197, htk197, T197, ⟨he197, hQe197, hen197, hkk197⟩, hst197, hro197, hsub197, hcr197, hct197, hcp197, hcw197⟩ := id X197
  obtain ⟨num197, z197, le197, hnow197, S197, h3_197, h2_197⟩ := id T197
  obtain ⟨b197, sh197, sz197, B197⟩ := id S197
  obtain ⟨S3, qS3⟩ : ∃ S : Pk, S = stA E.t E.n 16 (35 + 4 * ix (P1.fr 7) + 1) 0 9 S2 := ⟨_, rfl⟩
  have ZS3 : PX Δ E (L + 1) h197 cd196 S3 := by rw [qS3]; exact px_sf Y197
  obtain ⟨w198, now198, e198, ft198, fp198, Q198, X198⟩ := id ZS3
  obtain ⟨hrd198, htk198, T198, ⟨he198, hQe198, hen198, hkk198⟩, hst198, hro198, hsub198, hcr198, hct198, hcp198, hcw198⟩ := id X198
  obtain ⟨num198, z198, le198, hnow198, S198, h3_198, h2_198⟩ := id T198
  obtain ⟨b198, sh198, sz198, B198⟩ := id S198
  refine gh_put (f2 := ob [.ref ns, .int r194, .int r197, .int (-2), .int 0]) f_11_2 q940 (hsub198 _ _ (kn196)) (by omega) dX3_lodger_51 rfl rfl (ob_u [.ref ns, .int r194, .int 0, .int (-2), .int 0] 2 (.int r197) (Nat.le_of_ble_eq_true rfl)) ?_
  refine wp_put (Fr.refl (fun b => b = h188.1) _) (fun _ => rfl) (hsub198 _ _ (kn196)) (by omega) (fun u199 F199 z199 c199 k199 => ?_)
  have Y199 := px_put (h2 := u199) (⟨_, _, _, _, _, _, X198⟩ : PX Δ E (L + 1) h197 cd196 S3) (kn196) ⟨by show 11 ≠ 2; omega, by show 11 ≠ 3; omega, by show 11 ≠ 5; omega, by show 11 ≠ 16; omega, by show 11 ≠ 102; omega⟩ (by have := F199.1; omega) (by have := F199.1; omega) c199 k199
  obtain ⟨cd199, hcd199⟩ : ∃ c : Nat → Option Cel, c = (fun b => if b = h188.1 then some (11, 0, ob [.ref ns, .int r194, .int r197, .int (-2), .int 0]) else cd196 b) := ⟨_, rfl⟩
  rw [← hcd199] at Y199
  have kp199 : ∀ b x, cd196 b = some x → b ≠ h188.1 → cd199 b = some x := fun b x q n => by rw [hcd199]; exact (if_neg n).trans q
  have kn199 : cd199 (h188.1) = some (11, 0, ob [.ref ns, .int r194, .int r197, .int (-2), .int 0]) := by rw [hcd199]; exact if_pos rfl
  obtain ⟨w199, now199, e199, ft199, fp199, Q199, X199⟩ := id Y199
  obtain ⟨hrd199, htk199, T199, ⟨he199, hQe199, hen199, hkk199⟩, hst199, hro199, hsub199, hcr199, hct199, hcp199, hcw199⟩ := id X199
  obtain ⟨num199, z199, le199, hnow199, S199, h3_199, h2_199⟩ := id T199
  obtain ⟨b199, sh199, sz199, B199⟩ := id S199
  refine g_aload_n dX3_lodger_54 1 rfl ?_
  refine g_callV (t_X3_isOver _ (⟨_, _, _, _, _, _, X199⟩)) (lw_V q682 q684 qs5 q129 q685) okX3_isOver (hrd199) rfl rfl rfl rfl (Nat.le_of_ble_eq_true rfl) dX3_lodger_55 (fun v1 h1 _ _ hq => ?_)
  obtain ⟨rfl, hh⟩ := hq
  rw [hh]
  show wp Δ (d + 10) muX3_lodger 58 [(1, .ref h188.1), (0, .ref E.rd)] [.int (bI (decide (¬ S3.f = 0)))] u199 _
  refine gb_ne (tgt := 73) dX3_lodger_58 (by decide) (fun c_1 => ?_) (fun c_1 => ?_)
  ·
    have hov := ov_t c_1
    refine g_vret rfl dX3_lodger_73 ?_
    exact lnq_no (c1 := cd199) (by rw [← hP1]; exact px_lo qS1 qS2 qS3 (lnq_m 1 ⟨_, _, _, _, _, _, X199⟩)) (fun b x _ q => (fun b x q => kp199 b x ((fun b x q => kp196 b x ((fun b x q => kp193 b x ((fun b x q => sf b x ((fun b x q => sub190 b x ((fun b x (q : c0 b = some x) => q) b x q)) b x q)) b x q) (fun z => by have := ce_lt (hsub0 b x q); rw [z] at this; omega)) b x q) (fun z => by have := ce_lt (hsub0 b x q); rw [z] at this; omega)) b x q) (fun z => by have := ce_lt (hsub0 b x q); rw [z] at this; omega)) b x q) (by rw [← hP1]; exact lo_nf qS1 qS2 qS3 hov) ⟨_, _, _, _, _, gp_mono (fun b x q => kp199 b x ((fun b x q => kp196 b x ((fun b x q => kp193 b x ((fun b x q => sf b x ((fun b x q => sub190 b x ((fun b x (q : c0 b = some x) => q) b x q)) b x q)) b x q) (fun z => by have := ce_lt (hsub0 b x q); rw [z] at this; omega)) b x q) (fun z => by have := ce_lt (hsub0 b x q); rw [z] at this; omega)) b x q) (fun z => by have := ce_lt (hsub0 b x q); rw [z] at this; omega)) G⟩
  ·
    have hov := ov_f c_1
    refine g_aload_n dX3_lodger_61 1 rfl ?_
    refine gh_get (x := .ref E.rg) f_2_1 q579 (hrd199) dX3_lodger_62 rfl ?_
    refine gh_get (x := .ref (E.rg + 4)) f_4_10 q327 (hsub199 _ _ (kp199 _ _ (kp196 _ _ (kp193 _ _ (sf _ _ (sub190 _ _ (G.1))) (tg_ne (sf _ _ (sub190 _ _ (G.1))) (sf _ _ (cn190)) (by show 4 ≠ 11; omega))) (tg_ne (kp193 _ _ (sf _ _ (sub190 _ _ (G.1))) (tg_ne (sf _ _ (sub190 _ _ (G.1))) (sf _ _ (cn190)) (by show 4 ≠ 11; omega))) (kn193) (by show 4 ≠ 11; omega))) (tg_ne (kp196 _ _ (kp193 _ _ (sf _ _ (sub190 _ _ (G.1))) (tg_ne (sf _ _ (sub190 _ _ (G.1))) (sf _ _ (cn190)) (by show 4 ≠ 11; omega))) (tg_ne (kp193 _ _ (sf _ _ (sub190 _ _ (G.1))) (tg_ne (sf _ _ (sub190 _ _ (G.1))) (sf _ _ (cn190)) (by show 4 ≠ 11; omega))) (kn193) (by show 4 ≠ 11; omega))) (kn196) (by show 4 ≠ 11; omega)))) dX3_lodger_65 rfl ?_
    refine g_aload_n dX3_lodger_68 0 rfl ?_
    have XL := (G1.2.2.2.1 2 (by omega)).mono (fun b x q => hsub199 b x ((fun b x q => kp199 b x ((fun b x q => kp196 b x ((fun b x q => kp193 b x ((fun b x q => sf b x ((fun b x q => sub190 b x ((fun b x (q : c0 b = some x) => q) b x q)) b x q)) b x q) (fun z => by have := ce_lt (hsub0 b x q); rw [z] at this; omega)) b x q) (fun z => by have := ce_lt (hsub0 b x q); rw [z] at this; omega)) b x q) (fun z => by have := ce_lt (hsub0 b x q); rw [z] at this; omega)) b x q))
    obtain ⟨mcL, gL, l1L, l2L, -⟩ := id XL
    refine g_callV (lx_add _ XL (by have := I.1; omega) (hsub199 _ _ (kn199)) rfl q2374 ⟨by omega, by omega⟩) (lw_V q800 q801 q802 q127 q803) okJ2_add l1L rfl rfl rfl rfl (Nat.le_of_ble_eq_true rfl) dX3_lodger_69 (fun v1 h200 _ _ hq => ?_)
    obtain ⟨rfl, E', X', hE', F'⟩ := hq
    obtain ⟨c2, Y2, kp2, mx2⟩ := px_gen (⟨_, _, _, _, _, _, X199⟩ : PX Δ E (L + 1) u199 cd199 S3) F' (lx_W XL)
    show wp Δ (d + 10) muX3_lodger 72 [(1, .ref h188.1), (0, .ref E.rd)] [.int 1] h200 _
    refine g_pop dX3_lodger_72 rfl ?_
    refine g_vret rfl dX3_lodger_73 ?_
    have fP1 : P1.f = 0 := (lo_fr qS1 qS2 qS3 hov).1
    have fS2 : S2.f = 0 := f_sA (t := E.t) (n := E.n) (i := 16) (x := 35 + 4 * ix (P1.fr 7) + 1) (lo := 0) (hi := 9) (by rw [← qS3]; exact hov)
    have hsubG : ∀ b x, c0 b = some x → ¬ (b = E.rg + 2 + 2 ∨ (b = EL 2 ∧ cp 2 = 10)) → c2 b = some x := fun b x q n => kp2 b x ((fun b x q => kp199 b x ((fun b x q => kp196 b x ((fun b x q => kp193 b x ((fun b x q => sf b x ((fun b x q => sub190 b x ((fun b x (q : c0 b = some x) => q) b x q)) b x q)) b x q) (fun z => by have := ce_lt (hsub0 b x q); rw [z] at this; omega)) b x q) (fun z => by have := ce_lt (hsub0 b x q); rw [z] at this; omega)) b x q) (fun z => by have := ce_lt (hsub0 b x q); rw [z] at this; omega)) b x q) n
    have hlt : ∀ b x, c0 b = some x → b < h.1 := fun b x q => ce_lt (hsub0 b x q)
    have hrgl := hlt _ _ G.1
    have nWt : ∀ b (x : Cel), cd199 b = some x → x.1 ≠ 14 → x.1 ≠ 103 → ¬ (b = E.rg + 2 + 2 ∨ (b = EL 2 ∧ cp 2 = 10)) := fun b x q n1 n2 z => by
      rcases z with z | ⟨z, -⟩
      · exact tg_ne (hsub199 b x q) l1L n1 z
      · exact tg_ne (hsub199 b x q) l2L n2 z
    have hEE : (E' = EL 2 ∧ cp 2 = 10) ∨ ((∀ b x, c0 b = some x → b ≠ E') ∧ E.rg ≤ E') := by
      rcases hE' with z | ⟨z, -⟩
      · exact Or.inl z
      · exact Or.inr ⟨fun b x q e => by have := hlt b x q; omega, by omega⟩
    have haa : (∀ b x, c0 b = some x → b ≠ h188.1) ∧ E.rg ≤ h188.1 := ⟨fun b x q e => by have := hlt b x q; omega, by omega⟩
    have hcell := kp2 _ _ (kn199) (nWt _ _ (kn199) (by show 11 ≠ 14; omega) (by show 11 ≠ 103; omega))
    have h4 : cnt 2 < 5 := by
      have qb : (beP E.t E.n 9 (cB P 7 5) P).f = 0 := by rw [← hP1]; exact fP1
      exact cB_ltI (c := 5) 5 rfl (be_ok hi qb).1 I.2.1.2.2.1 (by have := I.1; omega) (by omega)
    have fS1 : S1.f = 0 := (f_sA (t := E.t) (n := E.n) (i := 24) (x := 35 + 4 * ix (P1.fr 7)) (lo := 0) (hi := 30) (by rw [← qS2]; exact fS2))
    obtain ⟨nz, nle, ⟨b_, sh_, sz_, s1_, s2_, s3_⟩, hnz, hnl⟩ := hst_ (by rw [← qS1]; exact fS1)
    have nA : ∀ b (x : Cel), cf b = some x → x.1 = 16 ∨ x.1 = 102 → b ≠ h188.1 := fun b x q z => tg_ne q (sf _ _ (cn190)) (by show x.1 ≠ 11; omega)
    have sK : ∀ b (x : Cel), cf b = some x → x.1 = 16 ∨ x.1 = 102 → c2 b = some x := fun b x q z => kp2 b x ((fun b x q n => kp199 b x ((fun b x q n => kp196 b x ((fun b x q n => kp193 b x ((fun b x q _ => q) b x q n) n) b x q n) n) b x q n) n) b x q (nA b x q z)) (nWt b x ((fun b x q n => kp199 b x ((fun b x q n => kp196 b x ((fun b x q n => kp193 b x ((fun b x q _ => q) b x q n) n) b x q n) n) b x q n) n) b x q (nA b x q z)) (by omega) (by omega))
    have sT2 : ST Δ c2 ns nz nle := ⟨b_, sh_, sz_, sK _ _ s1_ (Or.inl rfl), sK _ _ s2_ (Or.inr rfl), s3_⟩
    refine lnq_mk (c1 := c2) (by rw [← hP1]; exact px_lo qS1 qS2 qS3 Y2) (fun b x hb q => hsubG b x q (fun z => ?_)) ?_
    · rcases z with z | ⟨z, z2⟩
      · omega
      · have := (G.2.2.2.2.2.2.1 2 (by omega)).1 z2; omega
    · rw [← hP1]
      exact ⟨_, _, _, _, fin_lo G1 I1 EO1 qS1 qS2 qS3 hov h4 hsubG (lx_up X' mx2) hEE haa hcell sT2 hnz hnl (hr194 (by have q := fS2; rw [qS2] at q; exact q)) (hr197 (by have q := hov; rw [qS3] at q; exact q))⟩
set_option maxRecDepth 100000 in
theorem t_X3_house {Δ : Cx} {h : Hp} (d : Nat) {E : Ev} {L : Nat} {c0 : Nat → Option Cel} {P : Pk} (EK : EOK Δ E) (X : PX Δ E L h c0 P) {EL cp cnt : Nat → Nat} {el : Nat → Nat → Nat} {np nf : Nat} (G : GP Δ E c0 P.fr EL cp cnt el) (I : LIq (cnt 0) (cnt 1) (cnt 2) (cnt 3) np nf 13 P.fr) (EO : eOk E.n P) (hi : isT 7 P = true) : mt Δ (d + 10) muX3_house [.ref E.rd] h (LNQ Δ E L c0 (hoL E.t E.n (beP E.t E.n 7 (cB P 6 4) P))) := by
  obtain ⟨w0, now0, e0, ft0, fp0, Q0, X0⟩ := id X
  obtain ⟨hrd0, htk0, T0, ⟨he0, hQe0, hen0, hkk0⟩, hst0, hro0, hsub0, hcr0, hct0, hcp0, hcw0⟩ := id X0
  obtain ⟨num0, z0, le0, hnow0, S0, h3_0, h2_0⟩ := id T0
  obtain ⟨b0, sh0, sz0, B0⟩ := id S0
  have hn0 := px_n0 EK X
  refine mt_of (lv0 := [(0, .ref E.rd)]) rfl rfl (Nat.le_of_ble_eq_true rfl) rfl ?_
  refine g_aload_n dX3_house_0 0 rfl ?_
  refine g_aload_n dX3_house_1 0 rfl ?_
  refine gh_get (x := .ref E.rg) f_2_1 q579 (hrd0) dX3_house_2 rfl ?_
  refine gh_get (x := .ref (E.rg + 3)) f_4_9 q322 (hsub0 _ _ (G.1)) dX3_house_5 rfl ?_
  obtain ⟨lf_, hl_⟩ := AL_c ((LX.al (G.2.2.2.1 1 (by omega))).mono hsub0)
  refine g_callV (t_J2_size _ ((LX.al (G.2.2.2.1 1 (by omega))).mono hsub0)) (lw_V q717 q718 q719 q127 q720) okJ2_size hl_ rfl rfl rfl rfl (Nat.le_of_ble_eq_true rfl) dX3_house_8 (fun v1 h1 _ _ hq => ?_)
  obtain ⟨rfl, hh⟩ := hq
  rw [hh]
  show wp Δ (d + 10) muX3_house 11 [(0, .ref E.rd)] [.int (nI (cnt 1)), .ref E.rd] h _
  refine g_iconst (x := 4) dX3_house_11 rfl ?_
  refine g_callV (t_X3_begins _ EK (⟨_, _, _, _, _, _, X0⟩) (G.1) rfl (nI (cnt 1)) 4) (lw_V q721 q723 qs11 q129 q724) okX3_begins (hrd0) rfl rfl rfl rfl (Nat.le_of_ble_eq_true rfl) dX3_house_12 (fun v1 h201 _ _ hq => ?_)
  obtain ⟨rfl, Y201⟩ := hq
  show wp Δ (d + 10) muX3_house 15 [(0, .ref E.rd)] [] h201 _
  obtain ⟨w201, now201, e201, ft201, fp201, Q201, X201⟩ := id Y201
  obtain ⟨hrd201, htk201, T201, ⟨he201, hQe201, hen201, hkk201⟩, hst201, hro201, hsub201, hcr201, hct201, hcp201, hcw201⟩ := id X201
  obtain ⟨num201, z201, le201, hnow201, S201, h3_201, h2_201⟩ := id T201
  obtain ⟨b201, sh201, sz201, B201⟩ := id S201
  have eP : paP E.t E.n (beC (decide (¬ nI (cnt 1) = 4)) P) = beP E.t E.n 7 (cB P 6 4) P := by unfold beP; rw [if_pos hi]; exact congrArg (fun b => paP E.t E.n (beC b P)) (cb_eq (m := 4) (by have := I.1; omega) (by omega) (I.2.1.2.1))
  obtain ⟨P1, hP1⟩ : ∃ S : Pk, S = beP E.t E.n 7 (cB P 6 4) P := ⟨_, rfl⟩
  have Z1 : PX Δ E L h201 c0 P1 := by rw [hP1, ← eP]; exact Y201
  have hfr : P1.fr = P.fr := by rw [hP1]; exact fr_be
  have G1 : GP Δ E c0 P1.fr EL cp cnt el := by rw [hfr]; exact G
  have I1 : LIq (cnt 0) (cnt 1) (cnt 2) (cnt 3) np nf 13 P1.fr := by rw [hfr]; exact I
  have EO1 : eOk E.n P1 := by rw [hP1]; exact eOk_be EK.1 EO
  obtain ⟨w202, now202, e202, ft202, fp202, Q202, X202⟩ := id Z1
  obtain ⟨hrd202, htk202, T202, ⟨he202, hQe202, hen202, hkk202⟩, hst202, hro202, hsub202, hcr202, hct202, hcp202, hcw202⟩ := id X202
  obtain ⟨num202, z202, le202, hnow202, S202, h3_202, h2_202⟩ := id T202
  obtain ⟨b202, sh202, sz202, B202⟩ := id S202
  refine g_aload_n dX3_house_15 0 rfl ?_
  refine g_aload_n dX3_house_16 0 rfl ?_
  refine g_callV (t_X3_fresh _ EK (⟨_, _, _, _, _, _, X202⟩) (gp_mono (fun b x (q : c0 b = some x) => q) G1) I1 EO1 (ix (P1.fr 6))) (lw_V q727 q729 qs12 q129 q730) okX3_fresh (hrd202) rfl rfl rfl rfl (Nat.le_of_ble_eq_true rfl) dX3_house_17 (fun v1 h203 _ _ hq => ?_)
  obtain ⟨ns, rfl, cf, sf, Y203, hst_⟩ := hq
  show wp Δ (d + 10) muX3_house 20 [(0, .ref E.rd)] [.ref ns, .ref E.rd] h203 _
  obtain ⟨w203, now203, e203, ft203, fp203, Q203, X203⟩ := id Y203
  obtain ⟨hrd203, htk203, T203, ⟨he203, hQe203, hen203, hkk203⟩, hst203, hro203, hsub203, hcr203, hct203, hcp203, hcw203⟩ := id X203
  obtain ⟨num203, z203, le203, hnow203, S203, h3_203, h2_203⟩ := id T203
  obtain ⟨b203, sh203, sz203, B203⟩ := id S203
  have hsubF := hsub203
  obtain ⟨S1, qS1⟩ : ∃ S : Pk, S = nnP E.t E.n (ix (P1.fr 6)) P1 := ⟨_, rfl⟩
  have ZS1 : PX Δ E L h203 cf S1 := by rw [qS1]; exact Y203
  obtain ⟨w204, now204, e204, ft204, fp204, Q204, X204⟩ := id ZS1
  obtain ⟨hrd204, htk204, T204, ⟨he204, hQe204, hen204, hkk204⟩, hst204, hro204, hsub204, hcr204, hct204, hcp204, hcw204⟩ := id X204
  obtain ⟨num204, z204, le204, hnow204, S204, h3_204, h2_204⟩ := id T204
  obtain ⟨b204, sh204, sz204, B204⟩ := id S204
  refine g_callV (t_X3_kind _ EK (⟨_, _, _, _, _, _, X204⟩) ns) (lw_V q855 q857 qs18 q129 q858) okX3_kind (hrd204) rfl rfl rfl rfl (Nat.le_of_ble_eq_true rfl) dX3_house_20 (fun v1 h205 _ _ hq => ?_)
  obtain ⟨ah, ck, rfl, sk, Y205, kd, hkd, hka, hkl, hkv⟩ := hq
  show wp Δ (d + 10) muX3_house 23 [(0, .ref E.rd)] [.ref ah] h205 _
  obtain ⟨w205, now205, e205, ft205, fp205, Q205, X205⟩ := id Y205
  obtain ⟨hrd205, htk205, T205, ⟨he205, hQe205, hen205, hkk205⟩, hst205, hro205, hsub205, hcr205, hct205, hcp205, hcw205⟩ := id X205
  obtain ⟨num205, z205, le205, hnow205, S205, h3_205, h2_205⟩ := id T205
  obtain ⟨b205, sh205, sz205, B205⟩ := id S205
  refine g_astore_n (lv' := [(1, .ref ah), (0, .ref E.rd)]) dX3_house_23 (by decide) rfl ?_
  refine g_aload_n dX3_house_24 1 rfl ?_
  refine g_callV (t_X3_on _ EK (⟨_, _, _, _, _, _, X205⟩)) (lw_V q686 q688 qs6 q129 q689) okX3_on (hrd205) rfl rfl rfl rfl (Nat.le_of_ble_eq_true rfl) dX3_house_25 (fun v1 h206 _ _ hq => ?_)
  obtain ⟨rfl, Y206⟩ := hq
  show wp Δ (d + 10) muX3_house 28 [(1, .ref ah), (0, .ref E.rd)] [] h206 _
  obtain ⟨w206, now206, e206, ft206, fp206, Q206, X206⟩ := id Y206
  obtain ⟨hrd206, htk206, T206, ⟨he206, hQe206, hen206, hkk206⟩, hst206, hro206, hsub206, hcr206, hct206, hcp206, hcw206⟩ := id X206
  obtain ⟨num206, z206, le206, hnow206, S206, h3_206, h2_206⟩ := id T206
  obtain ⟨b206, sh206, sz206, B206⟩ := id S206
  obtain ⟨S2, qS2⟩ : ∃ S : Pk, S = sfP (19 + 4 * ix (P1.fr 6)) (hkV S1) (paP E.t E.n (hkW S1)) := ⟨_, rfl⟩
  have ZS2 : PX Δ E (L + 1) h206 ck S2 := by rw [qS2]; exact px_sf Y206
  obtain ⟨w207, now207, e207, ft207, fp207, Q207, X207⟩ := id ZS2
  obtain ⟨hrd207, htk207, T207, ⟨he207, hQe207, hen207, hkk207⟩, hst207, hro207, hsub207, hcr207, hct207, hcp207, hcw207⟩ := id X207
  obtain ⟨num207, z207, le207, hnow207, S207, h3_207, h2_207⟩ := id T207
  obtain ⟨b207, sh207, sz207, B207⟩ := id S207
  refine g_aload_n dX3_house_28 0 rfl ?_
  refine g_aload_n dX3_house_29 1 rfl ?_
  refine g_callV (t_X3_side _ EK (⟨_, _, _, _, _, _, X207⟩)) (lw_V q794 q796 qs13 q129 q797) okX3_side (hrd207) rfl rfl rfl rfl (Nat.le_of_ble_eq_true rfl) dX3_house_30 (fun v1 h208 _ _ hq => ?_)
  obtain ⟨r208, rfl, hr208, Y208⟩ := hq
  show wp Δ (d + 10) muX3_house 33 [(1, .ref ah), (0, .ref E.rd)] [.int r208, .ref ah] h208 _
  obtain ⟨w208, now208, e208, ft208, fp208, Q208, X208⟩ := id Y208
  obtain ⟨hrd208, htk208, T208, ⟨he208, hQe208, hen208, hkk208⟩, hst208, hro208, hsub208, hcr208, hct208, hcp208, hcw208⟩ := id X208
  obtain ⟨num208, z208, le208, hnow208, S208, h3_208, h2_208⟩ := id T208
  obtain ⟨b208, sh208, sz208, B208⟩ := id S208
  obtain ⟨S3, qS3⟩ : ∃ S : Pk, S = stS E.t E.n (19 + 4 * ix (P1.fr 6) + 1) S2 := ⟨_, rfl⟩
  have ZS3 : PX Δ E (L + 1) h208 ck S3 := by rw [qS3]; exact px_sf Y208
  obtain ⟨w209, now209, e209, ft209, fp209, Q209, X209⟩ := id ZS3
  obtain ⟨hrd209, htk209, T209, ⟨he209, hQe209, hen209, hkk209⟩, hst209, hro209, hsub209, hcr209, hct209, hcp209, hcw209⟩ := id X209
  obtain ⟨num209, z209, le209, hnow209, S209, h3_209, h2_209⟩ := id T209
  obtain ⟨b209, sh209, sz209, B209⟩ := id S209
  refine gh_put (f2 := ob [.ref ns, .int r208, .int 0, .int 0]) (fH_1 hkd) q872 (hsub209 _ _ (hka)) (by omega) dX3_house_33 rfl rfl (ob_u [.ref ns, .int 0, .int 0, .int 0] 1 (.int r208) (Nat.le_of_ble_eq_true rfl)) ?_
  refine wp_put (Fr.refl (fun b => b = ah) _) (fun _ => rfl) (hsub209 _ _ (hka)) (by omega) (fun u210 F210 z210 c210 k210 => ?_)
  have Y210 := px_put (h2 := u210) (⟨_, _, _, _, _, _, X209⟩ : PX Δ E (L + 1) h208 ck S3) (hka) ⟨by show 7 + kd ≠ 2; omega, by show 7 + kd ≠ 3; omega, by show 7 + kd ≠ 5; omega, by show 7 + kd ≠ 16; omega, by show 7 + kd ≠ 102; omega⟩ (by have := F210.1; omega) (by have := F210.1; omega) c210 k210
  obtain ⟨cd210, hcd210⟩ : ∃ c : Nat → Option Cel, c = (fun b => if b = ah then some (7 + kd, 0, ob [.ref ns, .int r208, .int 0, .int 0]) else ck b) := ⟨_, rfl⟩
  rw [← hcd210] at Y210
  have kp210 : ∀ b x, ck b = some x → b ≠ ah → cd210 b = some x := fun b x q n => by rw [hcd210]; exact (if_neg n).trans q
  have kn210 : cd210 (ah) = some (7 + kd, 0, ob [.ref ns, .int r208, .int 0, .int 0]) := by rw [hcd210]; exact if_pos rfl
  obtain ⟨w210, now210, e210, ft210, fp210, Q210, X210⟩ := id Y210
  obtain ⟨hrd210, htk210, T210, ⟨he210, hQe210, hen210, hkk210⟩, hst210, hro210, hsub210, hcr210, hct210, hcp210, hcw210⟩ := id X210
  obtain ⟨num210, z210, le210, hnow210, S210, h3_210, h2_210⟩ := id T210
  obtain ⟨b210, sh210, sz210, B210⟩ := id S210
  refine g_aload_n dX3_house_36 0 rfl ?_
  refine g_aload_n dX3_house_37 1 rfl ?_
  refine g_ldcS (tx := "tiles") (i := 21) (by decide +kernel) dX3_house_38 ?_
  refine g_iconst (x := 0) dX3_house_40 rfl ?_
  refine g_bipush (x := 50) dX3_house_41 rfl ?_
  refine g_callV (t_X3_part _ EK (⟨_, _, _, _, _, _, X210⟩) 21 (by decide) 0 50) (lw_V q691 q693 qs7 q129 q694) okX3_part (hrd210) rfl rfl rfl rfl (Nat.le_of_ble_eq_true rfl) dX3_house_43 (fun v1 h211 _ _ hq => ?_)
  obtain ⟨r211, rfl, hr211, Y211⟩ := hq
  show wp Δ (d + 10) muX3_house 46 [(1, .ref ah), (0, .ref E.rd)] [.int r211, .ref ah] h211 _
  obtain ⟨w211, now211, e211, ft211, fp211, Q211, X211⟩ := id Y211
  obtain ⟨hrd211, htk211, T211, ⟨he211, hQe211, hen211, hkk211⟩, hst211, hro211, hsub211, hcr211, hct211, hcp211, hcw211⟩ := id X211
  obtain ⟨num211, z211, le211, hnow211, S211, h3_211, h2_211⟩ := id T211
  obtain ⟨b211, sh211, sz211, B211⟩ := id S211
  obtain ⟨S4, qS4⟩ : ∃ S : Pk, S = stA E.t E.n 21 (19 + 4 * ix (P1.fr 6) + 2) 0 50 S3 := ⟨_, rfl⟩
  have ZS4 : PX Δ E (L + 1) h211 cd210 S4 := by rw [qS4]; exact px_sf Y211
  obtain ⟨w212, now212, e212, ft212, fp212, Q212, X212⟩ := id ZS4
  obtain ⟨hrd212, htk212, T212, ⟨he212, hQe212, hen212, hkk212⟩, hst212, hro212, hsub212, hcr212, hct212, hcp212, hcw212⟩ := id X212
  obtain ⟨num212, z212, le212, hnow212, S212, h3_212, h2_212⟩ := id T212
  obtain ⟨b212, sh212, sz212, B212⟩ := id S212
  refine gh_put (f2 := ob [.ref ns, .int r208, .int r211, .int 0]) (fH_2 hkd) q874 (hsub212 _ _ (kn210)) (by omega) dX3_house_46 rfl rfl (ob_u [.ref ns, .int r208, .int 0, .int 0] 2 (.int r211) (Nat.le_of_ble_eq_true rfl)) ?_
  refine wp_put (Fr.refl (fun b => b = ah) _) (fun _ => rfl) (hsub212 _ _ (kn210)) (by omega) (fun u213 F213 z213 c213 k213 => ?_)
  have Y213 := px_put (h2 := u213) (⟨_, _, _, _, _, _, X212⟩ : PX Δ E (L + 1) h211 cd210 S4) (kn210) ⟨by show 7 + kd ≠ 2; omega, by show 7 + kd ≠ 3; omega, by show 7 + kd ≠ 5; omega, by show 7 + kd ≠ 16; omega, by show 7 + kd ≠ 102; omega⟩ (by have := F213.1; omega) (by have := F213.1; omega) c213 k213
  obtain ⟨cd213, hcd213⟩ : ∃ c : Nat → Option Cel, c = (fun b => if b = ah then some (7 + kd, 0, ob [.ref ns, .int r208, .int r211, .int 0]) else cd210 b) := ⟨_, rfl⟩
  rw [← hcd213] at Y213
  have kp213 : ∀ b x, cd210 b = some x → b ≠ ah → cd213 b = some x := fun b x q n => by rw [hcd213]; exact (if_neg n).trans q
  have kn213 : cd213 (ah) = some (7 + kd, 0, ob [.ref ns, .int r208, .int r211, .int 0]) := by rw [hcd213]; exact if_pos rfl
  obtain ⟨w213, now213, e213, ft213, fp213, Q213, X213⟩ := id Y213
  obtain ⟨hrd213, htk213, T213, ⟨he213, hQe213, hen213, hkk213⟩, hst213, hro213, hsub213, hcr213, hct213, hcp213, hcw213⟩ := id X213
  obtain ⟨num213, z213, le213, hnow213, S213, h3_213, h2_213⟩ := id T213
  obtain ⟨b213, sh213, sz213, B213⟩ := id S213
  refine g_aload_n dX3_house_49 0 rfl ?_
  refine g_aload_n dX3_house_50 1 rfl ?_
  refine g_ldcS (tx := "storeys") (i := 19) (by decide +kernel) dX3_house_51 ?_
  refine g_iconst (x := 1) dX3_house_53 rfl ?_
  refine g_bipush (x := 6) dX3_house_54 rfl ?_
  refine g_callV (t_X3_part _ EK (⟨_, _, _, _, _, _, X213⟩) 19 (by decide) 1 6) (lw_V q691 q693 qs7 q129 q694) okX3_part (hrd213) rfl rfl rfl rfl (Nat.le_of_ble_eq_true rfl) dX3_house_56 (fun v1 h214 _ _ hq => ?_)
  obtain ⟨r214, rfl, hr214, Y214⟩ := hq
  show wp Δ (d + 10) muX3_house 59 [(1, .ref ah), (0, .ref E.rd)] [.int r214, .ref ah] h214 _
  obtain ⟨w214, now214, e214, ft214, fp214, Q214, X214⟩ := id Y214
  obtain ⟨hrd214, htk214, T214, ⟨he214, hQe214, hen214, hkk214⟩, hst214, hro214, hsub214, hcr214, hct214, hcp214, hcw214⟩ := id X214
  obtain ⟨num214, z214, le214, hnow214, S214, h3_214, h2_214⟩ := id T214
  obtain ⟨b214, sh214, sz214, B214⟩ := id S214
  obtain ⟨S5, qS5⟩ : ∃ S : Pk, S = stA E.t E.n 19 (19 + 4 * ix (P1.fr 6) + 3) 1 6 S4 := ⟨_, rfl⟩
  have ZS5 : PX Δ E (L + 1) h214 cd213 S5 := by rw [qS5]; exact px_sf Y214
  obtain ⟨w215, now215, e215, ft215, fp215, Q215, X215⟩ := id ZS5
  obtain ⟨hrd215, htk215, T215, ⟨he215, hQe215, hen215, hkk215⟩, hst215, hro215, hsub215, hcr215, hct215, hcp215, hcw215⟩ := id X215
  obtain ⟨num215, z215, le215, hnow215, S215, h3_215, h2_215⟩ := id T215
  obtain ⟨b215, sh215, sz215, B215⟩ := id S215
  refine gh_put (f2 := ob [.ref ns, .int r208, .int r211, .int r214]) (fH_3 hkd) q878 (hsub215 _ _ (kn213)) (by omega) dX3_house_59 rfl rfl (ob_u [.ref ns, .int r208, .int r211, .int 0] 3 (.int r214) (Nat.le_of_ble_eq_true rfl)) ?_
  refine wp_put (Fr.refl (fun b => b = ah) _) (fun _ => rfl) (hsub215 _ _ (kn213)) (by omega) (fun u216 F216 z216 c216 k216 => ?_)
  have Y216 := px_put (h2 := u216) (⟨_, _, _, _, _, _, X215⟩ : PX Δ E (L + 1) h214 cd213 S5) (kn213) ⟨by show 7 + kd ≠ 2; omega, by show 7 + kd ≠ 3; omega, by show 7 + kd ≠ 5; omega, by show 7 + kd ≠ 16; omega, by show 7 + kd ≠ 102; omega⟩ (by have := F216.1; omega) (by have := F216.1; omega) c216 k216
  obtain ⟨cd216, hcd216⟩ : ∃ c : Nat → Option Cel, c = (fun b => if b = ah then some (7 + kd, 0, ob [.ref ns, .int r208, .int r211, .int r214]) else cd213 b) := ⟨_, rfl⟩
  rw [← hcd216] at Y216
  have kp216 : ∀ b x, cd213 b = some x → b ≠ ah → cd216 b = some x := fun b x q n => by rw [hcd216]; exact (if_neg n).trans q
  have kn216 : cd216 (ah) = some (7 + kd, 0, ob [.ref ns, .int r208, .int r211, .int r214]) := by rw [hcd216]; exact if_pos rfl
  obtain ⟨w216, now216, e216, ft216, fp216, Q216, X216⟩ := id Y216
  obtain ⟨hrd216, htk216, T216, ⟨he216, hQe216, hen216, hkk216⟩, hst216, hro216, hsub216, hcr216, hct216, hcp216, hcw216⟩ := id X216
  obtain ⟨num216, z216, le216, hnow216, S216, h3_216, h2_216⟩ := id T216
  obtain ⟨b216, sh216, sz216, B216⟩ := id S216
  refine g_aload_n dX3_house_62 1 rfl ?_
  refine g_callV (t_X3_isOver _ (⟨_, _, _, _, _, _, X216⟩)) (lw_V q682 q684 qs5 q129 q685) okX3_isOver (hrd216) rfl rfl rfl rfl (Nat.le_of_ble_eq_true rfl) dX3_house_63 (fun v1 h1 _ _ hq => ?_)
  obtain ⟨rfl, hh⟩ := hq
  rw [hh]
  show wp Δ (d + 10) muX3_house 66 [(1, .ref ah), (0, .ref E.rd)] [.int (bI (decide (¬ S5.f = 0)))] u216 _
  refine gb_ne (tgt := 81) dX3_house_66 (by decide) (fun c_1 => ?_) (fun c_1 => ?_)
  ·
    have hov := ov_t c_1
    refine g_vret rfl dX3_house_81 ?_
    exact lnq_no (c1 := cd216) (by rw [← hP1]; exact px_ho qS1 qS2 qS3 qS4 qS5 (lnq_m 1 ⟨_, _, _, _, _, _, X216⟩)) (fun b x _ q => (fun b x q => kp216 b x ((fun b x q => kp213 b x ((fun b x q => kp210 b x ((fun b x q => sk b x ((fun b x q => sf b x ((fun b x (q : c0 b = some x) => q) b x q)) b x q)) b x q) (fun z => by have := ce_lt (hsub0 b x q); rw [z] at this; omega)) b x q) (fun z => by have := ce_lt (hsub0 b x q); rw [z] at this; omega)) b x q) (fun z => by have := ce_lt (hsub0 b x q); rw [z] at this; omega)) b x q) (by rw [← hP1]; exact ho_nf qS1 qS2 qS3 qS4 qS5 hov) ⟨_, _, _, _, _, gp_mono (fun b x q => kp216 b x ((fun b x q => kp213 b x ((fun b x q => kp210 b x ((fun b x q => sk b x ((fun b x q => sf b x ((fun b x (q : c0 b = some x) => q) b x q)) b x q)) b x q) (fun z => by have := ce_lt (hsub0 b x q); rw [z] at this; omega)) b x q) (fun z => by have := ce_lt (hsub0 b x q); rw [z] at this; omega)) b x q) (fun z => by have := ce_lt (hsub0 b x q); rw [z] at this; omega)) G⟩
  ·
    have hov := ov_f c_1
    refine g_aload_n dX3_house_69 1 rfl ?_
    refine gh_get (x := .ref E.rg) f_2_1 q579 (hrd216) dX3_house_70 rfl ?_
    refine gh_get (x := .ref (E.rg + 3)) f_4_9 q322 (hsub216 _ _ (kp216 _ _ (kp213 _ _ (kp210 _ _ (sk _ _ (sf _ _ (G.1))) (tg_ne (sk _ _ (sf _ _ (G.1))) (hka) (by show 4 ≠ 7 + kd; omega))) (tg_ne (kp210 _ _ (sk _ _ (sf _ _ (G.1))) (tg_ne (sk _ _ (sf _ _ (G.1))) (hka) (by show 4 ≠ 7 + kd; omega))) (kn210) (by show 4 ≠ 7 + kd; omega))) (tg_ne (kp213 _ _ (kp210 _ _ (sk _ _ (sf _ _ (G.1))) (tg_ne (sk _ _ (sf _ _ (G.1))) (hka) (by show 4 ≠ 7 + kd; omega))) (tg_ne (kp210 _ _ (sk _ _ (sf _ _ (G.1))) (tg_ne (sk _ _ (sf _ _ (G.1))) (hka) (by show 4 ≠ 7 + kd; omega))) (kn210) (by show 4 ≠ 7 + kd; omega))) (kn213) (by show 4 ≠ 7 + kd; omega)))) dX3_house_73 rfl ?_
    refine g_aload_n dX3_house_76 0 rfl ?_
    have XL := (G1.2.2.2.1 1 (by omega)).mono (fun b x q => hsub216 b x ((fun b x q => kp216 b x ((fun b x q => kp213 b x ((fun b x q => kp210 b x ((fun b x q => sk b x ((fun b x q => sf b x ((fun b x (q : c0 b = some x) => q) b x q)) b x q)) b x q) (fun z => by have := ce_lt (hsub0 b x q); rw [z] at this; omega)) b x q) (fun z => by have := ce_lt (hsub0 b x q); rw [z] at this; omega)) b x q) (fun z => by have := ce_lt (hsub0 b x q); rw [z] at this; omega)) b x q))
    obtain ⟨mcL, gL, l1L, l2L, -⟩ := id XL
    obtain ⟨CH, TH, hcH, hwH, -⟩ := clH hkd
    refine g_callV (lx_add _ XL (by have := I.1; omega) (hsub216 _ _ (kn216)) hcH hwH ⟨by omega, by omega⟩) (lw_V q800 q801 q802 q127 q803) okJ2_add l1L rfl rfl rfl rfl (Nat.le_of_ble_eq_true rfl) dX3_house_77 (fun v1 h217 _ _ hq => ?_)
    obtain ⟨rfl, E', X', hE', F'⟩ := hq
    obtain ⟨c2, Y2, kp2, mx2⟩ := px_gen (⟨_, _, _, _, _, _, X216⟩ : PX Δ E (L + 1) u216 cd216 S5) F' (lx_W XL)
    show wp Δ (d + 10) muX3_house 80 [(1, .ref ah), (0, .ref E.rd)] [.int 1] h217 _
    refine g_pop dX3_house_80 rfl ?_
    refine g_vret rfl dX3_house_81 ?_
    have fP1 : P1.f = 0 := (ho_fr qS1 qS2 qS3 qS4 qS5 hov).1
    have fS4 : S4.f = 0 := f_sA (t := E.t) (n := E.n) (i := 19) (x := 19 + 4 * ix (P1.fr 6) + 3) (lo := 1) (hi := 6) (by rw [← qS5]; exact hov)
    have fS3 : S3.f = 0 := f_sA (t := E.t) (n := E.n) (i := 21) (x := 19 + 4 * ix (P1.fr 6) + 2) (lo := 0) (hi := 50) (by rw [← qS4]; exact fS4)
    have hsubG : ∀ b x, c0 b = some x → ¬ (b = E.rg + 2 + 1 ∨ (b = EL 1 ∧ cp 1 = 10)) → c2 b = some x := fun b x q n => kp2 b x ((fun b x q => kp216 b x ((fun b x q => kp213 b x ((fun b x q => kp210 b x ((fun b x q => sk b x ((fun b x q => sf b x ((fun b x (q : c0 b = some x) => q) b x q)) b x q)) b x q) (fun z => by have := ce_lt (hsub0 b x q); rw [z] at this; omega)) b x q) (fun z => by have := ce_lt (hsub0 b x q); rw [z] at this; omega)) b x q) (fun z => by have := ce_lt (hsub0 b x q); rw [z] at this; omega)) b x q) n
    have hlt : ∀ b x, c0 b = some x → b < h.1 := fun b x q => ce_lt (hsub0 b x q)
    have hrgl := hlt _ _ G.1
    have nWt : ∀ b (x : Cel), cd216 b = some x → x.1 ≠ 14 → x.1 ≠ 103 → ¬ (b = E.rg + 2 + 1 ∨ (b = EL 1 ∧ cp 1 = 10)) := fun b x q n1 n2 z => by
      rcases z with z | ⟨z, -⟩
      · exact tg_ne (hsub216 b x q) l1L n1 z
      · exact tg_ne (hsub216 b x q) l2L n2 z
    have hEE : (E' = EL 1 ∧ cp 1 = 10) ∨ ((∀ b x, c0 b = some x → b ≠ E') ∧ E.rg ≤ E') := by
      rcases hE' with z | ⟨z, -⟩
      · exact Or.inl z
      · exact Or.inr ⟨fun b x q e => by have := hlt b x q; omega, by omega⟩
    have haa : (∀ b x, c0 b = some x → b ≠ ah) ∧ E.rg ≤ ah := ⟨fun b x q e => by have := hlt b x q; omega, by omega⟩
    have hcell := kp2 _ _ (kn216) (nWt _ _ (kn216) (by show 7 + kd ≠ 14; omega) (by show 7 + kd ≠ 103; omega))
    have h4 : cnt 1 < 4 := by
      have qb : (beP E.t E.n 7 (cB P 6 4) P).f = 0 := by rw [← hP1]; exact fP1
      exact cB_ltI (c := 4) 4 rfl (be_ok hi qb).1 I.2.1.2.1 (by have := I.1; omega) (by omega)
    have fS1 : S1.f = 0 := (ho_f qS2 qS3 qS4 qS5 hov).2
    obtain ⟨nz, nle, ⟨b_, sh_, sz_, s1_, s2_, s3_⟩, hnz, hnl⟩ := hst_ (by rw [← qS1]; exact fS1)
    have nA : ∀ b (x : Cel), cf b = some x → x.1 = 16 ∨ x.1 = 102 → b ≠ ah := fun b x q z => fun e => by have := ce_lt (hsubF b x q); omega
    have sK : ∀ b (x : Cel), cf b = some x → x.1 = 16 ∨ x.1 = 102 → c2 b = some x := fun b x q z => kp2 b x ((fun b x q n => kp216 b x ((fun b x q n => kp213 b x ((fun b x q n => kp210 b x ((fun b x q n => sk b x ((fun b x q _ => q) b x q n)) b x q n) n) b x q n) n) b x q n) n) b x q (nA b x q z)) (nWt b x ((fun b x q n => kp216 b x ((fun b x q n => kp213 b x ((fun b x q n => kp210 b x ((fun b x q n => sk b x ((fun b x q _ => q) b x q n)) b x q n) n) b x q n) n) b x q n) n) b x q (nA b x q z)) (by omega) (by omega))
    have sT2 : ST Δ c2 ns nz nle := ⟨b_, sh_, sz_, sK _ _ s1_ (Or.inl rfl), sK _ _ s2_ (Or.inr rfl), s3_⟩
    refine lnq_mk (c1 := c2) (by rw [← hP1]; exact px_ho qS1 qS2 qS3 qS4 qS5 Y2) (fun b x hb q => hsubG b x q (fun z => ?_)) ?_
    · rcases z with z | ⟨z, z2⟩
      · omega
      · have := (G.2.2.2.2.2.2.1 1 (by omega)).1 z2; omega
    · rw [← hP1]
      exact ⟨_, _, _, _, fin_ho G1 I1 EO1 qS1 qS2 qS3 qS4 qS5 hov h4 hsubG (lx_up X' mx2) hEE haa hkd (hkv (ho_f qS2 qS3 qS4 qS5 hov).1) hcell sT2 hnz hnl (hr208 (by have q := fS3; rw [qS3] at q; exact q)) (hr211 (by have q := fS4; rw [qS4] at q; exact q)) (hr214 (by have q := hov; rw [qS5] at q; exact q))⟩
