theorem tgW {c : Nat → Option Cel} {a b : Nat} {x y : Cel} (R : Nat → Prop) (q : c b = some x) (z : b = a) (ha : c a = some y) (h : R y.1) : R x.1 := by
  subst z
  rw [ha] at q
  rw [← Option.some.inj q]
  exact h
abbrev R5 (t : Nat) : Prop := t ≠ 2 ∧ t ≠ 3 ∧ t ≠ 5 ∧ t ≠ 16 ∧ t ≠ 102
abbrev R4 (t : Nat) : Prop := t ≠ 14 ∧ t ≠ 103 ∧ t ≠ 16 ∧ t ≠ 102
set_option maxRecDepth 100000 in
theorem t_X3_regattaLine {Δ : Cx} {h : Hp} (d : Nat) {E : Ev} {L : Nat} {c0 : Nat → Option Cel} {P : Pk} (EK : EOK Δ E) (X : PX Δ E L h c0 P) {EL cp cnt : Nat → Nat} {el : Nat → Nat → Nat} {np nf : Nat} (G : GP Δ E c0 P.fr EL cp cnt el) (I : LIq (cnt 0) (cnt 1) (cnt 2) (cnt 3) np nf 13 P.fr) (EO : eOk E.n P) (hi : isT 14 P = true) : mt Δ (d + 10) muX3_regattaLine [.ref E.rd] h (LNQ Δ E L c0 (reL E.t E.n P)) := by
  obtain ⟨w0, now0, e0, ft0, fp0, Q0, X0⟩ := id X
  obtain ⟨hrd0, htk0, T0, ⟨he0, hQe0, hen0, hkk0⟩, hst0, hro0, hsub0, hcr0, hct0, hcp0, hcw0⟩ := id X0
  obtain ⟨num0, z0, le0, hnow0, S0, h3_0, h2_0⟩ := id T0
  obtain ⟨b0, sh0, sz0, B0⟩ := id S0
  have hnrg : n0 Δ ≤ E.rg := EK.2.2.2.2.2.2
  have lrg := ce_lt (hsub0 _ _ G.1)
  have ned : E.rd ≠ E.rg := tg_ne hrd0 (hsub0 _ _ G.1) (by show 2 ≠ 4; omega)
  refine mt_of (lv0 := [(0, .ref E.rd)]) rfl rfl (Nat.le_of_ble_eq_true rfl) rfl ?_
  refine g_aload_n dX3_regattaLine_0 0 rfl ?_
  refine gh_get (x := .ref E.rg) f_2_1 q579 (hrd0) dX3_regattaLine_1 rfl ?_
  refine gh_get (x := .int (P.fr 0)) f_4_0 q296 (hsub0 _ _ (G.1)) dX3_regattaLine_4 rfl ?_
  refine g_if_le (tgt := 15) dX3_regattaLine_7 (by decide) (fun c_1 => ?_) (fun c_1 => ?_)
  ·
    have hR : reW P = P := if_pos c_1
    refine g_aload_n dX3_regattaLine_15 0 rfl ?_
    refine g_callV (t_X3_on _ EK (⟨_, _, _, _, _, _, X0⟩)) (lw_V q686 q688 qs6 q129 q689) okX3_on (hrd0) rfl rfl rfl rfl (Nat.le_of_ble_eq_true rfl) dX3_regattaLine_16 (fun v1 h232 _ _ hq => ?_)
    obtain ⟨rfl, Y232⟩ := hq
    show wp Δ (d + 10) muX3_regattaLine 19 [(0, .ref E.rd)] [] h232 _
    obtain ⟨w232, now232, e232, ft232, fp232, Q232, X232⟩ := id Y232
    obtain ⟨hrd232, htk232, T232, ⟨he232, hQe232, hen232, hkk232⟩, hst232, hro232, hsub232, hcr232, hct232, hcp232, hcw232⟩ := id X232
    obtain ⟨num232, z232, le232, hnow232, S232, h3_232, h2_232⟩ := id T232
    obtain ⟨b232, sh232, sz232, B232⟩ := id S232
    obtain ⟨S0, qS0⟩ : ∃ S : Pk, S = paP E.t E.n (reW P) := ⟨_, rfl⟩
    have ZS0 : PX Δ E L h232 c0 S0 := by rw [qS0]; exact (by rw [hR]; exact Y232)
    obtain ⟨w233, now233, e233, ft233, fp233, Q233, X233⟩ := id ZS0
    obtain ⟨hrd233, htk233, T233, ⟨he233, hQe233, hen233, hkk233⟩, hst233, hro233, hsub233, hcr233, hct233, hcp233, hcw233⟩ := id X233
    obtain ⟨num233, z233, le233, hnow233, S233, h3_233, h2_233⟩ := id T233
    obtain ⟨b233, sh233, sz233, B233⟩ := id S233
    refine g_aload_n dX3_regattaLine_19 0 rfl ?_
    refine g_ldcS (tx := "water") (i := 23) (by decide +kernel) dX3_regattaLine_20 ?_
    refine g_iconst (x := 1) dX3_regattaLine_22 rfl ?_
    refine g_bipush (x := 20) dX3_regattaLine_23 rfl ?_
    refine g_callV (t_X3_part _ EK (⟨_, _, _, _, _, _, X233⟩) 23 (by decide) 1 20) (lw_V q691 q693 qs7 q129 q694) okX3_part (hrd233) rfl rfl rfl rfl (Nat.le_of_ble_eq_true rfl) dX3_regattaLine_25 (fun v1 h234 _ _ hq => ?_)
    obtain ⟨r234, rfl, hr234, Y234⟩ := hq
    show wp Δ (d + 10) muX3_regattaLine 28 [(0, .ref E.rd)] [.int r234] h234 _
    obtain ⟨w234, now234, e234, ft234, fp234, Q234, X234⟩ := id Y234
    obtain ⟨hrd234, htk234, T234, ⟨he234, hQe234, hen234, hkk234⟩, hst234, hro234, hsub234, hcr234, hct234, hcp234, hcw234⟩ := id X234
    obtain ⟨num234, z234, le234, hnow234, S234, h3_234, h2_234⟩ := id T234
    obtain ⟨b234, sh234, sz234, B234⟩ := id S234
    obtain ⟨S1, qS1⟩ : ∃ S : Pk, S = afP E.t E.n 23 1 20 S0 := ⟨_, rfl⟩
    have ZS1 : PX Δ E L h234 c0 S1 := by rw [qS1]; exact Y234
    obtain ⟨w235, now235, e235, ft235, fp235, Q235, X235⟩ := id ZS1
    obtain ⟨hrd235, htk235, T235, ⟨he235, hQe235, hen235, hkk235⟩, hst235, hro235, hsub235, hcr235, hct235, hcp235, hcw235⟩ := id X235
    obtain ⟨num235, z235, le235, hnow235, S235, h3_235, h2_235⟩ := id T235
    obtain ⟨b235, sh235, sz235, B235⟩ := id S235
    refine g_istore_n (lv' := [(1, .int r234), (0, .ref E.rd)]) dX3_regattaLine_28 (by decide) rfl ?_
    refine g_aload_n dX3_regattaLine_29 1 rfl ?_
    refine g_ldcS (tx := "bridge") (i := 3) (by decide +kernel) dX3_regattaLine_30 ?_
    refine g_iconst (x := 1) dX3_regattaLine_32 rfl ?_
    refine g_bipush (x := 6) dX3_regattaLine_33 rfl ?_
    refine g_callV (t_X3_part _ EK (⟨_, _, _, _, _, _, X235⟩) 3 (by decide) 1 6) (lw_V q691 q693 qs7 q129 q694) okX3_part (hrd235) rfl rfl rfl rfl (Nat.le_of_ble_eq_true rfl) dX3_regattaLine_35 (fun v1 h236 _ _ hq => ?_)
    obtain ⟨r236, rfl, hr236, Y236⟩ := hq
    show wp Δ (d + 10) muX3_regattaLine 38 [(1, .int r234), (0, .ref E.rd)] [.int r236] h236 _
    obtain ⟨w236, now236, e236, ft236, fp236, Q236, X236⟩ := id Y236
    obtain ⟨hrd236, htk236, T236, ⟨he236, hQe236, hen236, hkk236⟩, hst236, hro236, hsub236, hcr236, hct236, hcp236, hcw236⟩ := id X236
    obtain ⟨num236, z236, le236, hnow236, S236, h3_236, h2_236⟩ := id T236
    obtain ⟨b236, sh236, sz236, B236⟩ := id S236
    obtain ⟨S2, qS2⟩ : ∃ S : Pk, S = stA E.t E.n 3 (1) 1 6 S1 := ⟨_, rfl⟩
    have ZS2 : PX Δ E L h236 c0 S2 := by rw [qS2]; exact px_sf Y236
    obtain ⟨w237, now237, e237, ft237, fp237, Q237, X237⟩ := id ZS2
    obtain ⟨hrd237, htk237, T237, ⟨he237, hQe237, hen237, hkk237⟩, hst237, hro237, hsub237, hcr237, hct237, hcp237, hcw237⟩ := id X237
    obtain ⟨num237, z237, le237, hnow237, S237, h3_237, h2_237⟩ := id T237
    obtain ⟨b237, sh237, sz237, B237⟩ := id S237
    refine g_istore_n (lv' := [(2, .int r236), (1, .int r234), (0, .ref E.rd)]) dX3_regattaLine_38 (by decide) rfl ?_
    refine g_aload_n dX3_regattaLine_39 2 rfl ?_
    refine g_ldcS (tx := "storey") (i := 18) (by decide +kernel) dX3_regattaLine_40 ?_
    refine g_iconst (x := 0) dX3_regattaLine_42 rfl ?_
    refine g_bipush (x := 30) dX3_regattaLine_43 rfl ?_
    refine g_callV (t_X3_part _ EK (⟨_, _, _, _, _, _, X237⟩) 18 (by decide) 0 30) (lw_V q691 q693 qs7 q129 q694) okX3_part (hrd237) rfl rfl rfl rfl (Nat.le_of_ble_eq_true rfl) dX3_regattaLine_45 (fun v1 h238 _ _ hq => ?_)
    obtain ⟨r238, rfl, hr238, Y238⟩ := hq
    show wp Δ (d + 10) muX3_regattaLine 48 [(2, .int r236), (1, .int r234), (0, .ref E.rd)] [.int r238] h238 _
    obtain ⟨w238, now238, e238, ft238, fp238, Q238, X238⟩ := id Y238
    obtain ⟨hrd238, htk238, T238, ⟨he238, hQe238, hen238, hkk238⟩, hst238, hro238, hsub238, hcr238, hct238, hcp238, hcw238⟩ := id X238
    obtain ⟨num238, z238, le238, hnow238, S238, h3_238, h2_238⟩ := id T238
    obtain ⟨b238, sh238, sz238, B238⟩ := id S238
    obtain ⟨S3, qS3⟩ : ∃ S : Pk, S = stA E.t E.n 18 (2) 0 30 S2 := ⟨_, rfl⟩
    have ZS3 : PX Δ E L h238 c0 S3 := by rw [qS3]; exact px_sf Y238
    obtain ⟨w239, now239, e239, ft239, fp239, Q239, X239⟩ := id ZS3
    obtain ⟨hrd239, htk239, T239, ⟨he239, hQe239, hen239, hkk239⟩, hst239, hro239, hsub239, hcr239, hct239, hcp239, hcw239⟩ := id X239
    obtain ⟨num239, z239, le239, hnow239, S239, h3_239, h2_239⟩ := id T239
    obtain ⟨b239, sh239, sz239, B239⟩ := id S239
    refine g_istore_n (lv' := [(3, .int r238), (2, .int r236), (1, .int r234), (0, .ref E.rd)]) dX3_regattaLine_48 (by decide) rfl ?_
    refine g_aload_n dX3_regattaLine_49 3 rfl ?_
    refine g_ldcS (tx := "rain") (i := 13) (by decide +kernel) dX3_regattaLine_50 ?_
    refine g_iconst (x := 0) dX3_regattaLine_52 rfl ?_
    refine g_bipush (x := 100) dX3_regattaLine_53 rfl ?_
    refine g_callV (t_X3_part _ EK (⟨_, _, _, _, _, _, X239⟩) 13 (by decide) 0 100) (lw_V q691 q693 qs7 q129 q694) okX3_part (hrd239) rfl rfl rfl rfl (Nat.le_of_ble_eq_true rfl) dX3_regattaLine_55 (fun v1 h240 _ _ hq => ?_)
    obtain ⟨r240, rfl, hr240, Y240⟩ := hq
    show wp Δ (d + 10) muX3_regattaLine 58 [(3, .int r238), (2, .int r236), (1, .int r234), (0, .ref E.rd)] [.int r240] h240 _
    obtain ⟨w240, now240, e240, ft240, fp240, Q240, X240⟩ := id Y240
    obtain ⟨hrd240, htk240, T240, ⟨he240, hQe240, hen240, hkk240⟩, hst240, hro240, hsub240, hcr240, hct240, hcp240, hcw240⟩ := id X240
    obtain ⟨num240, z240, le240, hnow240, S240, h3_240, h2_240⟩ := id T240
    obtain ⟨b240, sh240, sz240, B240⟩ := id S240
    obtain ⟨S4, qS4⟩ : ∃ S : Pk, S = stA E.t E.n 13 (3) 0 100 S3 := ⟨_, rfl⟩
    have ZS4 : PX Δ E L h240 c0 S4 := by rw [qS4]; exact px_sf Y240
    obtain ⟨w241, now241, e241, ft241, fp241, Q241, X241⟩ := id ZS4
    obtain ⟨hrd241, htk241, T241, ⟨he241, hQe241, hen241, hkk241⟩, hst241, hro241, hsub241, hcr241, hct241, hcp241, hcw241⟩ := id X241
    obtain ⟨num241, z241, le241, hnow241, S241, h3_241, h2_241⟩ := id T241
    obtain ⟨b241, sh241, sz241, B241⟩ := id S241
    refine g_istore (lv' := [(4, .int r240), (3, .int r238), (2, .int r236), (1, .int r234), (0, .ref E.rd)]) dX3_regattaLine_58 (by decide) rfl ?_
    refine g_aload_n dX3_regattaLine_60 4 rfl ?_
    refine g_ldcS (tx := "by") (i := 4) (by decide +kernel) dX3_regattaLine_61 ?_
    refine g_iconst (x := 0) dX3_regattaLine_63 rfl ?_
    refine g_bipush (x := 9) dX3_regattaLine_64 rfl ?_
    refine g_callV (t_X3_part _ EK (⟨_, _, _, _, _, _, X241⟩) 4 (by decide) 0 9) (lw_V q691 q693 qs7 q129 q694) okX3_part (hrd241) rfl rfl rfl rfl (Nat.le_of_ble_eq_true rfl) dX3_regattaLine_66 (fun v1 h242 _ _ hq => ?_)
    obtain ⟨r242, rfl, hr242, Y242⟩ := hq
    show wp Δ (d + 10) muX3_regattaLine 69 [(4, .int r240), (3, .int r238), (2, .int r236), (1, .int r234), (0, .ref E.rd)] [.int r242] h242 _
    obtain ⟨w242, now242, e242, ft242, fp242, Q242, X242⟩ := id Y242
    obtain ⟨hrd242, htk242, T242, ⟨he242, hQe242, hen242, hkk242⟩, hst242, hro242, hsub242, hcr242, hct242, hcp242, hcw242⟩ := id X242
    obtain ⟨num242, z242, le242, hnow242, S242, h3_242, h2_242⟩ := id T242
    obtain ⟨b242, sh242, sz242, B242⟩ := id S242
    obtain ⟨S5, qS5⟩ : ∃ S : Pk, S = stA E.t E.n 4 (4) 0 9 S4 := ⟨_, rfl⟩
    have ZS5 : PX Δ E L h242 c0 S5 := by rw [qS5]; exact px_sf Y242
    obtain ⟨w243, now243, e243, ft243, fp243, Q243, X243⟩ := id ZS5
    obtain ⟨hrd243, htk243, T243, ⟨he243, hQe243, hen243, hkk243⟩, hst243, hro243, hsub243, hcr243, hct243, hcp243, hcw243⟩ := id X243
    obtain ⟨num243, z243, le243, hnow243, S243, h3_243, h2_243⟩ := id T243
    obtain ⟨b243, sh243, sz243, B243⟩ := id S243
    refine g_istore (lv' := [(5, .int r242), (4, .int r240), (3, .int r238), (2, .int r236), (1, .int r234), (0, .ref E.rd)]) dX3_regattaLine_69 (by decide) rfl ?_
    refine g_aload_n dX3_regattaLine_71 5 rfl ?_
    refine g_callV (t_X3_isOver _ (⟨_, _, _, _, _, _, X243⟩)) (lw_V q682 q684 qs5 q129 q685) okX3_isOver (hrd243) rfl rfl rfl rfl (Nat.le_of_ble_eq_true rfl) dX3_regattaLine_72 (fun v1 h1 _ _ hq => ?_)
    obtain ⟨rfl, hh⟩ := hq
    rw [hh]
    show wp Δ (d + 10) muX3_regattaLine 75 [(5, .int r242), (4, .int r240), (3, .int r238), (2, .int r236), (1, .int r234), (0, .ref E.rd)] [.int (bI (decide (¬ S5.f = 0)))] h242 _
    refine gb_eq (tgt := 79) dX3_regattaLine_75 (by decide) (fun c_2 => ?_) (fun c_2 => ?_)
    ·
      have hov := ov_f c_2
      refine g_aload_n dX3_regattaLine_79 5 rfl ?_
      refine gh_get (x := .ref E.rg) f_2_1 q579 (hrd243) dX3_regattaLine_80 rfl ?_
      refine g_iload_n dX3_regattaLine_83 4 rfl ?_
      refine gh_put (f2 := ob [.int r234, .int (P.fr 1), .int (P.fr 2), .int (P.fr 3), .int (P.fr 4), .int (P.fr 8), .int (P.fr 9), .ref (E.rg + 1), .ref (E.rg + 2), .ref (E.rg + 3), .ref (E.rg + 4), .ref (E.rg + 5)]) f_4_0 q296 (hsub243 _ _ (G.1)) (by omega) dX3_regattaLine_84 rfl rfl (ob_u [.int (P.fr 0), .int (P.fr 1), .int (P.fr 2), .int (P.fr 3), .int (P.fr 4), .int (P.fr 8), .int (P.fr 9), .ref (E.rg + 1), .ref (E.rg + 2), .ref (E.rg + 3), .ref (E.rg + 4), .ref (E.rg + 5)] 0 (.int r234) (Nat.le_of_ble_eq_true rfl)) ?_
      refine wp_put (Fr.refl (fun b => b = E.rg) _) (fun q => by first | exact absurd q (by omega) | exact Or.inl rfl | exact Or.inr rfl | exact Or.inr (Or.inl rfl) | exact Or.inr (Or.inr rfl) | exact Or.inr ⟨rfl, by omega⟩ | exact rfl | (simp only []; omega)) (hsub243 _ _ (G.1)) (by omega) (fun u244 F244 z244 c244 k244 => ?_)
      refine g_aload_n dX3_regattaLine_87 5 rfl ?_
      refine gh_get (x := .ref E.rg) f_2_1 q579 (k244 _ _ (hrd243) (by omega)) dX3_regattaLine_88 rfl ?_
      refine g_iload_n dX3_regattaLine_91 3 rfl ?_
      refine gh_put (f2 := ob [.int r234, .int r236, .int (P.fr 2), .int (P.fr 3), .int (P.fr 4), .int (P.fr 8), .int (P.fr 9), .ref (E.rg + 1), .ref (E.rg + 2), .ref (E.rg + 3), .ref (E.rg + 4), .ref (E.rg + 5)]) f_4_1 q298 (c244) (by omega) dX3_regattaLine_92 rfl rfl (ob_u [.int r234, .int (P.fr 1), .int (P.fr 2), .int (P.fr 3), .int (P.fr 4), .int (P.fr 8), .int (P.fr 9), .ref (E.rg + 1), .ref (E.rg + 2), .ref (E.rg + 3), .ref (E.rg + 4), .ref (E.rg + 5)] 1 (.int r236) (Nat.le_of_ble_eq_true rfl)) ?_
      refine wp_put F244 (fun q => by first | exact absurd q (by omega) | exact Or.inl rfl | exact Or.inr rfl | exact Or.inr (Or.inl rfl) | exact Or.inr (Or.inr rfl) | exact Or.inr ⟨rfl, by omega⟩ | exact rfl | (simp only []; omega)) (c244) (by omega) (fun u245 F245 z245 c245 k245 => ?_)
      refine g_aload_n dX3_regattaLine_95 5 rfl ?_
      refine gh_get (x := .ref E.rg) f_2_1 q579 (k245 _ _ (k244 _ _ (hrd243) (by omega)) (by omega)) dX3_regattaLine_96 rfl ?_
      refine g_iload_n dX3_regattaLine_99 2 rfl ?_
      refine gh_put (f2 := ob [.int r234, .int r236, .int r238, .int (P.fr 3), .int (P.fr 4), .int (P.fr 8), .int (P.fr 9), .ref (E.rg + 1), .ref (E.rg + 2), .ref (E.rg + 3), .ref (E.rg + 4), .ref (E.rg + 5)]) f_4_2 q301 (c245) (by omega) dX3_regattaLine_100 rfl rfl (ob_u [.int r234, .int r236, .int (P.fr 2), .int (P.fr 3), .int (P.fr 4), .int (P.fr 8), .int (P.fr 9), .ref (E.rg + 1), .ref (E.rg + 2), .ref (E.rg + 3), .ref (E.rg + 4), .ref (E.rg + 5)] 2 (.int r238) (Nat.le_of_ble_eq_true rfl)) ?_
      refine wp_put F245 (fun q => by first | exact absurd q (by omega) | exact Or.inl rfl | exact Or.inr rfl | exact Or.inr (Or.inl rfl) | exact Or.inr (Or.inr rfl) | exact Or.inr ⟨rfl, by omega⟩ | exact rfl | (simp only []; omega)) (c245) (by omega) (fun u246 F246 z246 c246 k246 => ?_)
      refine g_aload_n dX3_regattaLine_103 5 rfl ?_
      refine gh_get (x := .ref E.rg) f_2_1 q579 (k246 _ _ (k245 _ _ (k244 _ _ (hrd243) (by omega)) (by omega)) (by omega)) dX3_regattaLine_104 rfl ?_
      refine g_iload dX3_regattaLine_107 1 rfl ?_
      refine gh_put (f2 := ob [.int r234, .int r236, .int r238, .int r240, .int (P.fr 4), .int (P.fr 8), .int (P.fr 9), .ref (E.rg + 1), .ref (E.rg + 2), .ref (E.rg + 3), .ref (E.rg + 4), .ref (E.rg + 5)]) f_4_3 q303 (c246) (by omega) dX3_regattaLine_109 rfl rfl (ob_u [.int r234, .int r236, .int r238, .int (P.fr 3), .int (P.fr 4), .int (P.fr 8), .int (P.fr 9), .ref (E.rg + 1), .ref (E.rg + 2), .ref (E.rg + 3), .ref (E.rg + 4), .ref (E.rg + 5)] 3 (.int r240) (Nat.le_of_ble_eq_true rfl)) ?_
      refine wp_put F246 (fun q => by first | exact absurd q (by omega) | exact Or.inl rfl | exact Or.inr rfl | exact Or.inr (Or.inl rfl) | exact Or.inr (Or.inr rfl) | exact Or.inr ⟨rfl, by omega⟩ | exact rfl | (simp only []; omega)) (c246) (by omega) (fun u247 F247 z247 c247 k247 => ?_)
      refine g_aload_n dX3_regattaLine_112 5 rfl ?_
      refine gh_get (x := .ref E.rg) f_2_1 q579 (k247 _ _ (k246 _ _ (k245 _ _ (k244 _ _ (hrd243) (by omega)) (by omega)) (by omega)) (by omega)) dX3_regattaLine_113 rfl ?_
      refine g_iload dX3_regattaLine_116 0 rfl ?_
      refine gh_put (f2 := ob [.int r234, .int r236, .int r238, .int r240, .int r242, .int (P.fr 8), .int (P.fr 9), .ref (E.rg + 1), .ref (E.rg + 2), .ref (E.rg + 3), .ref (E.rg + 4), .ref (E.rg + 5)]) f_4_4 q306 (c247) (by omega) dX3_regattaLine_118 rfl rfl (ob_u [.int r234, .int r236, .int r238, .int r240, .int (P.fr 4), .int (P.fr 8), .int (P.fr 9), .ref (E.rg + 1), .ref (E.rg + 2), .ref (E.rg + 3), .ref (E.rg + 4), .ref (E.rg + 5)] 4 (.int r242) (Nat.le_of_ble_eq_true rfl)) ?_
      refine wp_put F247 (fun q => by first | exact absurd q (by omega) | exact Or.inl rfl | exact Or.inr rfl | exact Or.inr (Or.inl rfl) | exact Or.inr (Or.inr rfl) | exact Or.inr ⟨rfl, by omega⟩ | exact rfl | (simp only []; omega)) (c247) (by omega) (fun u248 F248 z248 c248 k248 => ?_)
      refine g_vret rfl dX3_regattaLine_121 ?_
      obtain ⟨f4, f3, f2, f1, f0⟩ := re_f qS0 qS1 qS2 qS3 qS4 qS5 hov
      have fr9 := re_fr qS0 qS1 qS2 qS3 qS4 qS5 hov
      have e0 : (reL E.t E.n P).fr 0 = r234 := by rw [fr9, if_pos rfl]; exact (hr234 (by rw [← qS1]; exact f1)).symm
      have e1 : (reL E.t E.n P).fr 1 = r236 := by rw [fr9, if_neg (by omega), if_neg (by omega), if_neg (by omega), if_neg (by omega), if_pos rfl]; exact (hr236 (by have q := f2; rw [qS2] at q; exact q)).symm
      have e2 : (reL E.t E.n P).fr 2 = r238 := by rw [fr9, if_neg (by omega), if_neg (by omega), if_neg (by omega), if_pos rfl]; exact (hr238 (by have q := f3; rw [qS3] at q; exact q)).symm
      have e3 : (reL E.t E.n P).fr 3 = r240 := by rw [fr9, if_neg (by omega), if_neg (by omega), if_pos rfl]; exact (hr240 (by have q := f4; rw [qS4] at q; exact q)).symm
      have e4 : (reL E.t E.n P).fr 4 = r242 := by rw [fr9, if_neg (by omega), if_pos rfl]; exact (hr242 (by have q := hov; rw [qS5] at q; exact q)).symm
      have same : ∀ q, 5 ≤ q → (reL E.t E.n P).fr q = P.fr q := fun q hq => by rw [fr9, if_neg (by omega), if_neg (by omega), if_neg (by omega), if_neg (by omega), if_neg (by omega)]
      obtain ⟨c2, Y2, kp2, mx2⟩ := px_gen (⟨_, _, _, _, _, _, X243⟩ : PX Δ E L h242 c0 S5) (F248.le (by omega) (by omega) (fun _ _ q => q)) (fun b x q z => by
        exact tgW R5 q z (hsub243 _ _ G.1) ⟨by show 4 ≠ 2; omega, by show 4 ≠ 3; omega, by show 4 ≠ 5; omega, by show 4 ≠ 16; omega, by show 4 ≠ 102; omega⟩)
      refine lnq_mk (c1 := c2) (px_re qS0 qS1 qS2 qS3 qS4 qS5 (lnq_m 1 Y2)) (fun b x hb q => kp2 b x q (fun z => by have z : b = E.rg := z; omega)) ⟨EL, cp, cnt, el, gp_keep G kp2 (fun b x q z => tgW R4 q z (G.1) ⟨by show 4 ≠ 14; omega, by show 4 ≠ 103; omega, by show 4 ≠ 16; omega, by show 4 ≠ 102; omega⟩) ?_ ?_ ⟨same 5 (by omega), same 6 (by omega), same 7 (by omega), same 10 (by omega)⟩ (fun j i hj hi => ⟨fun z => ?_, fun _ q hq => same q (by unfold uE at hq; omega)⟩) (fun l h1 h2 => by rw [same _ (by omega), same _ (by omega)]; exact G.2.2.2.2.2.2.2 l h1 h2)⟩
      · unfold rgO
        rw [e0, e1, e2, e3, e4, same 8 (by omega), same 9 (by omega)]
        exact mx2 _ _ (c248) (by show 4 ≠ 2; omega) (by show 4 ≠ 3; omega) (by show 4 ≠ 16; omega)
      · obtain ⟨pf, np_, g1, g2, g3, g4⟩ := G.2.1
        exact ⟨pf, np_, kp2 _ _ g1 (fun z => by have z : E.rg + 1 = E.rg := z; omega), (same 9 (by omega)).trans g2, g3, fun i hi => (g4 i hi).trans (same _ (by omega)).symm⟩
      · obtain ⟨x0, p1, p2, p3⟩ := el_tag (G.2.2.2.2.2.1 j hj i hi)
        have z : el j i = E.rg := z
        have := tgW (fun t => t = 4) p1 z G.1 rfl
        omega
    ·
      have hov := ov_t c_2
      refine g_vret rfl dX3_regattaLine_78 ?_
      exact lnq_no (c1 := c0) (px_re qS0 qS1 qS2 qS3 qS4 qS5 (lnq_m 2 ⟨_, _, _, _, _, _, X243⟩)) (fun b x _ q => q) (re_nf qS0 qS1 qS2 qS3 qS4 qS5 hov) ⟨_, _, _, _, _, G⟩
  ·
    have hR : wgP 3 P.a P = reW P := (if_neg c_1).symm
    refine g_aload_n dX3_regattaLine_10 0 rfl ?_
    refine g_iconst (x := 3) dX3_regattaLine_11 rfl ?_
    refine g_callV (t_X3_wrong _ EK (⟨_, _, _, _, _, _, X0⟩) 3 (by decide)) (lw_V q678 q680 qs4 q129 q681) okX3_wrong (hrd0) rfl rfl rfl rfl (Nat.le_of_ble_eq_true rfl) dX3_regattaLine_12 (fun v1 h249 _ _ hq => ?_)
    obtain ⟨rfl, Y249⟩ := hq
    show wp Δ (d + 10) muX3_regattaLine 15 [(0, .ref E.rd)] [] h249 _
    obtain ⟨w249, now249, e249, ft249, fp249, Q249, X249⟩ := id Y249
    obtain ⟨hrd249, htk249, T249, ⟨he249, hQe249, hen249, hkk249⟩, hst249, hro249, hsub249, hcr249, hct249, hcp249, hcw249⟩ := id X249
    obtain ⟨num249, z249, le249, hnow249, S249, h3_249, h2_249⟩ := id T249
    obtain ⟨b249, sh249, sz249, B249⟩ := id S249
    refine g_aload_n dX3_regattaLine_15 0 rfl ?_
    refine g_callV (t_X3_on _ EK (⟨_, _, _, _, _, _, X249⟩)) (lw_V q686 q688 qs6 q129 q689) okX3_on (hrd249) rfl rfl rfl rfl (Nat.le_of_ble_eq_true rfl) dX3_regattaLine_16 (fun v1 h250 _ _ hq => ?_)
    obtain ⟨rfl, Y250⟩ := hq
    show wp Δ (d + 10) muX3_regattaLine 19 [(0, .ref E.rd)] [] h250 _
    obtain ⟨w250, now250, e250, ft250, fp250, Q250, X250⟩ := id Y250
    obtain ⟨hrd250, htk250, T250, ⟨he250, hQe250, hen250, hkk250⟩, hst250, hro250, hsub250, hcr250, hct250, hcp250, hcw250⟩ := id X250
    obtain ⟨num250, z250, le250, hnow250, S250, h3_250, h2_250⟩ := id T250
    obtain ⟨b250, sh250, sz250, B250⟩ := id S250
    obtain ⟨S0, qS0⟩ : ∃ S : Pk, S = paP E.t E.n (reW P) := ⟨_, rfl⟩
    have ZS0 : PX Δ E L h250 c0 S0 := by rw [qS0]; exact (by rw [← hR]; exact Y250)
    obtain ⟨w251, now251, e251, ft251, fp251, Q251, X251⟩ := id ZS0
    obtain ⟨hrd251, htk251, T251, ⟨he251, hQe251, hen251, hkk251⟩, hst251, hro251, hsub251, hcr251, hct251, hcp251, hcw251⟩ := id X251
    obtain ⟨num251, z251, le251, hnow251, S251, h3_251, h2_251⟩ := id T251
    obtain ⟨b251, sh251, sz251, B251⟩ := id S251
    refine g_aload_n dX3_regattaLine_19 0 rfl ?_
    refine g_ldcS (tx := "water") (i := 23) (by decide +kernel) dX3_regattaLine_20 ?_
    refine g_iconst (x := 1) dX3_regattaLine_22 rfl ?_
    refine g_bipush (x := 20) dX3_regattaLine_23 rfl ?_
    refine g_callV (t_X3_part _ EK (⟨_, _, _, _, _, _, X251⟩) 23 (by decide) 1 20) (lw_V q691 q693 qs7 q129 q694) okX3_part (hrd251) rfl rfl rfl rfl (Nat.le_of_ble_eq_true rfl) dX3_regattaLine_25 (fun v1 h252 _ _ hq => ?_)
    obtain ⟨r252, rfl, hr252, Y252⟩ := hq
    show wp Δ (d + 10) muX3_regattaLine 28 [(0, .ref E.rd)] [.int r252] h252 _
    obtain ⟨w252, now252, e252, ft252, fp252, Q252, X252⟩ := id Y252
    obtain ⟨hrd252, htk252, T252, ⟨he252, hQe252, hen252, hkk252⟩, hst252, hro252, hsub252, hcr252, hct252, hcp252, hcw252⟩ := id X252
    obtain ⟨num252, z252, le252, hnow252, S252, h3_252, h2_252⟩ := id T252
    obtain ⟨b252, sh252, sz252, B252⟩ := id S252
    obtain ⟨S1, qS1⟩ : ∃ S : Pk, S = afP E.t E.n 23 1 20 S0 := ⟨_, rfl⟩
    have ZS1 : PX Δ E L h252 c0 S1 := by rw [qS1]; exact Y252
    obtain ⟨w253, now253, e253, ft253, fp253, Q253, X253⟩ := id ZS1
    obtain ⟨hrd253, htk253, T253, ⟨he253, hQe253, hen253, hkk253⟩, hst253, hro253, hsub253, hcr253, hct253, hcp253, hcw253⟩ := id X253
    obtain ⟨num253, z253, le253, hnow253, S253, h3_253, h2_253⟩ := id T253
    obtain ⟨b253, sh253, sz253, B253⟩ := id S253
    refine g_istore_n (lv' := [(1, .int r252), (0, .ref E.rd)]) dX3_regattaLine_28 (by decide) rfl ?_
    refine g_aload_n dX3_regattaLine_29 1 rfl ?_
    refine g_ldcS (tx := "bridge") (i := 3) (by decide +kernel) dX3_regattaLine_30 ?_
    refine g_iconst (x := 1) dX3_regattaLine_32 rfl ?_
    refine g_bipush (x := 6) dX3_regattaLine_33 rfl ?_
    refine g_callV (t_X3_part _ EK (⟨_, _, _, _, _, _, X253⟩) 3 (by decide) 1 6) (lw_V q691 q693 qs7 q129 q694) okX3_part (hrd253) rfl rfl rfl rfl (Nat.le_of_ble_eq_true rfl) dX3_regattaLine_35 (fun v1 h254 _ _ hq => ?_)
    obtain ⟨r254, rfl, hr254, Y254⟩ := hq
    show wp Δ (d + 10) muX3_regattaLine 38 [(1, .int r252), (0, .ref E.rd)] [.int r254] h254 _
    obtain ⟨w254, now254, e254, ft254, fp254, Q254, X254⟩ := id Y254
    obtain ⟨hrd254, htk254, T254, ⟨he254, hQe254, hen254, hkk254⟩, hst254, hro254, hsub254, hcr254, hct254, hcp254, hcw254⟩ := id X254
    obtain ⟨num254, z254, le254, hnow254, S254, h3_254, h2_254⟩ := id T254
    obtain ⟨b254, sh254, sz254, B254⟩ := id S254
    obtain ⟨S2, qS2⟩ : ∃ S : Pk, S = stA E.t E.n 3 (1) 1 6 S1 := ⟨_, rfl⟩
    have ZS2 : PX Δ E L h254 c0 S2 := by rw [qS2]; exact px_sf Y254
    obtain ⟨w255, now255, e255, ft255, fp255, Q255, X255⟩ := id ZS2
    obtain ⟨hrd255, htk255, T255, ⟨he255, hQe255, hen255, hkk255⟩, hst255, hro255, hsub255, hcr255, hct255, hcp255, hcw255⟩ := id X255
    obtain ⟨num255, z255, le255, hnow255, S255, h3_255, h2_255⟩ := id T255
    obtain ⟨b255, sh255, sz255, B255⟩ := id S255
    refine g_istore_n (lv' := [(2, .int r254), (1, .int r252), (0, .ref E.rd)]) dX3_regattaLine_38 (by decide) rfl ?_
    refine g_aload_n dX3_regattaLine_39 2 rfl ?_
    refine g_ldcS (tx := "storey") (i := 18) (by decide +kernel) dX3_regattaLine_40 ?_
    refine g_iconst (x := 0) dX3_regattaLine_42 rfl ?_
    refine g_bipush (x := 30) dX3_regattaLine_43 rfl ?_
    refine g_callV (t_X3_part _ EK (⟨_, _, _, _, _, _, X255⟩) 18 (by decide) 0 30) (lw_V q691 q693 qs7 q129 q694) okX3_part (hrd255) rfl rfl rfl rfl (Nat.le_of_ble_eq_true rfl) dX3_regattaLine_45 (fun v1 h256 _ _ hq => ?_)
    obtain ⟨r256, rfl, hr256, Y256⟩ := hq
    show wp Δ (d + 10) muX3_regattaLine 48 [(2, .int r254), (1, .int r252), (0, .ref E.rd)] [.int r256] h256 _
    obtain ⟨w256, now256, e256, ft256, fp256, Q256, X256⟩ := id Y256
    obtain ⟨hrd256, htk256, T256, ⟨he256, hQe256, hen256, hkk256⟩, hst256, hro256, hsub256, hcr256, hct256, hcp256, hcw256⟩ := id X256
    obtain ⟨num256, z256, le256, hnow256, S256, h3_256, h2_256⟩ := id T256
    obtain ⟨b256, sh256, sz256, B256⟩ := id S256
    obtain ⟨S3, qS3⟩ : ∃ S : Pk, S = stA E.t E.n 18 (2) 0 30 S2 := ⟨_, rfl⟩
    have ZS3 : PX Δ E L h256 c0 S3 := by rw [qS3]; exact px_sf Y256
    obtain ⟨w257, now257, e257, ft257, fp257, Q257, X257⟩ := id ZS3
    obtain ⟨hrd257, htk257, T257, ⟨he257, hQe257, hen257, hkk257⟩, hst257, hro257, hsub257, hcr257, hct257, hcp257, hcw257⟩ := id X257
    obtain ⟨num257, z257, le257, hnow257, S257, h3_257, h2_257⟩ := id T257
    obtain ⟨b257, sh257, sz257, B257⟩ := id S257
    refine g_istore_n (lv' := [(3, .int r256), (2, .int r254), (1, .int r252), (0, .ref E.rd)]) dX3_regattaLine_48 (by decide) rfl ?_
    refine g_aload_n dX3_regattaLine_49 3 rfl ?_
    refine g_ldcS (tx := "rain") (i := 13) (by decide +kernel) dX3_regattaLine_50 ?_
    refine g_iconst (x := 0) dX3_regattaLine_52 rfl ?_
    refine g_bipush (x := 100) dX3_regattaLine_53 rfl ?_
    refine g_callV (t_X3_part _ EK (⟨_, _, _, _, _, _, X257⟩) 13 (by decide) 0 100) (lw_V q691 q693 qs7 q129 q694) okX3_part (hrd257) rfl rfl rfl rfl (Nat.le_of_ble_eq_true rfl) dX3_regattaLine_55 (fun v1 h258 _ _ hq => ?_)
    obtain ⟨r258, rfl, hr258, Y258⟩ := hq
    show wp Δ (d + 10) muX3_regattaLine 58 [(3, .int r256), (2, .int r254), (1, .int r252), (0, .ref E.rd)] [.int r258] h258 _
    obtain ⟨w258, now258, e258, ft258, fp258, Q258, X258⟩ := id Y258
    obtain ⟨hrd258, htk258, T258, ⟨he258, hQe258, hen258, hkk258⟩, hst258, hro258, hsub258, hcr258, hct258, hcp258, hcw258⟩ := id X258
    obtain ⟨num258, z258, le258, hnow258, S258, h3_258, h2_258⟩ := id T258
    obtain ⟨b258, sh258, sz258, B258⟩ := id S258
    obtain ⟨S4, qS4⟩ : ∃ S : Pk, S = stA E.t E.n 13 (3) 0 100 S3 := ⟨_, rfl⟩
    have ZS4 : PX Δ E L h258 c0 S4 := by rw [qS4]; exact px_sf Y258
    obtain ⟨w259, now259, e259, ft259, fp259, Q259, X259⟩ := id ZS4
    obtain ⟨hrd259, htk259, T259, ⟨he259, hQe259, hen259, hkk259⟩, hst259, hro259, hsub259, hcr259, hct259, hcp259, hcw259⟩ := id X259
    obtain ⟨num259, z259, le259, hnow259, S259, h3_259, h2_259⟩ := id T259
    obtain ⟨b259, sh259, sz259, B259⟩ := id S259
    refine g_istore (lv' := [(4, .int r258), (3, .int r256), (2, .int r254), (1, .int r252), (0, .ref E.rd)]) dX3_regattaLine_58 (by decide) rfl ?_
    refine g_aload_n dX3_regattaLine_60 4 rfl ?_
    refine g_ldcS (tx := "by") (i := 4) (by decide +kernel) dX3_regattaLine_61 ?_
    refine g_iconst (x := 0) dX3_regattaLine_63 rfl ?_
    refine g_bipush (x := 9) dX3_regattaLine_64 rfl ?_
    refine g_callV (t_X3_part _ EK (⟨_, _, _, _, _, _, X259⟩) 4 (by decide) 0 9) (lw_V q691 q693 qs7 q129 q694) okX3_part (hrd259) rfl rfl rfl rfl (Nat.le_of_ble_eq_true rfl) dX3_regattaLine_66 (fun v1 h260 _ _ hq => ?_)
    obtain ⟨r260, rfl, hr260, Y260⟩ := hq
    show wp Δ (d + 10) muX3_regattaLine 69 [(4, .int r258), (3, .int r256), (2, .int r254), (1, .int r252), (0, .ref E.rd)] [.int r260] h260 _
    obtain ⟨w260, now260, e260, ft260, fp260, Q260, X260⟩ := id Y260
    obtain ⟨hrd260, htk260, T260, ⟨he260, hQe260, hen260, hkk260⟩, hst260, hro260, hsub260, hcr260, hct260, hcp260, hcw260⟩ := id X260
    obtain ⟨num260, z260, le260, hnow260, S260, h3_260, h2_260⟩ := id T260
    obtain ⟨b260, sh260, sz260, B260⟩ := id S260
    obtain ⟨S5, qS5⟩ : ∃ S : Pk, S = stA E.t E.n 4 (4) 0 9 S4 := ⟨_, rfl⟩
    have ZS5 : PX Δ E L h260 c0 S5 := by rw [qS5]; exact px_sf Y260
    obtain ⟨w261, now261, e261, ft261, fp261, Q261, X261⟩ := id ZS5
    obtain ⟨hrd261, htk261, T261, ⟨he261, hQe261, hen261, hkk261⟩, hst261, hro261, hsub261, hcr261, hct261, hcp261, hcw261⟩ := id X261
    obtain ⟨num261, z261, le261, hnow261, S261, h3_261, h2_261⟩ := id T261
    obtain ⟨b261, sh261, sz261, B261⟩ := id S261
    refine g_istore (lv' := [(5, .int r260), (4, .int r258), (3, .int r256), (2, .int r254), (1, .int r252), (0, .ref E.rd)]) dX3_regattaLine_69 (by decide) rfl ?_
    refine g_aload_n dX3_regattaLine_71 5 rfl ?_
    refine g_callV (t_X3_isOver _ (⟨_, _, _, _, _, _, X261⟩)) (lw_V q682 q684 qs5 q129 q685) okX3_isOver (hrd261) rfl rfl rfl rfl (Nat.le_of_ble_eq_true rfl) dX3_regattaLine_72 (fun v1 h1 _ _ hq => ?_)
    obtain ⟨rfl, hh⟩ := hq
    rw [hh]
    show wp Δ (d + 10) muX3_regattaLine 75 [(5, .int r260), (4, .int r258), (3, .int r256), (2, .int r254), (1, .int r252), (0, .ref E.rd)] [.int (bI (decide (¬ S5.f = 0)))] h260 _
    refine gb_eq (tgt := 79) dX3_regattaLine_75 (by decide) (fun c_3 => ?_) (fun c_3 => ?_)
    ·
      have hov := ov_f c_3
      refine g_aload_n dX3_regattaLine_79 5 rfl ?_
      refine gh_get (x := .ref E.rg) f_2_1 q579 (hrd261) dX3_regattaLine_80 rfl ?_
      refine g_iload_n dX3_regattaLine_83 4 rfl ?_
      refine gh_put (f2 := ob [.int r252, .int (P.fr 1), .int (P.fr 2), .int (P.fr 3), .int (P.fr 4), .int (P.fr 8), .int (P.fr 9), .ref (E.rg + 1), .ref (E.rg + 2), .ref (E.rg + 3), .ref (E.rg + 4), .ref (E.rg + 5)]) f_4_0 q296 (hsub261 _ _ (G.1)) (by omega) dX3_regattaLine_84 rfl rfl (ob_u [.int (P.fr 0), .int (P.fr 1), .int (P.fr 2), .int (P.fr 3), .int (P.fr 4), .int (P.fr 8), .int (P.fr 9), .ref (E.rg + 1), .ref (E.rg + 2), .ref (E.rg + 3), .ref (E.rg + 4), .ref (E.rg + 5)] 0 (.int r252) (Nat.le_of_ble_eq_true rfl)) ?_
      refine wp_put (Fr.refl (fun b => b = E.rg) _) (fun q => by first | exact absurd q (by omega) | exact Or.inl rfl | exact Or.inr rfl | exact Or.inr (Or.inl rfl) | exact Or.inr (Or.inr rfl) | exact Or.inr ⟨rfl, by omega⟩ | exact rfl | (simp only []; omega)) (hsub261 _ _ (G.1)) (by omega) (fun u262 F262 z262 c262 k262 => ?_)
      refine g_aload_n dX3_regattaLine_87 5 rfl ?_
      refine gh_get (x := .ref E.rg) f_2_1 q579 (k262 _ _ (hrd261) (by omega)) dX3_regattaLine_88 rfl ?_
      refine g_iload_n dX3_regattaLine_91 3 rfl ?_
      refine gh_put (f2 := ob [.int r252, .int r254, .int (P.fr 2), .int (P.fr 3), .int (P.fr 4), .int (P.fr 8), .int (P.fr 9), .ref (E.rg + 1), .ref (E.rg + 2), .ref (E.rg + 3), .ref (E.rg + 4), .ref (E.rg + 5)]) f_4_1 q298 (c262) (by omega) dX3_regattaLine_92 rfl rfl (ob_u [.int r252, .int (P.fr 1), .int (P.fr 2), .int (P.fr 3), .int (P.fr 4), .int (P.fr 8), .int (P.fr 9), .ref (E.rg + 1), .ref (E.rg + 2), .ref (E.rg + 3), .ref (E.rg + 4), .ref (E.rg + 5)] 1 (.int r254) (Nat.le_of_ble_eq_true rfl)) ?_
      refine wp_put F262 (fun q => by first | exact absurd q (by omega) | exact Or.inl rfl | exact Or.inr rfl | exact Or.inr (Or.inl rfl) | exact Or.inr (Or.inr rfl) | exact Or.inr ⟨rfl, by omega⟩ | exact rfl | (simp only []; omega)) (c262) (by omega) (fun u263 F263 z263 c263 k263 => ?_)
      refine g_aload_n dX3_regattaLine_95 5 rfl ?_
      refine gh_get (x := .ref E.rg) f_2_1 q579 (k263 _ _ (k262 _ _ (hrd261) (by omega)) (by omega)) dX3_regattaLine_96 rfl ?_
      refine g_iload_n dX3_regattaLine_99 2 rfl ?_
      refine gh_put (f2 := ob [.int r252, .int r254, .int r256, .int (P.fr 3), .int (P.fr 4), .int (P.fr 8), .int (P.fr 9), .ref (E.rg + 1), .ref (E.rg + 2), .ref (E.rg + 3), .ref (E.rg + 4), .ref (E.rg + 5)]) f_4_2 q301 (c263) (by omega) dX3_regattaLine_100 rfl rfl (ob_u [.int r252, .int r254, .int (P.fr 2), .int (P.fr 3), .int (P.fr 4), .int (P.fr 8), .int (P.fr 9), .ref (E.rg + 1), .ref (E.rg + 2), .ref (E.rg + 3), .ref (E.rg + 4), .ref (E.rg + 5)] 2 (.int r256) (Nat.le_of_ble_eq_true rfl)) ?_
      refine wp_put F263 (fun q => by first | exact absurd q (by omega) | exact Or.inl rfl | exact Or.inr rfl | exact Or.inr (Or.inl rfl) | exact Or.inr (Or.inr rfl) | exact Or.inr ⟨rfl, by omega⟩ | exact rfl | (simp only []; omega)) (c263) (by omega) (fun u264 F264 z264 c264 k264 => ?_)
      refine g_aload_n dX3_regattaLine_103 5 rfl ?_
      refine gh_get (x := .ref E.rg) f_2_1 q579 (k264 _ _ (k263 _ _ (k262 _ _ (hrd261) (by omega)) (by omega)) (by omega)) dX3_regattaLine_104 rfl ?_
      refine g_iload dX3_regattaLine_107 1 rfl ?_
      refine gh_put (f2 := ob [.int r252, .int r254, .int r256, .int r258, .int (P.fr 4), .int (P.fr 8), .int (P.fr 9), .ref (E.rg + 1), .ref (E.rg + 2), .ref (E.rg + 3), .ref (E.rg + 4), .ref (E.rg + 5)]) f_4_3 q303 (c264) (by omega) dX3_regattaLine_109 rfl rfl (ob_u [.int r252, .int r254, .int r256, .int (P.fr 3), .int (P.fr 4), .int (P.fr 8), .int (P.fr 9), .ref (E.rg + 1), .ref (E.rg + 2), .ref (E.rg + 3), .ref (E.rg + 4), .ref (E.rg + 5)] 3 (.int r258) (Nat.le_of_ble_eq_true rfl)) ?_
      refine wp_put F264 (fun q => by first | exact absurd q (by omega) | exact Or.inl rfl | exact Or.inr rfl | exact Or.inr (Or.inl rfl) | exact Or.inr (Or.inr rfl) | exact Or.inr ⟨rfl, by omega⟩ | exact rfl | (simp only []; omega)) (c264) (by omega) (fun u265 F265 z265 c265 k265 => ?_)
      refine g_aload_n dX3_regattaLine_112 5 rfl ?_
      refine gh_get (x := .ref E.rg) f_2_1 q579 (k265 _ _ (k264 _ _ (k263 _ _ (k262 _ _ (hrd261) (by omega)) (by omega)) (by omega)) (by omega)) dX3_regattaLine_113 rfl ?_
      refine g_iload dX3_regattaLine_116 0 rfl ?_
      refine gh_put (f2 := ob [.int r252, .int r254, .int r256, .int r258, .int r260, .int (P.fr 8), .int (P.fr 9), .ref (E.rg + 1), .ref (E.rg + 2), .ref (E.rg + 3), .ref (E.rg + 4), .ref (E.rg + 5)]) f_4_4 q306 (c265) (by omega) dX3_regattaLine_118 rfl rfl (ob_u [.int r252, .int r254, .int r256, .int r258, .int (P.fr 4), .int (P.fr 8), .int (P.fr 9), .ref (E.rg + 1), .ref (E.rg + 2), .ref (E.rg + 3), .ref (E.rg + 4), .ref (E.rg + 5)] 4 (.int r260) (Nat.le_of_ble_eq_true rfl)) ?_
      refine wp_put F265 (fun q => by first | exact absurd q (by omega) | exact Or.inl rfl | exact Or.inr rfl | exact Or.inr (Or.inl rfl) | exact Or.inr (Or.inr rfl) | exact Or.inr ⟨rfl, by omega⟩ | exact rfl | (simp only []; omega)) (c265) (by omega) (fun u266 F266 z266 c266 k266 => ?_)
      refine g_vret rfl dX3_regattaLine_121 ?_
      obtain ⟨f4, f3, f2, f1, f0⟩ := re_f qS0 qS1 qS2 qS3 qS4 qS5 hov
      have fr9 := re_fr qS0 qS1 qS2 qS3 qS4 qS5 hov
      have e0 : (reL E.t E.n P).fr 0 = r252 := by rw [fr9, if_pos rfl]; exact (hr252 (by rw [← qS1]; exact f1)).symm
      have e1 : (reL E.t E.n P).fr 1 = r254 := by rw [fr9, if_neg (by omega), if_neg (by omega), if_neg (by omega), if_neg (by omega), if_pos rfl]; exact (hr254 (by have q := f2; rw [qS2] at q; exact q)).symm
      have e2 : (reL E.t E.n P).fr 2 = r256 := by rw [fr9, if_neg (by omega), if_neg (by omega), if_neg (by omega), if_pos rfl]; exact (hr256 (by have q := f3; rw [qS3] at q; exact q)).symm
      have e3 : (reL E.t E.n P).fr 3 = r258 := by rw [fr9, if_neg (by omega), if_neg (by omega), if_pos rfl]; exact (hr258 (by have q := f4; rw [qS4] at q; exact q)).symm
      have e4 : (reL E.t E.n P).fr 4 = r260 := by rw [fr9, if_neg (by omega), if_pos rfl]; exact (hr260 (by have q := hov; rw [qS5] at q; exact q)).symm
      have same : ∀ q, 5 ≤ q → (reL E.t E.n P).fr q = P.fr q := fun q hq => by rw [fr9, if_neg (by omega), if_neg (by omega), if_neg (by omega), if_neg (by omega), if_neg (by omega)]
      obtain ⟨c2, Y2, kp2, mx2⟩ := px_gen (⟨_, _, _, _, _, _, X261⟩ : PX Δ E L h260 c0 S5) (F266.le (by omega) (by omega) (fun _ _ q => q)) (fun b x q z => by
        exact tgW R5 q z (hsub261 _ _ G.1) ⟨by show 4 ≠ 2; omega, by show 4 ≠ 3; omega, by show 4 ≠ 5; omega, by show 4 ≠ 16; omega, by show 4 ≠ 102; omega⟩)
      refine lnq_mk (c1 := c2) (px_re qS0 qS1 qS2 qS3 qS4 qS5 (lnq_m 1 Y2)) (fun b x hb q => kp2 b x q (fun z => by have z : b = E.rg := z; omega)) ⟨EL, cp, cnt, el, gp_keep G kp2 (fun b x q z => tgW R4 q z (G.1) ⟨by show 4 ≠ 14; omega, by show 4 ≠ 103; omega, by show 4 ≠ 16; omega, by show 4 ≠ 102; omega⟩) ?_ ?_ ⟨same 5 (by omega), same 6 (by omega), same 7 (by omega), same 10 (by omega)⟩ (fun j i hj hi => ⟨fun z => ?_, fun _ q hq => same q (by unfold uE at hq; omega)⟩) (fun l h1 h2 => by rw [same _ (by omega), same _ (by omega)]; exact G.2.2.2.2.2.2.2 l h1 h2)⟩
      · unfold rgO
        rw [e0, e1, e2, e3, e4, same 8 (by omega), same 9 (by omega)]
        exact mx2 _ _ (c266) (by show 4 ≠ 2; omega) (by show 4 ≠ 3; omega) (by show 4 ≠ 16; omega)
      · obtain ⟨pf, np_, g1, g2, g3, g4⟩ := G.2.1
        exact ⟨pf, np_, kp2 _ _ g1 (fun z => by have z : E.rg + 1 = E.rg := z; omega), (same 9 (by omega)).trans g2, g3, fun i hi => (g4 i hi).trans (same _ (by omega)).symm⟩
      · obtain ⟨x0, p1, p2, p3⟩ := el_tag (G.2.2.2.2.2.1 j hj i hi)
        have z : el j i = E.rg := z
        have := tgW (fun t => t = 4) p1 z G.1 rfl
        omega
    ·
      have hov := ov_t c_3
      refine g_vret rfl dX3_regattaLine_78 ?_
      exact lnq_no (c1 := c0) (px_re qS0 qS1 qS2 qS3 qS4 qS5 (lnq_m 2 ⟨_, _, _, _, _, _, X261⟩)) (fun b x _ q => q) (re_nf qS0 qS1 qS2 qS3 qS4 qS5 hov) ⟨_, _, _, _, _, G⟩
set_option maxRecDepth 100000 in
theorem t_X3_prize {Δ : Cx} {h : Hp} (d : Nat) {E : Ev} {L : Nat} {c0 : Nat → Option Cel} {P : Pk} (EK : EOK Δ E) (X : PX Δ E L h c0 P) {EL cp cnt : Nat → Nat} {el : Nat → Nat → Nat} {np nf : Nat} (G : GP Δ E c0 P.fr EL cp cnt el) (I : LIq (cnt 0) (cnt 1) (cnt 2) (cnt 3) np nf 13 P.fr) (EO : eOk E.n P) (hi : isT 11 P = true) : mt Δ (d + 10) muX3_prize [.ref E.rd] h (LNQ Δ E L c0 (prL E.t E.n (beP E.t E.n 11 (cB P 9 4) P))) := by
  obtain ⟨w0, now0, e0, ft0, fp0, Q0, X0⟩ := id X
  obtain ⟨hrd0, htk0, T0, ⟨he0, hQe0, hen0, hkk0⟩, hst0, hro0, hsub0, hcr0, hct0, hcp0, hcw0⟩ := id X0
  obtain ⟨num0, z0, le0, hnow0, S0, h3_0, h2_0⟩ := id T0
  obtain ⟨b0, sh0, sz0, B0⟩ := id S0
  have hnrg : n0 Δ ≤ E.rg := EK.2.2.2.2.2.2
  have lrg := ce_lt (hsub0 _ _ G.1)
  have ned : E.rd ≠ E.rg := tg_ne hrd0 (hsub0 _ _ G.1) (by show 2 ≠ 4; omega)
  obtain ⟨gpf, gnp, gp1_, gp2, gp3, gp4_⟩ := id G.2.1
  have gnpe : gnp = np := (nI_eq (by omega) (by have := I.1; omega)).mp (gp2.symm.trans I.2.1.2.2.2.2.1)
  subst gnpe
  have ned2 : E.rd ≠ E.rg + 1 := tg_ne hrd0 (hsub0 _ _ gp1_) (by show 2 ≠ 100; omega)
  refine mt_of (lv0 := [(0, .ref E.rd)]) rfl rfl (Nat.le_of_ble_eq_true rfl) rfl ?_
  refine g_aload_n dX3_prize_0 0 rfl ?_
  refine g_aload_n dX3_prize_1 0 rfl ?_
  refine gh_get (x := .ref E.rg) f_2_1 q579 (hrd0) dX3_prize_2 rfl ?_
  refine gh_get (x := .int (P.fr 9)) f_4_6 q311 (hsub0 _ _ (G.1)) dX3_prize_5 rfl ?_
  refine g_iconst (x := 4) dX3_prize_8 rfl ?_
  refine g_callV (t_X3_begins _ EK (⟨_, _, _, _, _, _, X0⟩) (G.1) rfl (P.fr 9) 4) (lw_V q721 q723 qs11 q129 q724) okX3_begins (hrd0) rfl rfl rfl rfl (Nat.le_of_ble_eq_true rfl) dX3_prize_9 (fun v1 h267 _ _ hq => ?_)
  obtain ⟨rfl, Y267⟩ := hq
  show wp Δ (d + 10) muX3_prize 12 [(0, .ref E.rd)] [] h267 _
  obtain ⟨w267, now267, e267, ft267, fp267, Q267, X267⟩ := id Y267
  obtain ⟨hrd267, htk267, T267, ⟨he267, hQe267, hen267, hkk267⟩, hst267, hro267, hsub267, hcr267, hct267, hcp267, hcw267⟩ := id X267
  obtain ⟨num267, z267, le267, hnow267, S267, h3_267, h2_267⟩ := id T267
  obtain ⟨b267, sh267, sz267, B267⟩ := id S267
  have hnp : P.fr 9 = nI gnp := I.2.1.2.2.2.2.1
  have eP : paP E.t E.n (beC (decide (¬ P.fr 9 = 4)) P) = beP E.t E.n 11 (cB P 9 4) P := by unfold beP; rw [if_pos hi]; exact congrArg (fun b => paP E.t E.n (beC b P)) (by rw [hnp]; exact cb_eq (m := 4) (by have := I.1; omega) (by omega) hnp)
  obtain ⟨P1, hP1⟩ : ∃ S : Pk, S = beP E.t E.n 11 (cB P 9 4) P := ⟨_, rfl⟩
  have Z1 : PX Δ E L h267 c0 P1 := by rw [hP1, ← eP]; exact Y267
  have hfr : P1.fr = P.fr := by rw [hP1]; exact fr_be
  have G1 : GP Δ E c0 P1.fr EL cp cnt el := by rw [hfr]; exact G
  have I1 : LIq (cnt 0) (cnt 1) (cnt 2) (cnt 3) gnp nf 13 P1.fr := by rw [hfr]; exact I
  have EO1 : eOk E.n P1 := by rw [hP1]; exact eOk_be EK.1 EO
  obtain ⟨w268, now268, e268, ft268, fp268, Q268, X268⟩ := id Z1
  obtain ⟨hrd268, htk268, T268, ⟨he268, hQe268, hen268, hkk268⟩, hst268, hro268, hsub268, hcr268, hct268, hcp268, hcw268⟩ := id X268
  obtain ⟨num268, z268, le268, hnow268, S268, h3_268, h2_268⟩ := id T268
  obtain ⟨b268, sh268, sz268, B268⟩ := id S268
  refine g_aload_n dX3_prize_12 0 rfl ?_
  refine g_iconst (x := 0) dX3_prize_13 rfl ?_
  refine g_bipush (x := 99) dX3_prize_14 rfl ?_
  refine g_callV (t_X3_whole _ EK (⟨_, _, _, _, _, _, X268⟩) 0 99) (lw_V q704 q706 qs9 q129 q707) okX3_whole (hrd268) rfl rfl rfl rfl (Nat.le_of_ble_eq_true rfl) dX3_prize_16 (fun v1 h269 _ _ hq => ?_)
  obtain ⟨r269, rfl, hr269, Y269⟩ := hq
  show wp Δ (d + 10) muX3_prize 19 [(0, .ref E.rd)] [.int r269] h269 _
  obtain ⟨w269, now269, e269, ft269, fp269, Q269, X269⟩ := id Y269
  obtain ⟨hrd269, htk269, T269, ⟨he269, hQe269, hen269, hkk269⟩, hst269, hro269, hsub269, hcr269, hct269, hcp269, hcw269⟩ := id X269
  obtain ⟨num269, z269, le269, hnow269, S269, h3_269, h2_269⟩ := id T269
  obtain ⟨b269, sh269, sz269, B269⟩ := id S269
  obtain ⟨S1, qS1⟩ : ∃ S : Pk, S = nuP E.t E.n 0 99 P1 := ⟨_, rfl⟩
  have ZS1 : PX Δ E L h269 c0 S1 := by rw [qS1]; exact Y269
  obtain ⟨w270, now270, e270, ft270, fp270, Q270, X270⟩ := id ZS1
  obtain ⟨hrd270, htk270, T270, ⟨he270, hQe270, hen270, hkk270⟩, hst270, hro270, hsub270, hcr270, hct270, hcp270, hcw270⟩ := id X270
  obtain ⟨num270, z270, le270, hnow270, S270, h3_270, h2_270⟩ := id T270
  obtain ⟨b270, sh270, sz270, B270⟩ := id S270
  refine g_istore_n (lv' := [(1, .int r269), (0, .ref E.rd)]) dX3_prize_19 (by decide) rfl ?_
  refine g_aload_n dX3_prize_20 1 rfl ?_
  refine g_callV (t_X3_isOver _ (⟨_, _, _, _, _, _, X270⟩)) (lw_V q682 q684 qs5 q129 q685) okX3_isOver (hrd270) rfl rfl rfl rfl (Nat.le_of_ble_eq_true rfl) dX3_prize_21 (fun v1 h1 _ _ hq => ?_)
  obtain ⟨rfl, hh⟩ := hq
  rw [hh]
  show wp Δ (d + 10) muX3_prize 24 [(1, .int r269), (0, .ref E.rd)] [.int (bI (decide (¬ S1.f = 0)))] h269 _
  refine gb_eq (tgt := 28) dX3_prize_24 (by decide) (fun c_1 => ?_) (fun c_1 => ?_)
  ·
    have hov := ov_f c_1
    have fP1 : P1.f = 0 := f_nu (t := E.t) (n := E.n) (lo := 0) (hi := 99) (by rw [← qS1]; exact hov)
    have gp1 := gp1_
    have gp4 : ∀ i, i < gnp → gpf i = P1.fr (55 + i) := by rw [hfr]; exact gp4_
    have h4 : gnp < 4 := by
      have qb : (beP E.t E.n 11 (cB P 9 4) P).f = 0 := by rw [← hP1]; exact fP1
      exact cB_ltI (c := 4) 4 rfl (be_ok hi qb).1 gp2 (by omega) (by omega)
    refine g_aload_n dX3_prize_28 1 rfl ?_
    refine gh_get (x := .ref E.rg) f_2_1 q579 (hrd270) dX3_prize_29 rfl ?_
    refine gh_get (x := .ref (E.rg + 1)) f_4_7 q315 (hsub270 _ _ (G.1)) dX3_prize_32 rfl ?_
    refine g_aload_n dX3_prize_35 1 rfl ?_
    refine gh_get (x := .ref E.rg) f_2_1 q579 (hrd270) dX3_prize_36 rfl ?_
    refine gh_get (x := .int (P.fr 9)) f_4_6 q311 (hsub270 _ _ (G.1)) dX3_prize_39 rfl ?_
    refine wp_top (z := .int (nI gnp)) (congrArg Value.int (gp2)) ?_
    refine g_iload_n dX3_prize_42 0 rfl ?_
    refine gw_iast (j := gnp) (hsub270 _ _ (gp1_)) (by omega) (rfl) (by omega) (by omega) dX3_prize_43 ?_
    refine wp_put (Fr.refl (fun b => b = E.rg ∨ b = E.rg + 1) _) (fun q => by first | exact absurd q (by omega) | exact Or.inl rfl | exact Or.inr rfl | exact Or.inr (Or.inl rfl) | exact Or.inr (Or.inr rfl) | exact Or.inr ⟨rfl, by omega⟩ | exact rfl | (simp only []; omega)) (hsub270 _ _ (gp1_)) (by omega) (fun u271 F271 z271 c271 k271 => ?_)
    refine g_aload_n dX3_prize_44 1 rfl ?_
    refine gh_get (x := .ref E.rg) f_2_1 q579 (k271 _ _ (hrd270) (by omega)) dX3_prize_45 rfl ?_
    refine g_dup dX3_prize_48 rfl ?_
    refine gh_get (x := .int (P.fr 9)) f_4_6 q311 (k271 _ _ (hsub270 _ _ (G.1)) (by omega)) dX3_prize_49 rfl ?_
    refine g_iconst (x := 1) dX3_prize_52 rfl ?_
    refine g_iadd dX3_prize_53 ?_
    refine gh_put (f2 := ob [.int (P.fr 0), .int (P.fr 1), .int (P.fr 2), .int (P.fr 3), .int (P.fr 4), .int (P.fr 8), .int ((P.fr 9) + 1), .ref (E.rg + 1), .ref (E.rg + 2), .ref (E.rg + 3), .ref (E.rg + 4), .ref (E.rg + 5)]) f_4_6 q311 (k271 _ _ (hsub270 _ _ (G.1)) (by omega)) (by omega) dX3_prize_54 rfl rfl (ob_u [.int (P.fr 0), .int (P.fr 1), .int (P.fr 2), .int (P.fr 3), .int (P.fr 4), .int (P.fr 8), .int (P.fr 9), .ref (E.rg + 1), .ref (E.rg + 2), .ref (E.rg + 3), .ref (E.rg + 4), .ref (E.rg + 5)] 6 (.int ((P.fr 9) + 1)) (Nat.le_of_ble_eq_true rfl)) ?_
    refine wp_put F271 (fun q => by first | exact absurd q (by omega) | exact Or.inl rfl | exact Or.inr rfl | exact Or.inr (Or.inl rfl) | exact Or.inr (Or.inr rfl) | exact Or.inr ⟨rfl, by omega⟩ | exact rfl | (simp only []; omega)) (k271 _ _ (hsub270 _ _ (G.1)) (by omega)) (by omega) (fun u272 F272 z272 c272 k272 => ?_)
    refine g_vret rfl dX3_prize_57 ?_
    have eL : prL E.t E.n P1 = icP 9 (sfP (55 + gnp) (nuV 0 99 P1) S1) := by rw [qS1]; unfold prL; rw [if_pos (by rw [← qS1]; exact hov), I1.2.1.2.2.2.2.1, ix_nI (by omega)]
    have hfS : S1.fr = P1.fr := by rw [qS1]; exact fr_nu
    have fr9 : ∀ q, (prL E.t E.n P1).fr q = if q = 9 then P1.fr 9 + 1 else if q = 55 + gnp then r269 else P1.fr q := fun q => by
      rw [eL, show r269 = nuV 0 99 P1 from hr269 (by rw [← qS1]; exact hov)]
      show (if q = 9 then (if 9 = 55 + gnp then nuV 0 99 P1 else S1.fr 9) + 1 else (if q = 55 + gnp then nuV 0 99 P1 else S1.fr q)) = _
      rw [if_neg (show ¬ 9 = 55 + gnp by omega), hfS]
    have same : ∀ q, q ≠ 9 → q ≠ 55 + gnp → (prL E.t E.n P1).fr q = P1.fr q := fun q h1 h2 => by rw [fr9, if_neg h1, if_neg h2]
    obtain ⟨c2, Y2, kp2, mx2⟩ := px_gen (⟨_, _, _, _, _, _, X270⟩ : PX Δ E L h269 c0 S1) (F272.le (by omega) (by omega) (fun _ _ q => q)) (fun b x q z => by
      rcases z with z | z
      · exact tgW R5 q z (hsub270 _ _ G1.1) ⟨by show 4 ≠ 2; omega, by show 4 ≠ 3; omega, by show 4 ≠ 5; omega, by show 4 ≠ 16; omega, by show 4 ≠ 102; omega⟩
      · exact tgW R5 q z (hsub270 _ _ gp1) ⟨by show 100 ≠ 2; omega, by show 100 ≠ 3; omega, by show 100 ≠ 5; omega, by show 100 ≠ 16; omega, by show 100 ≠ 102; omega⟩)
    refine lnq_mk (c1 := c2) (by rw [← hP1, eL]; exact px_ic (px_sf (lnq_m 1 Y2))) (fun b x hb q => kp2 b x q (fun z => by rcases z with z | z <;> omega)) ?_
    rw [← hP1]
    refine ⟨EL, cp, cnt, el, gp_keep G1 kp2 (fun b x q z => z.elim (fun z => tgW R4 q z (G1.1) ⟨by show 4 ≠ 14; omega, by show 4 ≠ 103; omega, by show 4 ≠ 16; omega, by show 4 ≠ 102; omega⟩) (fun z => tgW R4 q z (gp1) ⟨by show 100 ≠ 14; omega, by show 100 ≠ 103; omega, by show 100 ≠ 16; omega, by show 100 ≠ 102; omega⟩)) ?_ ?_ ⟨same 5 (by omega) (by omega), same 6 (by omega) (by omega), same 7 (by omega) (by omega), same 10 (by omega) (by omega)⟩ (fun j i hj hi => ⟨fun z => ?_, fun _ q hq => same q (by unfold uE at hq; omega) (fun e => ?_)⟩) (fun l h1 h2 => by rw [same _ (by omega) (by omega), same _ (by omega) (by omega)]; exact G1.2.2.2.2.2.2.2 l h1 h2)⟩
    · unfold rgO
      rw [same 0 (by omega) (by omega), same 1 (by omega) (by omega), same 2 (by omega) (by omega), same 3 (by omega) (by omega), same 4 (by omega) (by omega), same 8 (by omega) (by omega), fr9 9, if_pos rfl]
      rw [hfr]
      exact mx2 _ _ (c272) (by show 4 ≠ 2; omega) (by show 4 ≠ 3; omega) (by show 4 ≠ 16; omega)
    · refine ⟨fu gpf gnp r269, gnp + 1, ?_, ?_, by omega, fun i hi => ?_⟩
      · have e9 := mx2 _ _ (k272 _ _ (c271) (by omega)) (by show 100 ≠ 2; omega) (by show 100 ≠ 3; omega) (by show 100 ≠ 16; omega)
        rw [updI] at e9
        exact e9
      · rw [fr9, if_pos rfl, I1.2.1.2.2.2.2.1]; exact nI_add _ 1
      · unfold fu
        by_cases e : i = gnp
        · rw [if_pos e, fr9, if_neg (by omega), if_pos (by omega)]
        · rw [if_neg e, same _ (by omega) (by omega)]; exact gp4 i (by omega)
    · obtain ⟨x0, p1, p2, p3⟩ := el_tag (G1.2.2.2.2.2.1 j hj i hi)
      rcases z with z | z
      · have := tgW (fun t => t = 4) p1 z G1.1 rfl; omega
      · have := tgW (fun t => t = 100) p1 z gp1 rfl; omega
    · have b4 := I1.1
      unfold uE at hq
      rcases j4 hj with rfl | rfl | rfl | rfl <;> omega
  ·
    have hov := ov_t c_1
    refine g_vret rfl dX3_prize_27 ?_
    have eL : prL E.t E.n P1 = S1 := by rw [qS1]; exact if_neg (by rw [← qS1]; exact hov)
    exact lnq_no (c1 := c0) (by rw [← hP1, eL]; exact lnq_m 2 ⟨_, _, _, _, _, _, X270⟩) (fun b x _ q => q) (by rw [← hP1, eL]; exact hov) ⟨_, _, _, _, _, G⟩
