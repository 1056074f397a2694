set_option maxHeartbeats 4000000 in
set_option maxRecDepth 100000 in
theorem t_X3_friend {Δ : Cx} {h : Hp} (d : Nat) {E : Ev} {L : Nat} {c0 : Nat → Option Cel} {P : Pk} (EK : EOK Δ E) (X : PX Δ E L h c0 P) {EL cp cnt : Nat → Nat} {el : Nat → Nat → Nat} {np nf : Nat} (G : GP Δ E c0 P.fr EL cp cnt el) (I : LIq (cnt 0) (cnt 1) (cnt 2) (cnt 3) np nf 13 P.fr) (EO : eOk E.n P) (hi : isT 6 P = true) : mt Δ (d + 10) muX3_friend [.ref E.rd] h (LNQ Δ E L c0 (frL E.t E.n (beP E.t E.n 6 (cB P 8 6) P))) := by
  obtain ⟨w0, now0, e0, ft0, fp0, Q0, X0⟩ := id X
  obtain ⟨hrd0, htk0, T0, ⟨he0, hQe0, hen0, hkk0⟩, hst0, hro0, hsub0, hcr0, hct0, hcp0, hcw0⟩ := id X0
  obtain ⟨num0, z0, le0, hnow0, S0, h3_0, h2_0⟩ := id T0
  obtain ⟨b0, sh0, sz0, B0⟩ := id S0
  have hnrg : n0 Δ ≤ E.rg := EK.2.2.2.2.2.2
  have lrg := ce_lt (hsub0 _ _ G.1)
  have ned : E.rd ≠ E.rg := tg_ne hrd0 (hsub0 _ _ G.1) (by show 2 ≠ 4; omega)
  refine mt_of (lv0 := [(0, .ref E.rd)]) rfl rfl (Nat.le_of_ble_eq_true rfl) rfl ?_
  refine g_aload_n dX3_friend_0 0 rfl ?_
  refine g_aload_n dX3_friend_1 0 rfl ?_
  refine gh_get (x := .ref E.rg) f_2_1 q579 (hrd0) dX3_friend_2 rfl ?_
  refine gh_get (x := .int (P.fr 8)) f_4_5 q308 (hsub0 _ _ (G.1)) dX3_friend_5 rfl ?_
  refine g_bipush (x := 6) dX3_friend_8 rfl ?_
  refine g_callV (t_X3_begins _ EK (⟨_, _, _, _, _, _, X0⟩) (G.1) rfl (P.fr 8) 6) (lw_V q721 q723 qs11 q129 q724) okX3_begins (hrd0) rfl rfl rfl rfl (Nat.le_of_ble_eq_true rfl) dX3_friend_10 (fun v1 h316 _ _ hq => ?_)
  obtain ⟨rfl, Y316⟩ := hq
  show wp Δ (d + 10) muX3_friend 13 [(0, .ref E.rd)] [] h316 _
  obtain ⟨w316, now316, e316, ft316, fp316, Q316, X316⟩ := id Y316
  obtain ⟨hrd316, htk316, T316, ⟨he316, hQe316, hen316, hkk316⟩, hst316, hro316, hsub316, hcr316, hct316, hcp316, hcw316⟩ := id X316
  obtain ⟨num316, z316, le316, hnow316, S316, h3_316, h2_316⟩ := id T316
  obtain ⟨b316, sh316, sz316, B316⟩ := id S316
  have hnp : P.fr 8 = nI nf := I.2.1.2.2.2.2.2
  have eP : paP E.t E.n (beC (decide (¬ P.fr 8 = 6)) P) = beP E.t E.n 6 (cB P 8 6) P := by unfold beP; rw [if_pos hi]; exact congrArg (fun b => paP E.t E.n (beC b P)) (by rw [hnp]; exact cb_eq (m := 6) (by have := I.1; omega) (by omega) hnp)
  obtain ⟨P1, hP1⟩ : ∃ S : Pk, S = beP E.t E.n 6 (cB P 8 6) P := ⟨_, rfl⟩
  have Z1 : PX Δ E L h316 c0 P1 := by rw [hP1, ← eP]; exact Y316
  have hfr : P1.fr = P.fr := by rw [hP1]; exact fr_be
  have G1 : GP Δ E c0 P1.fr EL cp cnt el := by rw [hfr]; exact G
  have I1 : LIq (cnt 0) (cnt 1) (cnt 2) (cnt 3) np nf 13 P1.fr := by rw [hfr]; exact I
  have EO1 : eOk E.n P1 := by rw [hP1]; exact eOk_be EK.1 EO
  obtain ⟨w317, now317, e317, ft317, fp317, Q317, X317⟩ := id Z1
  obtain ⟨hrd317, htk317, T317, ⟨he317, hQe317, hen317, hkk317⟩, hst317, hro317, hsub317, hcr317, hct317, hcp317, hcw317⟩ := id X317
  obtain ⟨num317, z317, le317, hnow317, S317, h3_317, h2_317⟩ := id T317
  obtain ⟨b317, sh317, sz317, B317⟩ := id S317
  refine g_aload_n dX3_friend_13 0 rfl ?_
  refine g_callV (t_X3_knownLodger _ EK (⟨_, _, _, _, _, _, X317⟩) G1 I1 EO1) (lw_V q966 q968 qs21 q129 q969) okX3_knownLodger (hrd317) rfl rfl rfl rfl (Nat.le_of_ble_eq_true rfl) dX3_friend_14 (fun v1 h318 _ _ hq => ?_)
  obtain ⟨rfl, Y318⟩ := hq
  show wp Δ (d + 10) muX3_friend 17 [(0, .ref E.rd)] [.int (ndV 8 12 P1)] h318 _
  obtain ⟨w318, now318, e318, ft318, fp318, Q318, X318⟩ := id Y318
  obtain ⟨hrd318, htk318, T318, ⟨he318, hQe318, hen318, hkk318⟩, hst318, hro318, hsub318, hcr318, hct318, hcp318, hcw318⟩ := id X318
  obtain ⟨num318, z318, le318, hnow318, S318, h3_318, h2_318⟩ := id T318
  obtain ⟨b318, sh318, sz318, B318⟩ := id S318
  refine g_istore_n (lv' := [(1, .int (ndV 8 12 P1)), (0, .ref E.rd)]) dX3_friend_17 (by decide) rfl ?_
  refine g_aload_n dX3_friend_18 1 rfl ?_
  refine g_callV (t_X3_on _ EK (⟨_, _, _, _, _, _, X318⟩)) (lw_V q686 q688 qs6 q129 q689) okX3_on (hrd318) rfl rfl rfl rfl (Nat.le_of_ble_eq_true rfl) dX3_friend_19 (fun v1 h319 _ _ hq => ?_)
  obtain ⟨rfl, Y319⟩ := hq
  show wp Δ (d + 10) muX3_friend 22 [(1, .int (ndV 8 12 P1)), (0, .ref E.rd)] [] h319 _
  obtain ⟨w319, now319, e319, ft319, fp319, Q319, X319⟩ := id Y319
  obtain ⟨hrd319, htk319, T319, ⟨he319, hQe319, hen319, hkk319⟩, hst319, hro319, hsub319, hcr319, hct319, hcp319, hcw319⟩ := id X319
  obtain ⟨num319, z319, le319, hnow319, S319, h3_319, h2_319⟩ := id T319
  obtain ⟨b319, sh319, sz319, B319⟩ := id S319
  obtain ⟨S1, qS1⟩ : ∃ S : Pk, S = frQ E.t E.n P1 := ⟨_, rfl⟩
  have ZS1 : PX Δ E L h319 c0 S1 := by rw [qS1]; exact Y319
  have hfS1 : S1.fr = P1.fr := by rw [qS1]; unfold frQ; rw [fr_pa, fr_nd]
  have GS1 : GP Δ E c0 S1.fr EL cp cnt el := by rw [hfS1]; exact G1
  have IS1 : LIq (cnt 0) (cnt 1) (cnt 2) (cnt 3) np nf 13 S1.fr := by rw [hfS1]; exact I1
  have EOS1 : eOk E.n S1 := by rw [qS1]; exact (by unfold frQ; exact eOk_pa EK.1 (eOk_nd EO1))
  obtain ⟨w320, now320, e320, ft320, fp320, Q320, X320⟩ := id ZS1
  obtain ⟨hrd320, htk320, T320, ⟨he320, hQe320, hen320, hkk320⟩, hst320, hro320, hsub320, hcr320, hct320, hcp320, hcw320⟩ := id X320
  obtain ⟨num320, z320, le320, hnow320, S320, h3_320, h2_320⟩ := id T320
  obtain ⟨b320, sh320, sz320, B320⟩ := id S320
  refine g_aload_n dX3_friend_22 1 rfl ?_
  refine g_callV (t_X3_knownLodger _ EK (⟨_, _, _, _, _, _, X320⟩) GS1 IS1 EOS1) (lw_V q966 q968 qs21 q129 q969) okX3_knownLodger (hrd320) rfl rfl rfl rfl (Nat.le_of_ble_eq_true rfl) dX3_friend_23 (fun v1 h321 _ _ hq => ?_)
  obtain ⟨rfl, Y321⟩ := hq
  show wp Δ (d + 10) muX3_friend 26 [(1, .int (ndV 8 12 P1)), (0, .ref E.rd)] [.int (ndV 8 12 S1)] h321 _
  obtain ⟨w321, now321, e321, ft321, fp321, Q321, X321⟩ := id Y321
  obtain ⟨hrd321, htk321, T321, ⟨he321, hQe321, hen321, hkk321⟩, hst321, hro321, hsub321, hcr321, hct321, hcp321, hcw321⟩ := id X321
  obtain ⟨num321, z321, le321, hnow321, S321, h3_321, h2_321⟩ := id T321
  obtain ⟨b321, sh321, sz321, B321⟩ := id S321
  refine g_istore_n (lv' := [(2, .int (ndV 8 12 S1)), (1, .int (ndV 8 12 P1)), (0, .ref E.rd)]) dX3_friend_26 (by decide) rfl ?_
  refine g_aload_n dX3_friend_27 2 rfl ?_
  refine g_callV (t_X3_isOver _ (⟨_, _, _, _, _, _, X321⟩)) (lw_V q682 q684 qs5 q129 q685) okX3_isOver (hrd321) rfl rfl rfl rfl (Nat.le_of_ble_eq_true rfl) dX3_friend_28 (fun v1 h1 _ _ hq => ?_)
  obtain ⟨rfl, hh⟩ := hq
  rw [hh]
  show wp Δ (d + 10) muX3_friend 31 [(2, .int (ndV 8 12 S1)), (1, .int (ndV 8 12 P1)), (0, .ref E.rd)] [.int (bI (decide (¬ (ndP 8 12 S1).f = 0)))] h321 _
  refine gb_ne (tgt := 63) dX3_friend_31 (by decide) (fun c_1 => ?_) (fun c_1 => ?_)
  ·
    have hov2 := ov_t c_1
    have eC : unP (decide (ndV 8 12 P1 = ndV 8 12 S1)) (ndP 8 12 S1) = frW (ix (ndV 8 12 P1)) (ix (ndV 8 12 S1)) (ndP 8 12 S1) := by rw [un_n hov2, fw_n hov2]
    refine g_aload_n dX3_friend_63 2 rfl ?_
    refine g_iload_n dX3_friend_64 1 rfl ?_
    refine g_iload_n dX3_friend_65 0 rfl ?_
    refine g_callV (t_X3_unlike _ EK (⟨_, _, _, _, _, _, X321⟩) (ndV 8 12 P1) (ndV 8 12 S1)) (lw_V q990 q992 qs25 q129 q993) okX3_unlike (hrd321) rfl rfl rfl rfl (Nat.le_of_ble_eq_true rfl) dX3_friend_66 (fun v1 h322 _ _ hq => ?_)
    obtain ⟨rfl, Y322⟩ := hq
    show wp Δ (d + 10) muX3_friend 69 [(2, .int (ndV 8 12 S1)), (1, .int (ndV 8 12 P1)), (0, .ref E.rd)] [.int (ndV 8 12 S1)] h322 _
    obtain ⟨w322, now322, e322, ft322, fp322, Q322, X322⟩ := id Y322
    obtain ⟨hrd322, htk322, T322, ⟨he322, hQe322, hen322, hkk322⟩, hst322, hro322, hsub322, hcr322, hct322, hcp322, hcw322⟩ := id X322
    obtain ⟨num322, z322, le322, hnow322, S322, h3_322, h2_322⟩ := id T322
    obtain ⟨b322, sh322, sz322, B322⟩ := id S322
    obtain ⟨S2, qS2⟩ : ∃ S : Pk, S = paP E.t E.n (frW (ix (ndV 8 12 P1)) (ix (ndV 8 12 S1)) (ndP 8 12 S1)) := ⟨_, rfl⟩
    have ZS2 : PX Δ E L h322 c0 S2 := by rw [qS2]; exact (by rw [← eC]; exact Y322)
    have hfS2 : S2.fr = P1.fr := by rw [qS2, fr_pa, fr_fw, fr_nd, hfS1]
    have GS2 : GP Δ E c0 S2.fr EL cp cnt el := by rw [hfS2]; exact G1
    have IS2 : LIq (cnt 0) (cnt 1) (cnt 2) (cnt 3) np nf 13 S2.fr := by rw [hfS2]; exact I1
    have EOS2 : eOk E.n S2 := by rw [qS2]; exact eOk_pa EK.1 (eOk_fw (eOk_nd EOS1))
    obtain ⟨w323, now323, e323, ft323, fp323, Q323, X323⟩ := id ZS2
    obtain ⟨hrd323, htk323, T323, ⟨he323, hQe323, hen323, hkk323⟩, hst323, hro323, hsub323, hcr323, hct323, hcp323, hcw323⟩ := id X323
    obtain ⟨num323, z323, le323, hnow323, S323, h3_323, h2_323⟩ := id T323
    obtain ⟨b323, sh323, sz323, B323⟩ := id S323
    refine g_pop dX3_friend_69 rfl ?_
    refine g_aload_n dX3_friend_70 2 rfl ?_
    refine g_callV (t_X3_isOver _ (⟨_, _, _, _, _, _, X323⟩)) (lw_V q682 q684 qs5 q129 q685) okX3_isOver (hrd323) rfl rfl rfl rfl (Nat.le_of_ble_eq_true rfl) dX3_friend_71 (fun v1 h1 _ _ hq => ?_)
    obtain ⟨rfl, hh⟩ := hq
    rw [hh]
    show wp Δ (d + 10) muX3_friend 74 [(2, .int (ndV 8 12 S1)), (1, .int (ndV 8 12 P1)), (0, .ref E.rd)] [.int (bI (decide (¬ S2.f = 0)))] h322 _
    refine gb_eq (tgt := 78) dX3_friend_74 (by decide) (fun c_2 => ?_) (fun c_2 => ?_)
    ·
      have hov3 := ov_f c_2
      have hfw := hov3
      rw [qS2, f_pa] at hfw
      have hfw := f_fw hfw
      have hov2 := hfw.1
      have hov1 : (ndP 8 12 P1).f = 0 := by
        have q := f_nd hov2
        rw [qS1] at q
        unfold frQ at q
        rw [f_pa] at q
        exact q
      obtain ⟨va, hva, eva⟩ := nd_l I1 (hov1)
      obtain ⟨lt_, lc_, lnm_⟩ := gp_l G1 va hva
      have hva5 : va < 5 := by have := I.1; omega
      obtain ⟨vb, hvb, evb⟩ := nd_l IS1 hov2
      obtain ⟨ltb_, lcb_, lnb_⟩ := gp_l G1 vb hvb
      have hvb5 : vb < 5 := by have := I.1; omega
      have hne : va ≠ vb := by have := hfw.2.2.1; rw [eva, evb, ix_nI (by omega), ix_nI (by omega)] at this; exact this
      have nab : el 2 va ≠ el 2 vb := fun e => hne ((G.2.2.2.2.2.2.1 2 (by omega)).2.2 va vb hva hvb e)
      have nrl : E.rd ≠ el 2 va := tg_ne hrd0 (hsub0 _ _ lc_) (by show 2 ≠ 11; omega)
      have nrg2 : E.rg ≠ el 2 va := tg_ne G.1 lc_ (by show 4 ≠ 11; omega)
      have nrl2 : E.rd ≠ el 2 vb := tg_ne hrd0 (hsub0 _ _ lcb_) (by show 2 ≠ 11; omega)
      have nrg3 : E.rg ≠ el 2 vb := tg_ne G.1 lcb_ (by show 4 ≠ 11; omega)
      have nlo : n0 Δ ≤ el 2 va := by have := (G.2.2.2.2.2.2.1 2 (by omega)).2.1 va hva; omega
      have nlo2 : n0 Δ ≤ el 2 vb := by have := (G.2.2.2.2.2.2.1 2 (by omega)).2.1 vb hvb; omega
      refine g_aload_n dX3_friend_78 2 rfl ?_
      refine gh_get (x := .ref E.rg) f_2_1 q579 (hrd323) dX3_friend_79 rfl ?_
      refine gh_get (x := .ref (E.rg + 4)) f_4_10 q327 (hsub323 _ _ (G.1)) dX3_friend_82 rfl ?_
      refine g_iload_n dX3_friend_85 1 rfl ?_
      refine wp_top (z := .int (nI va)) (congrArg Value.int (eva)) ?_
      obtain ⟨lf_, hl_⟩ := AL_c ((LX.al (G.2.2.2.1 2 (by omega))).mono hsub323)
      refine g_callV (t_J2_get _ ((LX.al (G.2.2.2.1 2 (by omega))).mono hsub323) va (by omega)) (lw_V q974 q750 q751 q127 q752) okJ2_get hl_ rfl rfl rfl rfl (Nat.le_of_ble_eq_true rfl) dX3_friend_86 (fun v1 h1 _ _ hq => ?_)
      obtain ⟨rfl, hh⟩ := hq
      rw [hh]
      show wp Δ (d + 10) muX3_friend 89 [(2, .int (ndV 8 12 S1)), (1, .int (ndV 8 12 P1)), (0, .ref E.rd)] [.ref (el 2 va)] h322 _
      refine g_castS (hsub323 _ _ (lc_)) rfl q928 dX3_friend_89 ?_
      refine g_dup dX3_friend_92 rfl ?_
      refine gh_get (x := .int (P1.fr (35 + 4 * va + 3))) f_11_4 q947 (hsub323 _ _ (lc_)) dX3_friend_93 rfl ?_
      refine g_iconst (x := 1) dX3_friend_96 rfl ?_
      refine g_iload_n dX3_friend_97 0 rfl ?_
      refine g_ishl dX3_friend_98 ?_
      refine g_ior dX3_friend_99 ?_
      refine gh_put (f2 := ob [.ref lt_, .int (P1.fr (35 + 4 * va)), .int (P1.fr (35 + 4 * va + 1)), .int (lpS (P1.fr (35 + 4 * va + 2))), .int ((P1.fr (35 + 4 * va + 3)) ||| (1 <<< ((ndV 8 12 S1) &&& 31)))]) f_11_4 q947 (hsub323 _ _ (lc_)) (by omega) dX3_friend_100 rfl rfl (ob_u [.ref lt_, .int (P1.fr (35 + 4 * va)), .int (P1.fr (35 + 4 * va + 1)), .int (lpS (P1.fr (35 + 4 * va + 2))), .int (P1.fr (35 + 4 * va + 3))] 4 (.int ((P1.fr (35 + 4 * va + 3)) ||| (1 <<< ((ndV 8 12 S1) &&& 31)))) (Nat.le_of_ble_eq_true rfl)) ?_
      refine wp_put (Fr.refl (fun b => b = el 2 va ∨ b = el 2 vb ∨ b = E.rg) _) (fun q => by first | exact absurd q (by omega) | exact Or.inl rfl | exact Or.inr rfl | exact Or.inr (Or.inl rfl) | exact Or.inr (Or.inr rfl) | exact Or.inr ⟨rfl, by omega⟩ | exact rfl | (simp only []; omega)) (hsub323 _ _ (lc_)) (by omega) (fun u324 F324 z324 c324 k324 => ?_)
      refine g_aload_n dX3_friend_103 2 rfl ?_
      refine gh_get (x := .ref E.rg) f_2_1 q579 (k324 _ _ (hrd323) (by omega)) dX3_friend_104 rfl ?_
      refine gh_get (x := .ref (E.rg + 4)) f_4_10 q327 (k324 _ _ (hsub323 _ _ (G.1)) (by omega)) dX3_friend_107 rfl ?_
      refine g_iload_n dX3_friend_110 0 rfl ?_
      refine wp_top (z := .int (nI vb)) (congrArg Value.int (evb)) ?_
      obtain ⟨lf_, hl_⟩ := AL_c ((AL.put ((LX.al (G.2.2.2.1 2 (by omega))).mono hsub323) (hsub323 _ _ (lc_)) ⟨by show 11 ≠ 14; omega, by show 11 ≠ 103; omega⟩ (fun b x q n => k324 b x q n)))
      refine g_callV (t_J2_get _ ((AL.put ((LX.al (G.2.2.2.1 2 (by omega))).mono hsub323) (hsub323 _ _ (lc_)) ⟨by show 11 ≠ 14; omega, by show 11 ≠ 103; omega⟩ (fun b x q n => k324 b x q n))) vb (by omega)) (lw_V q974 q750 q751 q127 q752) okJ2_get hl_ rfl rfl rfl rfl (Nat.le_of_ble_eq_true rfl) dX3_friend_111 (fun v1 h1 _ _ hq => ?_)
      obtain ⟨rfl, hh⟩ := hq
      rw [hh]
      show wp Δ (d + 10) muX3_friend 114 [(2, .int (ndV 8 12 S1)), (1, .int (ndV 8 12 P1)), (0, .ref E.rd)] [.ref (el 2 vb)] u324 _
      refine g_castS (k324 _ _ (hsub323 _ _ (lcb_)) (by omega)) rfl q928 dX3_friend_114 ?_
      refine g_dup dX3_friend_117 rfl ?_
      refine gh_get (x := .int (P1.fr (35 + 4 * vb + 3))) f_11_4 q947 (k324 _ _ (hsub323 _ _ (lcb_)) (by omega)) dX3_friend_118 rfl ?_
      refine g_iconst (x := 1) dX3_friend_121 rfl ?_
      refine g_iload_n dX3_friend_122 1 rfl ?_
      refine g_ishl dX3_friend_123 ?_
      refine g_ior dX3_friend_124 ?_
      refine gh_put (f2 := ob [.ref ltb_, .int (P1.fr (35 + 4 * vb)), .int (P1.fr (35 + 4 * vb + 1)), .int (lpS (P1.fr (35 + 4 * vb + 2))), .int ((P1.fr (35 + 4 * vb + 3)) ||| (1 <<< ((ndV 8 12 P1) &&& 31)))]) f_11_4 q947 (k324 _ _ (hsub323 _ _ (lcb_)) (by omega)) (by omega) dX3_friend_125 rfl rfl (ob_u [.ref ltb_, .int (P1.fr (35 + 4 * vb)), .int (P1.fr (35 + 4 * vb + 1)), .int (lpS (P1.fr (35 + 4 * vb + 2))), .int (P1.fr (35 + 4 * vb + 3))] 4 (.int ((P1.fr (35 + 4 * vb + 3)) ||| (1 <<< ((ndV 8 12 P1) &&& 31)))) (Nat.le_of_ble_eq_true rfl)) ?_
      refine wp_put F324 (fun q => by first | exact absurd q (by omega) | exact Or.inl rfl | exact Or.inr rfl | exact Or.inr (Or.inl rfl) | exact Or.inr (Or.inr rfl) | exact Or.inr ⟨rfl, by omega⟩ | exact rfl | (simp only []; omega)) (k324 _ _ (hsub323 _ _ (lcb_)) (by omega)) (by omega) (fun u325 F325 z325 c325 k325 => ?_)
      refine g_aload_n dX3_friend_128 2 rfl ?_
      refine gh_get (x := .ref E.rg) f_2_1 q579 (k325 _ _ (k324 _ _ (hrd323) (by omega)) (by omega)) dX3_friend_129 rfl ?_
      refine g_dup dX3_friend_132 rfl ?_
      refine gh_get (x := .int (P.fr 8)) f_4_5 q308 (k325 _ _ (k324 _ _ (hsub323 _ _ (G.1)) (by omega)) (by omega)) dX3_friend_133 rfl ?_
      refine g_iconst (x := 1) dX3_friend_136 rfl ?_
      refine g_iadd dX3_friend_137 ?_
      refine gh_put (f2 := ob [.int (P.fr 0), .int (P.fr 1), .int (P.fr 2), .int (P.fr 3), .int (P.fr 4), .int ((P.fr 8) + 1), .int (P.fr 9), .ref (E.rg + 1), .ref (E.rg + 2), .ref (E.rg + 3), .ref (E.rg + 4), .ref (E.rg + 5)]) f_4_5 q308 (k325 _ _ (k324 _ _ (hsub323 _ _ (G.1)) (by omega)) (by omega)) (by omega) dX3_friend_138 rfl rfl (ob_u [.int (P.fr 0), .int (P.fr 1), .int (P.fr 2), .int (P.fr 3), .int (P.fr 4), .int (P.fr 8), .int (P.fr 9), .ref (E.rg + 1), .ref (E.rg + 2), .ref (E.rg + 3), .ref (E.rg + 4), .ref (E.rg + 5)] 5 (.int ((P.fr 8) + 1)) (Nat.le_of_ble_eq_true rfl)) ?_
      refine wp_put F325 (fun q => by first | exact absurd q (by omega) | exact Or.inl rfl | exact Or.inr rfl | exact Or.inr (Or.inl rfl) | exact Or.inr (Or.inr rfl) | exact Or.inr ⟨rfl, by omega⟩ | exact rfl | (simp only []; omega)) (k325 _ _ (k324 _ _ (hsub323 _ _ (G.1)) (by omega)) (by omega)) (by omega) (fun u326 F326 z326 c326 k326 => ?_)
      refine g_vret rfl dX3_friend_141 ?_
      have eL : frL E.t E.n P1 = icP 8 (orF vb va (orF va vb S2)) := by
        unfold frL frE
        rw [← qS1, ← qS2, eva, evb, ix_nI (by omega), ix_nI (by omega), if_pos hov3]
      have fr9 : ∀ q, (frL E.t E.n P1).fr q = if q = 8 then P1.fr 8 + 1 else if q = 35 + 4 * vb + 3 then P1.fr (35 + 4 * vb + 3) ||| (1 : Int32) <<< (nI va &&& 31) else if q = 35 + 4 * va + 3 then P1.fr (35 + 4 * va + 3) ||| (1 : Int32) <<< (nI vb &&& 31) else P1.fr q := by rw [eL]; exact fr_or hfS2 hne
      have same : ∀ q, q ≠ 8 → q ≠ 35 + 4 * vb + 3 → q ≠ 35 + 4 * va + 3 → (frL E.t E.n P1).fr q = P1.fr q := fun q h1 h2 h3 => by rw [fr9, if_neg h1, if_neg h2, if_neg h3]
      obtain ⟨c2, Y2, kp2, mx2⟩ := px_gen (⟨_, _, _, _, _, _, X323⟩ : PX Δ E L h322 c0 S2) (F326.le (by omega) (by omega) (fun _ _ q => q)) (fun b x q z => by
        rcases z with z | z | z
        · exact tgW R5 q z (hsub323 _ _ lc_) ⟨by show 11 ≠ 2; omega, by show 11 ≠ 3; omega, by show 11 ≠ 5; omega, by show 11 ≠ 16; omega, by show 11 ≠ 102; omega⟩
        · exact tgW R5 q z (hsub323 _ _ lcb_) ⟨by show 11 ≠ 2; omega, by show 11 ≠ 3; omega, by show 11 ≠ 5; omega, by show 11 ≠ 16; omega, by show 11 ≠ 102; omega⟩
        · exact tgW R5 q z (hsub323 _ _ G1.1) ⟨by show 4 ≠ 2; omega, by show 4 ≠ 3; omega, by show 4 ≠ 5; omega, by show 4 ≠ 16; omega, by show 4 ≠ 102; omega⟩)
      refine lnq_mk (c1 := c2) (by rw [← hP1, eL]; exact px_ic (px_sf (px_sf (lnq_m 1 Y2)))) (fun b x hb q => kp2 b x q (fun z => by have g8 := (G.2.2.2.2.2.2.1 2 (by omega)).2.1; have := g8 va hva; have := g8 vb hvb; rcases z with z | z | z <;> omega)) ?_
      rw [← hP1]
      refine ⟨EL, cp, cnt, el, gp_keep G1 kp2 (fun b x q z => z.elim (fun z => tgW R4 q z (lc_) ⟨by show 11 ≠ 14; omega, by show 11 ≠ 103; omega, by show 11 ≠ 16; omega, by show 11 ≠ 102; omega⟩) (fun z => z.elim (fun z => tgW R4 q z (lcb_) ⟨by show 11 ≠ 14; omega, by show 11 ≠ 103; omega, by show 11 ≠ 16; omega, by show 11 ≠ 102; omega⟩) (fun z => tgW R4 q z (G1.1) ⟨by show 4 ≠ 14; omega, by show 4 ≠ 103; omega, by show 4 ≠ 16; omega, by show 4 ≠ 102; omega⟩))) ?_ ?_ ⟨same 5 (by omega) (by omega) (by omega), same 6 (by omega) (by omega) (by omega), same 7 (by omega) (by omega) (by omega), same 10 (by omega) (by omega) (by omega)⟩ (fun j i hj hi => ⟨fun z => ?_, fun nz q hq => ?_⟩) (fun l h1 h2 => by rw [same _ (by omega) (by omega) (by omega), same _ (by omega) (by omega) (by omega)]; exact G1.2.2.2.2.2.2.2 l h1 h2)⟩
      · unfold rgO
        rw [same 0 (by omega) (by omega) (by omega), same 1 (by omega) (by omega) (by omega), same 2 (by omega) (by omega) (by omega), same 3 (by omega) (by omega) (by omega), same 4 (by omega) (by omega) (by omega), same 9 (by omega) (by omega) (by omega), fr9 8, if_pos rfl]
        rw [hfr]
        exact mx2 _ _ (c326) (by show 4 ≠ 2; omega) (by show 4 ≠ 3; omega) (by show 4 ≠ 16; omega)
      · obtain ⟨pf, np_, g1, g2, g3, g4⟩ := G1.2.1
        refine ⟨pf, np_, kp2 _ _ g1 (fun z => ?_), (same 9 (by omega) (by omega) (by omega)).trans g2, g3, fun i hi => (g4 i hi).trans (same _ (by omega) (by omega) (by omega)).symm⟩
        rcases z with z | z | z
        · exact tg_ne g1 lc_ (by show 100 ≠ 11; omega) z
        · exact tg_ne g1 lcb_ (by show 100 ≠ 11; omega) z
        · omega
      · rcases z with z | z | z
        · obtain ⟨rfl, rfl⟩ := lod_in G1 hj hi hva z
          refine ⟨lt_, ?_, lnm_.mv (fun b x q z => kp2 b x q (fun y => by
            rcases y with y | y | y
            · exact tg_ne q lc_ (by show x.1 ≠ 11; omega) y
            · exact tg_ne q lcb_ (by show x.1 ≠ 11; omega) y
            · exact tg_ne q G1.1 (by show x.1 ≠ 4; omega) y)) (same _ (by omega) (by omega) (by omega)) (fun q hq => same _ (by omega) (by omega) (by omega))⟩
          have e9 := mx2 _ _ (k326 _ _ (k325 _ _ (c324) (by omega)) (by omega)) (by show 11 ≠ 2; omega) (by show 11 ≠ 3; omega) (by show 11 ≠ 16; omega)
          rw [evb] at e9
          rw [same (35 + 4 * i) (by omega) (by omega) (by omega), same (35 + 4 * i + 1) (by omega) (by omega) (by omega), same (35 + 4 * i + 2) (by omega) (by omega) (by omega), fr9 (35 + 4 * i + 3), if_neg (by omega), if_neg (by omega), if_pos rfl]
          exact e9
        · obtain ⟨rfl, rfl⟩ := lod_in G1 hj hi hvb z
          refine ⟨ltb_, ?_, lnb_.mv (fun b x q z => kp2 b x q (fun y => by
            rcases y with y | y | y
            · exact tg_ne q lc_ (by show x.1 ≠ 11; omega) y
            · exact tg_ne q lcb_ (by show x.1 ≠ 11; omega) y
            · exact tg_ne q G1.1 (by show x.1 ≠ 4; omega) y)) (same _ (by omega) (by omega) (by omega)) (fun q hq => same _ (by omega) (by omega) (by omega))⟩
          have e9 := mx2 _ _ (k326 _ _ (c325) (by omega)) (by show 11 ≠ 2; omega) (by show 11 ≠ 3; omega) (by show 11 ≠ 16; omega)
          rw [eva] at e9
          rw [same (35 + 4 * i) (by omega) (by omega) (by omega), same (35 + 4 * i + 1) (by omega) (by omega) (by omega), same (35 + 4 * i + 2) (by omega) (by omega) (by omega), fr9 (35 + 4 * i + 3), if_neg (by omega), if_pos rfl]
          exact e9
        · obtain ⟨x0, p1, p2, p3⟩ := el_tag (G1.2.2.2.2.2.1 j hj i hi)
          have := tgW (fun t => t = 4) p1 z G1.1 rfl
          omega
      · have b4 := I1.1
        have nza : j = 2 → i ≠ va := fun h1 h2 => nz (Or.inl (by rw [h1, h2]))
        have nzb : j = 2 → i ≠ vb := fun h1 h2 => nz (Or.inr (Or.inl (by rw [h1, h2])))
        unfold uE at hq
        rcases j4 hj with rfl | rfl | rfl | rfl
        · exact same q (by omega) (by omega) (by omega)
        · exact same q (by omega) (by omega) (by omega)
        · have n1 := nza rfl; have n2 := nzb rfl; exact same q (by omega) (by omega) (by omega)
        · exact same q (by omega) (by omega) (by omega)
    ·
      have hov3 := ov_t c_2
      refine g_vret rfl dX3_friend_77 ?_
      have eL : frL E.t E.n P1 = frE (ix (ndV 8 12 P1)) (ix (ndV 8 12 S1)) S2 := by unfold frL; rw [← qS1, ← qS2]
      exact lnq_no (c1 := c0) (by rw [← hP1, eL]; exact px_frE (lnq_m 2 ⟨_, _, _, _, _, _, X323⟩)) (fun b x _ q => q) (by rw [← hP1, eL, frE_f]; exact hov3) ⟨_, _, _, _, _, G⟩
  ·
    have hov2 := ov_f c_1
    have hov1 : (ndP 8 12 P1).f = 0 := by
      have q := f_nd hov2
      rw [qS1] at q
      unfold frQ at q
      rw [f_pa] at q
      exact q
    obtain ⟨va, hva, eva⟩ := nd_l I1 (hov1)
    obtain ⟨lt_, lc_, lnm_⟩ := gp_l G1 va hva
    have hva5 : va < 5 := by have := I.1; omega
    obtain ⟨vb, hvb, evb⟩ := nd_l IS1 hov2
    obtain ⟨ltb_, lcb_, lnb_⟩ := gp_l G1 vb hvb
    have hvb5 : vb < 5 := by have := I.1; omega
    refine g_aload_n dX3_friend_34 2 rfl ?_
    refine gh_get (x := .ref E.rg) f_2_1 q579 (hrd321) dX3_friend_35 rfl ?_
    refine gh_get (x := .ref (E.rg + 4)) f_4_10 q327 (hsub321 _ _ (G.1)) dX3_friend_38 rfl ?_
    refine g_iload_n dX3_friend_41 1 rfl ?_
    refine wp_top (z := .int (nI va)) (congrArg Value.int (eva)) ?_
    obtain ⟨lf_, hl_⟩ := AL_c ((LX.al (G.2.2.2.1 2 (by omega))).mono hsub321)
    refine g_callV (t_J2_get _ ((LX.al (G.2.2.2.1 2 (by omega))).mono hsub321) va (by omega)) (lw_V q974 q750 q751 q127 q752) okJ2_get hl_ rfl rfl rfl rfl (Nat.le_of_ble_eq_true rfl) dX3_friend_42 (fun v1 h1 _ _ hq => ?_)
    obtain ⟨rfl, hh⟩ := hq
    rw [hh]
    show wp Δ (d + 10) muX3_friend 45 [(2, .int (ndV 8 12 S1)), (1, .int (ndV 8 12 P1)), (0, .ref E.rd)] [.ref (el 2 va)] h321 _
    refine g_castS (hsub321 _ _ (lc_)) rfl q928 dX3_friend_45 ?_
    refine gh_get (x := .int (P1.fr (35 + 4 * va + 3))) f_11_4 q947 (hsub321 _ _ (lc_)) dX3_friend_48 rfl ?_
    refine g_iload_n dX3_friend_51 0 rfl ?_
    refine g_callSN (t_X1_has _ (P1.fr (35 + 4 * va + 3)) (ndV 8 12 S1)) (lw_meth q989) q987 q124 q988 okX1_has rfl rfl (Nat.le_of_ble_eq_true rfl) dX3_friend_52 (fun v1 h1 _ _ hq => ?_)
    obtain ⟨rfl, hh⟩ := hq
    rw [hh]
    show wp Δ (d + 10) muX3_friend 55 [(2, .int (ndV 8 12 S1)), (1, .int (ndV 8 12 P1)), (0, .ref E.rd)] [.int (bI (hbS (P1.fr (35 + 4 * va + 3)) (ndV 8 12 S1)))] h321 _
    refine gb_eq (tgt := 63) dX3_friend_55 (by decide) (fun c_3 => ?_) (fun c_3 => ?_)
    ·
      have hb2 := c_3
      have eC : unP (decide (ndV 8 12 P1 = ndV 8 12 S1)) (ndP 8 12 S1) = frW (ix (ndV 8 12 P1)) (ix (ndV 8 12 S1)) (ndP 8 12 S1) := by rw [eva, evb, ix_nI (by omega), ix_nI (by omega)]; exact fw_2 hov2 (by omega) (by omega) (by rw [fr_nd, hfS1, ← evb]; exact hb2)
      refine g_aload_n dX3_friend_63 2 rfl ?_
      refine g_iload_n dX3_friend_64 1 rfl ?_
      refine g_iload_n dX3_friend_65 0 rfl ?_
      refine g_callV (t_X3_unlike _ EK (⟨_, _, _, _, _, _, X321⟩) (ndV 8 12 P1) (ndV 8 12 S1)) (lw_V q990 q992 qs25 q129 q993) okX3_unlike (hrd321) rfl rfl rfl rfl (Nat.le_of_ble_eq_true rfl) dX3_friend_66 (fun v1 h327 _ _ hq => ?_)
      obtain ⟨rfl, Y327⟩ := hq
      show wp Δ (d + 10) muX3_friend 69 [(2, .int (ndV 8 12 S1)), (1, .int (ndV 8 12 P1)), (0, .ref E.rd)] [.int (ndV 8 12 S1)] h327 _
      obtain ⟨w327, now327, e327, ft327, fp327, Q327, X327⟩ := id Y327
      obtain ⟨hrd327, htk327, T327, ⟨he327, hQe327, hen327, hkk327⟩, hst327, hro327, hsub327, hcr327, hct327, hcp327, hcw327⟩ := id X327
      obtain ⟨num327, z327, le327, hnow327, S327, h3_327, h2_327⟩ := id T327
      obtain ⟨b327, sh327, sz327, B327⟩ := id S327
      obtain ⟨S2, qS2⟩ : ∃ S : Pk, S = paP E.t E.n (frW (ix (ndV 8 12 P1)) (ix (ndV 8 12 S1)) (ndP 8 12 S1)) := ⟨_, rfl⟩
      have ZS2 : PX Δ E L h327 c0 S2 := by rw [qS2]; exact (by rw [← eC]; exact Y327)
      have hfS2 : S2.fr = P1.fr := by rw [qS2, fr_pa, fr_fw, fr_nd, hfS1]
      have GS2 : GP Δ E c0 S2.fr EL cp cnt el := by rw [hfS2]; exact G1
      have IS2 : LIq (cnt 0) (cnt 1) (cnt 2) (cnt 3) np nf 13 S2.fr := by rw [hfS2]; exact I1
      have EOS2 : eOk E.n S2 := by rw [qS2]; exact eOk_pa EK.1 (eOk_fw (eOk_nd EOS1))
      obtain ⟨w328, now328, e328, ft328, fp328, Q328, X328⟩ := id ZS2
      obtain ⟨hrd328, htk328, T328, ⟨he328, hQe328, hen328, hkk328⟩, hst328, hro328, hsub328, hcr328, hct328, hcp328, hcw328⟩ := id X328
      obtain ⟨num328, z328, le328, hnow328, S328, h3_328, h2_328⟩ := id T328
      obtain ⟨b328, sh328, sz328, B328⟩ := id S328
      refine g_pop dX3_friend_69 rfl ?_
      refine g_aload_n dX3_friend_70 2 rfl ?_
      refine g_callV (t_X3_isOver _ (⟨_, _, _, _, _, _, X328⟩)) (lw_V q682 q684 qs5 q129 q685) okX3_isOver (hrd328) rfl rfl rfl rfl (Nat.le_of_ble_eq_true rfl) dX3_friend_71 (fun v1 h1 _ _ hq => ?_)
      obtain ⟨rfl, hh⟩ := hq
      rw [hh]
      show wp Δ (d + 10) muX3_friend 74 [(2, .int (ndV 8 12 S1)), (1, .int (ndV 8 12 P1)), (0, .ref E.rd)] [.int (bI (decide (¬ S2.f = 0)))] h327 _
      refine gb_eq (tgt := 78) dX3_friend_74 (by decide) (fun c_4 => ?_) (fun c_4 => ?_)
      ·
        have hov3 := ov_f c_4
        have hfw := hov3
        rw [qS2, f_pa] at hfw
        have hfw := f_fw hfw
        have hov2 := hfw.1
        have hov1 : (ndP 8 12 P1).f = 0 := by
          have q := f_nd hov2
          rw [qS1] at q
          unfold frQ at q
          rw [f_pa] at q
          exact q
        obtain ⟨va, hva, eva⟩ := nd_l I1 (hov1)
        obtain ⟨lt_, lc_, lnm_⟩ := gp_l G1 va hva
        have hva5 : va < 5 := by have := I.1; omega
        obtain ⟨vb, hvb, evb⟩ := nd_l IS1 hov2
        obtain ⟨ltb_, lcb_, lnb_⟩ := gp_l G1 vb hvb
        have hvb5 : vb < 5 := by have := I.1; omega
        have hne : va ≠ vb := by have := hfw.2.2.1; rw [eva, evb, ix_nI (by omega), ix_nI (by omega)] at this; exact this
        have nab : el 2 va ≠ el 2 vb := fun e => hne ((G.2.2.2.2.2.2.1 2 (by omega)).2.2 va vb hva hvb e)
        have nrl : E.rd ≠ el 2 va := tg_ne hrd0 (hsub0 _ _ lc_) (by show 2 ≠ 11; omega)
        have nrg2 : E.rg ≠ el 2 va := tg_ne G.1 lc_ (by show 4 ≠ 11; omega)
        have nrl2 : E.rd ≠ el 2 vb := tg_ne hrd0 (hsub0 _ _ lcb_) (by show 2 ≠ 11; omega)
        have nrg3 : E.rg ≠ el 2 vb := tg_ne G.1 lcb_ (by show 4 ≠ 11; omega)
        have nlo : n0 Δ ≤ el 2 va := by have := (G.2.2.2.2.2.2.1 2 (by omega)).2.1 va hva; omega
        have nlo2 : n0 Δ ≤ el 2 vb := by have := (G.2.2.2.2.2.2.1 2 (by omega)).2.1 vb hvb; omega
        refine g_aload_n dX3_friend_78 2 rfl ?_
        refine gh_get (x := .ref E.rg) f_2_1 q579 (hrd328) dX3_friend_79 rfl ?_
        refine gh_get (x := .ref (E.rg + 4)) f_4_10 q327 (hsub328 _ _ (G.1)) dX3_friend_82 rfl ?_
        refine g_iload_n dX3_friend_85 1 rfl ?_
        refine wp_top (z := .int (nI va)) (congrArg Value.int (eva)) ?_
        obtain ⟨lf_, hl_⟩ := AL_c ((LX.al (G.2.2.2.1 2 (by omega))).mono hsub328)
        refine g_callV (t_J2_get _ ((LX.al (G.2.2.2.1 2 (by omega))).mono hsub328) va (by omega)) (lw_V q974 q750 q751 q127 q752) okJ2_get hl_ rfl rfl rfl rfl (Nat.le_of_ble_eq_true rfl) dX3_friend_86 (fun v1 h1 _ _ hq => ?_)
        obtain ⟨rfl, hh⟩ := hq
        rw [hh]
        show wp Δ (d + 10) muX3_friend 89 [(2, .int (ndV 8 12 S1)), (1, .int (ndV 8 12 P1)), (0, .ref E.rd)] [.ref (el 2 va)] h327 _
        refine g_castS (hsub328 _ _ (lc_)) rfl q928 dX3_friend_89 ?_
        refine g_dup dX3_friend_92 rfl ?_
        refine gh_get (x := .int (P1.fr (35 + 4 * va + 3))) f_11_4 q947 (hsub328 _ _ (lc_)) dX3_friend_93 rfl ?_
        refine g_iconst (x := 1) dX3_friend_96 rfl ?_
        refine g_iload_n dX3_friend_97 0 rfl ?_
        refine g_ishl dX3_friend_98 ?_
        refine g_ior dX3_friend_99 ?_
        refine gh_put (f2 := ob [.ref lt_, .int (P1.fr (35 + 4 * va)), .int (P1.fr (35 + 4 * va + 1)), .int (lpS (P1.fr (35 + 4 * va + 2))), .int ((P1.fr (35 + 4 * va + 3)) ||| (1 <<< ((ndV 8 12 S1) &&& 31)))]) f_11_4 q947 (hsub328 _ _ (lc_)) (by omega) dX3_friend_100 rfl rfl (ob_u [.ref lt_, .int (P1.fr (35 + 4 * va)), .int (P1.fr (35 + 4 * va + 1)), .int (lpS (P1.fr (35 + 4 * va + 2))), .int (P1.fr (35 + 4 * va + 3))] 4 (.int ((P1.fr (35 + 4 * va + 3)) ||| (1 <<< ((ndV 8 12 S1) &&& 31)))) (Nat.le_of_ble_eq_true rfl)) ?_
        refine wp_put (Fr.refl (fun b => b = el 2 va ∨ b = el 2 vb ∨ b = E.rg) _) (fun q => by first | exact absurd q (by omega) | exact Or.inl rfl | exact Or.inr rfl | exact Or.inr (Or.inl rfl) | exact Or.inr (Or.inr rfl) | exact Or.inr ⟨rfl, by omega⟩ | exact rfl | (simp only []; omega)) (hsub328 _ _ (lc_)) (by omega) (fun u329 F329 z329 c329 k329 => ?_)
        refine g_aload_n dX3_friend_103 2 rfl ?_
        refine gh_get (x := .ref E.rg) f_2_1 q579 (k329 _ _ (hrd328) (by omega)) dX3_friend_104 rfl ?_
        refine gh_get (x := .ref (E.rg + 4)) f_4_10 q327 (k329 _ _ (hsub328 _ _ (G.1)) (by omega)) dX3_friend_107 rfl ?_
        refine g_iload_n dX3_friend_110 0 rfl ?_
        refine wp_top (z := .int (nI vb)) (congrArg Value.int (evb)) ?_
        obtain ⟨lf_, hl_⟩ := AL_c ((AL.put ((LX.al (G.2.2.2.1 2 (by omega))).mono hsub328) (hsub328 _ _ (lc_)) ⟨by show 11 ≠ 14; omega, by show 11 ≠ 103; omega⟩ (fun b x q n => k329 b x q n)))
        refine g_callV (t_J2_get _ ((AL.put ((LX.al (G.2.2.2.1 2 (by omega))).mono hsub328) (hsub328 _ _ (lc_)) ⟨by show 11 ≠ 14; omega, by show 11 ≠ 103; omega⟩ (fun b x q n => k329 b x q n))) vb (by omega)) (lw_V q974 q750 q751 q127 q752) okJ2_get hl_ rfl rfl rfl rfl (Nat.le_of_ble_eq_true rfl) dX3_friend_111 (fun v1 h1 _ _ hq => ?_)
        obtain ⟨rfl, hh⟩ := hq
        rw [hh]
        show wp Δ (d + 10) muX3_friend 114 [(2, .int (ndV 8 12 S1)), (1, .int (ndV 8 12 P1)), (0, .ref E.rd)] [.ref (el 2 vb)] u329 _
        refine g_castS (k329 _ _ (hsub328 _ _ (lcb_)) (by omega)) rfl q928 dX3_friend_114 ?_
        refine g_dup dX3_friend_117 rfl ?_
        refine gh_get (x := .int (P1.fr (35 + 4 * vb + 3))) f_11_4 q947 (k329 _ _ (hsub328 _ _ (lcb_)) (by omega)) dX3_friend_118 rfl ?_
        refine g_iconst (x := 1) dX3_friend_121 rfl ?_
        refine g_iload_n dX3_friend_122 1 rfl ?_
        refine g_ishl dX3_friend_123 ?_
        refine g_ior dX3_friend_124 ?_
        refine gh_put (f2 := ob [.ref ltb_, .int (P1.fr (35 + 4 * vb)), .int (P1.fr (35 + 4 * vb + 1)), .int (lpS (P1.fr (35 + 4 * vb + 2))), .int ((P1.fr (35 + 4 * vb + 3)) ||| (1 <<< ((ndV 8 12 P1) &&& 31)))]) f_11_4 q947 (k329 _ _ (hsub328 _ _ (lcb_)) (by omega)) (by omega) dX3_friend_125 rfl rfl (ob_u [.ref ltb_, .int (P1.fr (35 + 4 * vb)), .int (P1.fr (35 + 4 * vb + 1)), .int (lpS (P1.fr (35 + 4 * vb + 2))), .int (P1.fr (35 + 4 * vb + 3))] 4 (.int ((P1.fr (35 + 4 * vb + 3)) ||| (1 <<< ((ndV 8 12 P1) &&& 31)))) (Nat.le_of_ble_eq_true rfl)) ?_
        refine wp_put F329 (fun q => by first | exact absurd q (by omega) | exact Or.inl rfl | exact Or.inr rfl | exact Or.inr (Or.inl rfl) | exact Or.inr (Or.inr rfl) | exact Or.inr ⟨rfl, by omega⟩ | exact rfl | (simp only []; omega)) (k329 _ _ (hsub328 _ _ (lcb_)) (by omega)) (by omega) (fun u330 F330 z330 c330 k330 => ?_)
        refine g_aload_n dX3_friend_128 2 rfl ?_
        refine gh_get (x := .ref E.rg) f_2_1 q579 (k330 _ _ (k329 _ _ (hrd328) (by omega)) (by omega)) dX3_friend_129 rfl ?_
        refine g_dup dX3_friend_132 rfl ?_
        refine gh_get (x := .int (P.fr 8)) f_4_5 q308 (k330 _ _ (k329 _ _ (hsub328 _ _ (G.1)) (by omega)) (by omega)) dX3_friend_133 rfl ?_
        refine g_iconst (x := 1) dX3_friend_136 rfl ?_
        refine g_iadd dX3_friend_137 ?_
        refine gh_put (f2 := ob [.int (P.fr 0), .int (P.fr 1), .int (P.fr 2), .int (P.fr 3), .int (P.fr 4), .int ((P.fr 8) + 1), .int (P.fr 9), .ref (E.rg + 1), .ref (E.rg + 2), .ref (E.rg + 3), .ref (E.rg + 4), .ref (E.rg + 5)]) f_4_5 q308 (k330 _ _ (k329 _ _ (hsub328 _ _ (G.1)) (by omega)) (by omega)) (by omega) dX3_friend_138 rfl rfl (ob_u [.int (P.fr 0), .int (P.fr 1), .int (P.fr 2), .int (P.fr 3), .int (P.fr 4), .int (P.fr 8), .int (P.fr 9), .ref (E.rg + 1), .ref (E.rg + 2), .ref (E.rg + 3), .ref (E.rg + 4), .ref (E.rg + 5)] 5 (.int ((P.fr 8) + 1)) (Nat.le_of_ble_eq_true rfl)) ?_
        refine wp_put F330 (fun q => by first | exact absurd q (by omega) | exact Or.inl rfl | exact Or.inr rfl | exact Or.inr (Or.inl rfl) | exact Or.inr (Or.inr rfl) | exact Or.inr ⟨rfl, by omega⟩ | exact rfl | (simp only []; omega)) (k330 _ _ (k329 _ _ (hsub328 _ _ (G.1)) (by omega)) (by omega)) (by omega) (fun u331 F331 z331 c331 k331 => ?_)
        refine g_vret rfl dX3_friend_141 ?_
        have eL : frL E.t E.n P1 = icP 8 (orF vb va (orF va vb S2)) := by
          unfold frL frE
          rw [← qS1, ← qS2, eva, evb, ix_nI (by omega), ix_nI (by omega), if_pos hov3]
        have fr9 : ∀ q, (frL E.t E.n P1).fr q = if q = 8 then P1.fr 8 + 1 else if q = 35 + 4 * vb + 3 then P1.fr (35 + 4 * vb + 3) ||| (1 : Int32) <<< (nI va &&& 31) else if q = 35 + 4 * va + 3 then P1.fr (35 + 4 * va + 3) ||| (1 : Int32) <<< (nI vb &&& 31) else P1.fr q := by rw [eL]; exact fr_or hfS2 hne
        have same : ∀ q, q ≠ 8 → q ≠ 35 + 4 * vb + 3 → q ≠ 35 + 4 * va + 3 → (frL E.t E.n P1).fr q = P1.fr q := fun q h1 h2 h3 => by rw [fr9, if_neg h1, if_neg h2, if_neg h3]
        obtain ⟨c2, Y2, kp2, mx2⟩ := px_gen (⟨_, _, _, _, _, _, X328⟩ : PX Δ E L h327 c0 S2) (F331.le (by omega) (by omega) (fun _ _ q => q)) (fun b x q z => by
          rcases z with z | z | z
          · exact tgW R5 q z (hsub328 _ _ lc_) ⟨by show 11 ≠ 2; omega, by show 11 ≠ 3; omega, by show 11 ≠ 5; omega, by show 11 ≠ 16; omega, by show 11 ≠ 102; omega⟩
          · exact tgW R5 q z (hsub328 _ _ lcb_) ⟨by show 11 ≠ 2; omega, by show 11 ≠ 3; omega, by show 11 ≠ 5; omega, by show 11 ≠ 16; omega, by show 11 ≠ 102; omega⟩
          · exact tgW R5 q z (hsub328 _ _ G1.1) ⟨by show 4 ≠ 2; omega, by show 4 ≠ 3; omega, by show 4 ≠ 5; omega, by show 4 ≠ 16; omega, by show 4 ≠ 102; omega⟩)
        refine lnq_mk (c1 := c2) (by rw [← hP1, eL]; exact px_ic (px_sf (px_sf (lnq_m 1 Y2)))) (fun b x hb q => kp2 b x q (fun z => by have g8 := (G.2.2.2.2.2.2.1 2 (by omega)).2.1; have := g8 va hva; have := g8 vb hvb; rcases z with z | z | z <;> omega)) ?_
        rw [← hP1]
        refine ⟨EL, cp, cnt, el, gp_keep G1 kp2 (fun b x q z => z.elim (fun z => tgW R4 q z (lc_) ⟨by show 11 ≠ 14; omega, by show 11 ≠ 103; omega, by show 11 ≠ 16; omega, by show 11 ≠ 102; omega⟩) (fun z => z.elim (fun z => tgW R4 q z (lcb_) ⟨by show 11 ≠ 14; omega, by show 11 ≠ 103; omega, by show 11 ≠ 16; omega, by show 11 ≠ 102; omega⟩) (fun z => tgW R4 q z (G1.1) ⟨by show 4 ≠ 14; omega, by show 4 ≠ 103; omega, by show 4 ≠ 16; omega, by show 4 ≠ 102; omega⟩))) ?_ ?_ ⟨same 5 (by omega) (by omega) (by omega), same 6 (by omega) (by omega) (by omega), same 7 (by omega) (by omega) (by omega), same 10 (by omega) (by omega) (by omega)⟩ (fun j i hj hi => ⟨fun z => ?_, fun nz q hq => ?_⟩) (fun l h1 h2 => by rw [same _ (by omega) (by omega) (by omega), same _ (by omega) (by omega) (by omega)]; exact G1.2.2.2.2.2.2.2 l h1 h2)⟩
        · unfold rgO
          rw [same 0 (by omega) (by omega) (by omega), same 1 (by omega) (by omega) (by omega), same 2 (by omega) (by omega) (by omega), same 3 (by omega) (by omega) (by omega), same 4 (by omega) (by omega) (by omega), same 9 (by omega) (by omega) (by omega), fr9 8, if_pos rfl]
          rw [hfr]
          exact mx2 _ _ (c331) (by show 4 ≠ 2; omega) (by show 4 ≠ 3; omega) (by show 4 ≠ 16; omega)
        · obtain ⟨pf, np_, g1, g2, g3, g4⟩ := G1.2.1
          refine ⟨pf, np_, kp2 _ _ g1 (fun z => ?_), (same 9 (by omega) (by omega) (by omega)).trans g2, g3, fun i hi => (g4 i hi).trans (same _ (by omega) (by omega) (by omega)).symm⟩
          rcases z with z | z | z
          · exact tg_ne g1 lc_ (by show 100 ≠ 11; omega) z
          · exact tg_ne g1 lcb_ (by show 100 ≠ 11; omega) z
          · omega
        · rcases z with z | z | z
          · obtain ⟨rfl, rfl⟩ := lod_in G1 hj hi hva z
            refine ⟨lt_, ?_, lnm_.mv (fun b x q z => kp2 b x q (fun y => by
              rcases y with y | y | y
              · exact tg_ne q lc_ (by show x.1 ≠ 11; omega) y
              · exact tg_ne q lcb_ (by show x.1 ≠ 11; omega) y
              · exact tg_ne q G1.1 (by show x.1 ≠ 4; omega) y)) (same _ (by omega) (by omega) (by omega)) (fun q hq => same _ (by omega) (by omega) (by omega))⟩
            have e9 := mx2 _ _ (k331 _ _ (k330 _ _ (c329) (by omega)) (by omega)) (by show 11 ≠ 2; omega) (by show 11 ≠ 3; omega) (by show 11 ≠ 16; omega)
            rw [evb] at e9
            rw [same (35 + 4 * i) (by omega) (by omega) (by omega), same (35 + 4 * i + 1) (by omega) (by omega) (by omega), same (35 + 4 * i + 2) (by omega) (by omega) (by omega), fr9 (35 + 4 * i + 3), if_neg (by omega), if_neg (by omega), if_pos rfl]
            exact e9
          · obtain ⟨rfl, rfl⟩ := lod_in G1 hj hi hvb z
            refine ⟨ltb_, ?_, lnb_.mv (fun b x q z => kp2 b x q (fun y => by
              rcases y with y | y | y
              · exact tg_ne q lc_ (by show x.1 ≠ 11; omega) y
              · exact tg_ne q lcb_ (by show x.1 ≠ 11; omega) y
              · exact tg_ne q G1.1 (by show x.1 ≠ 4; omega) y)) (same _ (by omega) (by omega) (by omega)) (fun q hq => same _ (by omega) (by omega) (by omega))⟩
            have e9 := mx2 _ _ (k331 _ _ (c330) (by omega)) (by show 11 ≠ 2; omega) (by show 11 ≠ 3; omega) (by show 11 ≠ 16; omega)
            rw [eva] at e9
            rw [same (35 + 4 * i) (by omega) (by omega) (by omega), same (35 + 4 * i + 1) (by omega) (by omega) (by omega), same (35 + 4 * i + 2) (by omega) (by omega) (by omega), fr9 (35 + 4 * i + 3), if_neg (by omega), if_pos rfl]
            exact e9
          · obtain ⟨x0, p1, p2, p3⟩ := el_tag (G1.2.2.2.2.2.1 j hj i hi)
            have := tgW (fun t => t = 4) p1 z G1.1 rfl
            omega
        · have b4 := I1.1
          have nza : j = 2 → i ≠ va := fun h1 h2 => nz (Or.inl (by rw [h1, h2]))
          have nzb : j = 2 → i ≠ vb := fun h1 h2 => nz (Or.inr (Or.inl (by rw [h1, h2])))
          unfold uE at hq
          rcases j4 hj with rfl | rfl | rfl | rfl
          · exact same q (by omega) (by omega) (by omega)
          · exact same q (by omega) (by omega) (by omega)
          · have n1 := nza rfl; have n2 := nzb rfl; exact same q (by omega) (by omega) (by omega)
          · exact same q (by omega) (by omega) (by omega)
      ·
        have hov3 := ov_t c_4
        refine g_vret rfl dX3_friend_77 ?_
        have eL : frL E.t E.n P1 = frE (ix (ndV 8 12 P1)) (ix (ndV 8 12 S1)) S2 := by unfold frL; rw [← qS1, ← qS2]
        exact lnq_no (c1 := c0) (by rw [← hP1, eL]; exact px_frE (lnq_m 2 ⟨_, _, _, _, _, _, X328⟩)) (fun b x _ q => q) (by rw [← hP1, eL, frE_f]; exact hov3) ⟨_, _, _, _, _, G⟩
    ·
      have hb2 := c_3
      have eC : unP (decide (ndV 8 12 P1 = ndV 8 12 S1)) (wgP 3 (ndP 8 12 S1).a (ndP 8 12 S1)) = frW (ix (ndV 8 12 P1)) (ix (ndV 8 12 S1)) (ndP 8 12 S1) := by rw [un_n f_wgN, eva, evb, ix_nI (by omega), ix_nI (by omega)]; exact (fw_1 hov2 (by rw [fr_nd, hfS1, ← evb]; exact hb2)).symm
      refine g_aload_n dX3_friend_58 2 rfl ?_
      refine g_iconst (x := 3) dX3_friend_59 rfl ?_
      refine g_callV (t_X3_wrong _ EK (⟨_, _, _, _, _, _, X321⟩) 3 (by decide)) (lw_V q678 q680 qs4 q129 q681) okX3_wrong (hrd321) rfl rfl rfl rfl (Nat.le_of_ble_eq_true rfl) dX3_friend_60 (fun v1 h332 _ _ hq => ?_)
      obtain ⟨rfl, Y332⟩ := hq
      show wp Δ (d + 10) muX3_friend 63 [(2, .int (ndV 8 12 S1)), (1, .int (ndV 8 12 P1)), (0, .ref E.rd)] [] h332 _
      obtain ⟨w332, now332, e332, ft332, fp332, Q332, X332⟩ := id Y332
      obtain ⟨hrd332, htk332, T332, ⟨he332, hQe332, hen332, hkk332⟩, hst332, hro332, hsub332, hcr332, hct332, hcp332, hcw332⟩ := id X332
      obtain ⟨num332, z332, le332, hnow332, S332, h3_332, h2_332⟩ := id T332
      obtain ⟨b332, sh332, sz332, B332⟩ := id S332
      refine g_aload_n dX3_friend_63 2 rfl ?_
      refine g_iload_n dX3_friend_64 1 rfl ?_
      refine g_iload_n dX3_friend_65 0 rfl ?_
      refine g_callV (t_X3_unlike _ EK (⟨_, _, _, _, _, _, X332⟩) (ndV 8 12 P1) (ndV 8 12 S1)) (lw_V q990 q992 qs25 q129 q993) okX3_unlike (hrd332) rfl rfl rfl rfl (Nat.le_of_ble_eq_true rfl) dX3_friend_66 (fun v1 h333 _ _ hq => ?_)
      obtain ⟨rfl, Y333⟩ := hq
      show wp Δ (d + 10) muX3_friend 69 [(2, .int (ndV 8 12 S1)), (1, .int (ndV 8 12 P1)), (0, .ref E.rd)] [.int (ndV 8 12 S1)] h333 _
      obtain ⟨w333, now333, e333, ft333, fp333, Q333, X333⟩ := id Y333
      obtain ⟨hrd333, htk333, T333, ⟨he333, hQe333, hen333, hkk333⟩, hst333, hro333, hsub333, hcr333, hct333, hcp333, hcw333⟩ := id X333
      obtain ⟨num333, z333, le333, hnow333, S333, h3_333, h2_333⟩ := id T333
      obtain ⟨b333, sh333, sz333, B333⟩ := id S333
      obtain ⟨S2, qS2⟩ : ∃ S : Pk, S = paP E.t E.n (frW (ix (ndV 8 12 P1)) (ix (ndV 8 12 S1)) (ndP 8 12 S1)) := ⟨_, rfl⟩
      have ZS2 : PX Δ E L h333 c0 S2 := by rw [qS2]; exact (by rw [← eC]; exact Y333)
      have hfS2 : S2.fr = P1.fr := by rw [qS2, fr_pa, fr_fw, fr_nd, hfS1]
      have GS2 : GP Δ E c0 S2.fr EL cp cnt el := by rw [hfS2]; exact G1
      have IS2 : LIq (cnt 0) (cnt 1) (cnt 2) (cnt 3) np nf 13 S2.fr := by rw [hfS2]; exact I1
      have EOS2 : eOk E.n S2 := by rw [qS2]; exact eOk_pa EK.1 (eOk_fw (eOk_nd EOS1))
      obtain ⟨w334, now334, e334, ft334, fp334, Q334, X334⟩ := id ZS2
      obtain ⟨hrd334, htk334, T334, ⟨he334, hQe334, hen334, hkk334⟩, hst334, hro334, hsub334, hcr334, hct334, hcp334, hcw334⟩ := id X334
      obtain ⟨num334, z334, le334, hnow334, S334, h3_334, h2_334⟩ := id T334
      obtain ⟨b334, sh334, sz334, B334⟩ := id S334
      refine g_pop dX3_friend_69 rfl ?_
      refine g_aload_n dX3_friend_70 2 rfl ?_
      refine g_callV (t_X3_isOver _ (⟨_, _, _, _, _, _, X334⟩)) (lw_V q682 q684 qs5 q129 q685) okX3_isOver (hrd334) rfl rfl rfl rfl (Nat.le_of_ble_eq_true rfl) dX3_friend_71 (fun v1 h1 _ _ hq => ?_)
      obtain ⟨rfl, hh⟩ := hq
      rw [hh]
      show wp Δ (d + 10) muX3_friend 74 [(2, .int (ndV 8 12 S1)), (1, .int (ndV 8 12 P1)), (0, .ref E.rd)] [.int (bI (decide (¬ S2.f = 0)))] h333 _
      refine gb_eq (tgt := 78) dX3_friend_74 (by decide) (fun c_5 => ?_) (fun c_5 => ?_)
      ·
        have hov3 := ov_f c_5
        have hfw := hov3
        rw [qS2, f_pa] at hfw
        have hfw := f_fw hfw
        have hov2 := hfw.1
        have hov1 : (ndP 8 12 P1).f = 0 := by
          have q := f_nd hov2
          rw [qS1] at q
          unfold frQ at q
          rw [f_pa] at q
          exact q
        obtain ⟨va, hva, eva⟩ := nd_l I1 (hov1)
        obtain ⟨lt_, lc_, lnm_⟩ := gp_l G1 va hva
        have hva5 : va < 5 := by have := I.1; omega
        obtain ⟨vb, hvb, evb⟩ := nd_l IS1 hov2
        obtain ⟨ltb_, lcb_, lnb_⟩ := gp_l G1 vb hvb
        have hvb5 : vb < 5 := by have := I.1; omega
        have hne : va ≠ vb := by have := hfw.2.2.1; rw [eva, evb, ix_nI (by omega), ix_nI (by omega)] at this; exact this
        have nab : el 2 va ≠ el 2 vb := fun e => hne ((G.2.2.2.2.2.2.1 2 (by omega)).2.2 va vb hva hvb e)
        have nrl : E.rd ≠ el 2 va := tg_ne hrd0 (hsub0 _ _ lc_) (by show 2 ≠ 11; omega)
        have nrg2 : E.rg ≠ el 2 va := tg_ne G.1 lc_ (by show 4 ≠ 11; omega)
        have nrl2 : E.rd ≠ el 2 vb := tg_ne hrd0 (hsub0 _ _ lcb_) (by show 2 ≠ 11; omega)
        have nrg3 : E.rg ≠ el 2 vb := tg_ne G.1 lcb_ (by show 4 ≠ 11; omega)
        have nlo : n0 Δ ≤ el 2 va := by have := (G.2.2.2.2.2.2.1 2 (by omega)).2.1 va hva; omega
        have nlo2 : n0 Δ ≤ el 2 vb := by have := (G.2.2.2.2.2.2.1 2 (by omega)).2.1 vb hvb; omega
        refine g_aload_n dX3_friend_78 2 rfl ?_
        refine gh_get (x := .ref E.rg) f_2_1 q579 (hrd334) dX3_friend_79 rfl ?_
        refine gh_get (x := .ref (E.rg + 4)) f_4_10 q327 (hsub334 _ _ (G.1)) dX3_friend_82 rfl ?_
        refine g_iload_n dX3_friend_85 1 rfl ?_
        refine wp_top (z := .int (nI va)) (congrArg Value.int (eva)) ?_
        obtain ⟨lf_, hl_⟩ := AL_c ((LX.al (G.2.2.2.1 2 (by omega))).mono hsub334)
        refine g_callV (t_J2_get _ ((LX.al (G.2.2.2.1 2 (by omega))).mono hsub334) va (by omega)) (lw_V q974 q750 q751 q127 q752) okJ2_get hl_ rfl rfl rfl rfl (Nat.le_of_ble_eq_true rfl) dX3_friend_86 (fun v1 h1 _ _ hq => ?_)
        obtain ⟨rfl, hh⟩ := hq
        rw [hh]
        show wp Δ (d + 10) muX3_friend 89 [(2, .int (ndV 8 12 S1)), (1, .int (ndV 8 12 P1)), (0, .ref E.rd)] [.ref (el 2 va)] h333 _
        refine g_castS (hsub334 _ _ (lc_)) rfl q928 dX3_friend_89 ?_
        refine g_dup dX3_friend_92 rfl ?_
        refine gh_get (x := .int (P1.fr (35 + 4 * va + 3))) f_11_4 q947 (hsub334 _ _ (lc_)) dX3_friend_93 rfl ?_
        refine g_iconst (x := 1) dX3_friend_96 rfl ?_
        refine g_iload_n dX3_friend_97 0 rfl ?_
        refine g_ishl dX3_friend_98 ?_
        refine g_ior dX3_friend_99 ?_
        refine gh_put (f2 := ob [.ref lt_, .int (P1.fr (35 + 4 * va)), .int (P1.fr (35 + 4 * va + 1)), .int (lpS (P1.fr (35 + 4 * va + 2))), .int ((P1.fr (35 + 4 * va + 3)) ||| (1 <<< ((ndV 8 12 S1) &&& 31)))]) f_11_4 q947 (hsub334 _ _ (lc_)) (by omega) dX3_friend_100 rfl rfl (ob_u [.ref lt_, .int (P1.fr (35 + 4 * va)), .int (P1.fr (35 + 4 * va + 1)), .int (lpS (P1.fr (35 + 4 * va + 2))), .int (P1.fr (35 + 4 * va + 3))] 4 (.int ((P1.fr (35 + 4 * va + 3)) ||| (1 <<< ((ndV 8 12 S1) &&& 31)))) (Nat.le_of_ble_eq_true rfl)) ?_
        refine wp_put (Fr.refl (fun b => b = el 2 va ∨ b = el 2 vb ∨ b = E.rg) _) (fun q => by first | exact absurd q (by omega) | exact Or.inl rfl | exact Or.inr rfl | exact Or.inr (Or.inl rfl) | exact Or.inr (Or.inr rfl) | exact Or.inr ⟨rfl, by omega⟩ | exact rfl | (simp only []; omega)) (hsub334 _ _ (lc_)) (by omega) (fun u335 F335 z335 c335 k335 => ?_)
        refine g_aload_n dX3_friend_103 2 rfl ?_
        refine gh_get (x := .ref E.rg) f_2_1 q579 (k335 _ _ (hrd334) (by omega)) dX3_friend_104 rfl ?_
        refine gh_get (x := .ref (E.rg + 4)) f_4_10 q327 (k335 _ _ (hsub334 _ _ (G.1)) (by omega)) dX3_friend_107 rfl ?_
        refine g_iload_n dX3_friend_110 0 rfl ?_
        refine wp_top (z := .int (nI vb)) (congrArg Value.int (evb)) ?_
        obtain ⟨lf_, hl_⟩ := AL_c ((AL.put ((LX.al (G.2.2.2.1 2 (by omega))).mono hsub334) (hsub334 _ _ (lc_)) ⟨by show 11 ≠ 14; omega, by show 11 ≠ 103; omega⟩ (fun b x q n => k335 b x q n)))
        refine g_callV (t_J2_get _ ((AL.put ((LX.al (G.2.2.2.1 2 (by omega))).mono hsub334) (hsub334 _ _ (lc_)) ⟨by show 11 ≠ 14; omega, by show 11 ≠ 103; omega⟩ (fun b x q n => k335 b x q n))) vb (by omega)) (lw_V q974 q750 q751 q127 q752) okJ2_get hl_ rfl rfl rfl rfl (Nat.le_of_ble_eq_true rfl) dX3_friend_111 (fun v1 h1 _ _ hq => ?_)
        obtain ⟨rfl, hh⟩ := hq
        rw [hh]
        show wp Δ (d + 10) muX3_friend 114 [(2, .int (ndV 8 12 S1)), (1, .int (ndV 8 12 P1)), (0, .ref E.rd)] [.ref (el 2 vb)] u335 _
        refine g_castS (k335 _ _ (hsub334 _ _ (lcb_)) (by omega)) rfl q928 dX3_friend_114 ?_
        refine g_dup dX3_friend_117 rfl ?_
        refine gh_get (x := .int (P1.fr (35 + 4 * vb + 3))) f_11_4 q947 (k335 _ _ (hsub334 _ _ (lcb_)) (by omega)) dX3_friend_118 rfl ?_
        refine g_iconst (x := 1) dX3_friend_121 rfl ?_
        refine g_iload_n dX3_friend_122 1 rfl ?_
        refine g_ishl dX3_friend_123 ?_
        refine g_ior dX3_friend_124 ?_
        refine gh_put (f2 := ob [.ref ltb_, .int (P1.fr (35 + 4 * vb)), .int (P1.fr (35 + 4 * vb + 1)), .int (lpS (P1.fr (35 + 4 * vb + 2))), .int ((P1.fr (35 + 4 * vb + 3)) ||| (1 <<< ((ndV 8 12 P1) &&& 31)))]) f_11_4 q947 (k335 _ _ (hsub334 _ _ (lcb_)) (by omega)) (by omega) dX3_friend_125 rfl rfl (ob_u [.ref ltb_, .int (P1.fr (35 + 4 * vb)), .int (P1.fr (35 + 4 * vb + 1)), .int (lpS (P1.fr (35 + 4 * vb + 2))), .int (P1.fr (35 + 4 * vb + 3))] 4 (.int ((P1.fr (35 + 4 * vb + 3)) ||| (1 <<< ((ndV 8 12 P1) &&& 31)))) (Nat.le_of_ble_eq_true rfl)) ?_
        refine wp_put F335 (fun q => by first | exact absurd q (by omega) | exact Or.inl rfl | exact Or.inr rfl | exact Or.inr (Or.inl rfl) | exact Or.inr (Or.inr rfl) | exact Or.inr ⟨rfl, by omega⟩ | exact rfl | (simp only []; omega)) (k335 _ _ (hsub334 _ _ (lcb_)) (by omega)) (by omega) (fun u336 F336 z336 c336 k336 => ?_)
        refine g_aload_n dX3_friend_128 2 rfl ?_
        refine gh_get (x := .ref E.rg) f_2_1 q579 (k336 _ _ (k335 _ _ (hrd334) (by omega)) (by omega)) dX3_friend_129 rfl ?_
        refine g_dup dX3_friend_132 rfl ?_
        refine gh_get (x := .int (P.fr 8)) f_4_5 q308 (k336 _ _ (k335 _ _ (hsub334 _ _ (G.1)) (by omega)) (by omega)) dX3_friend_133 rfl ?_
        refine g_iconst (x := 1) dX3_friend_136 rfl ?_
        refine g_iadd dX3_friend_137 ?_
        refine gh_put (f2 := ob [.int (P.fr 0), .int (P.fr 1), .int (P.fr 2), .int (P.fr 3), .int (P.fr 4), .int ((P.fr 8) + 1), .int (P.fr 9), .ref (E.rg + 1), .ref (E.rg + 2), .ref (E.rg + 3), .ref (E.rg + 4), .ref (E.rg + 5)]) f_4_5 q308 (k336 _ _ (k335 _ _ (hsub334 _ _ (G.1)) (by omega)) (by omega)) (by omega) dX3_friend_138 rfl rfl (ob_u [.int (P.fr 0), .int (P.fr 1), .int (P.fr 2), .int (P.fr 3), .int (P.fr 4), .int (P.fr 8), .int (P.fr 9), .ref (E.rg + 1), .ref (E.rg + 2), .ref (E.rg + 3), .ref (E.rg + 4), .ref (E.rg + 5)] 5 (.int ((P.fr 8) + 1)) (Nat.le_of_ble_eq_true rfl)) ?_
        refine wp_put F336 (fun q => by first | exact absurd q (by omega) | exact Or.inl rfl | exact Or.inr rfl | exact Or.inr (Or.inl rfl) | exact Or.inr (Or.inr rfl) | exact Or.inr ⟨rfl, by omega⟩ | exact rfl | (simp only []; omega)) (k336 _ _ (k335 _ _ (hsub334 _ _ (G.1)) (by omega)) (by omega)) (by omega) (fun u337 F337 z337 c337 k337 => ?_)
        refine g_vret rfl dX3_friend_141 ?_
        have eL : frL E.t E.n P1 = icP 8 (orF vb va (orF va vb S2)) := by
          unfold frL frE
          rw [← qS1, ← qS2, eva, evb, ix_nI (by omega), ix_nI (by omega), if_pos hov3]
        have fr9 : ∀ q, (frL E.t E.n P1).fr q = if q = 8 then P1.fr 8 + 1 else if q = 35 + 4 * vb + 3 then P1.fr (35 + 4 * vb + 3) ||| (1 : Int32) <<< (nI va &&& 31) else if q = 35 + 4 * va + 3 then P1.fr (35 + 4 * va + 3) ||| (1 : Int32) <<< (nI vb &&& 31) else P1.fr q := by rw [eL]; exact fr_or hfS2 hne
        have same : ∀ q, q ≠ 8 → q ≠ 35 + 4 * vb + 3 → q ≠ 35 + 4 * va + 3 → (frL E.t E.n P1).fr q = P1.fr q := fun q h1 h2 h3 => by rw [fr9, if_neg h1, if_neg h2, if_neg h3]
        obtain ⟨c2, Y2, kp2, mx2⟩ := px_gen (⟨_, _, _, _, _, _, X334⟩ : PX Δ E L h333 c0 S2) (F337.le (by omega) (by omega) (fun _ _ q => q)) (fun b x q z => by
          rcases z with z | z | z
          · exact tgW R5 q z (hsub334 _ _ lc_) ⟨by show 11 ≠ 2; omega, by show 11 ≠ 3; omega, by show 11 ≠ 5; omega, by show 11 ≠ 16; omega, by show 11 ≠ 102; omega⟩
          · exact tgW R5 q z (hsub334 _ _ lcb_) ⟨by show 11 ≠ 2; omega, by show 11 ≠ 3; omega, by show 11 ≠ 5; omega, by show 11 ≠ 16; omega, by show 11 ≠ 102; omega⟩
          · exact tgW R5 q z (hsub334 _ _ G1.1) ⟨by show 4 ≠ 2; omega, by show 4 ≠ 3; omega, by show 4 ≠ 5; omega, by show 4 ≠ 16; omega, by show 4 ≠ 102; omega⟩)
        refine lnq_mk (c1 := c2) (by rw [← hP1, eL]; exact px_ic (px_sf (px_sf (lnq_m 1 Y2)))) (fun b x hb q => kp2 b x q (fun z => by have g8 := (G.2.2.2.2.2.2.1 2 (by omega)).2.1; have := g8 va hva; have := g8 vb hvb; rcases z with z | z | z <;> omega)) ?_
        rw [← hP1]
        refine ⟨EL, cp, cnt, el, gp_keep G1 kp2 (fun b x q z => z.elim (fun z => tgW R4 q z (lc_) ⟨by show 11 ≠ 14; omega, by show 11 ≠ 103; omega, by show 11 ≠ 16; omega, by show 11 ≠ 102; omega⟩) (fun z => z.elim (fun z => tgW R4 q z (lcb_) ⟨by show 11 ≠ 14; omega, by show 11 ≠ 103; omega, by show 11 ≠ 16; omega, by show 11 ≠ 102; omega⟩) (fun z => tgW R4 q z (G1.1) ⟨by show 4 ≠ 14; omega, by show 4 ≠ 103; omega, by show 4 ≠ 16; omega, by show 4 ≠ 102; omega⟩))) ?_ ?_ ⟨same 5 (by omega) (by omega) (by omega), same 6 (by omega) (by omega) (by omega), same 7 (by omega) (by omega) (by omega), same 10 (by omega) (by omega) (by omega)⟩ (fun j i hj hi => ⟨fun z => ?_, fun nz q hq => ?_⟩) (fun l h1 h2 => by rw [same _ (by omega) (by omega) (by omega), same _ (by omega) (by omega) (by omega)]; exact G1.2.2.2.2.2.2.2 l h1 h2)⟩
        · unfold rgO
          rw [same 0 (by omega) (by omega) (by omega), same 1 (by omega) (by omega) (by omega), same 2 (by omega) (by omega) (by omega), same 3 (by omega) (by omega) (by omega), same 4 (by omega) (by omega) (by omega), same 9 (by omega) (by omega) (by omega), fr9 8, if_pos rfl]
          rw [hfr]
          exact mx2 _ _ (c337) (by show 4 ≠ 2; omega) (by show 4 ≠ 3; omega) (by show 4 ≠ 16; omega)
        · obtain ⟨pf, np_, g1, g2, g3, g4⟩ := G1.2.1
          refine ⟨pf, np_, kp2 _ _ g1 (fun z => ?_), (same 9 (by omega) (by omega) (by omega)).trans g2, g3, fun i hi => (g4 i hi).trans (same _ (by omega) (by omega) (by omega)).symm⟩
          rcases z with z | z | z
          · exact tg_ne g1 lc_ (by show 100 ≠ 11; omega) z
          · exact tg_ne g1 lcb_ (by show 100 ≠ 11; omega) z
          · omega
        · rcases z with z | z | z
          · obtain ⟨rfl, rfl⟩ := lod_in G1 hj hi hva z
            refine ⟨lt_, ?_, lnm_.mv (fun b x q z => kp2 b x q (fun y => by
              rcases y with y | y | y
              · exact tg_ne q lc_ (by show x.1 ≠ 11; omega) y
              · exact tg_ne q lcb_ (by show x.1 ≠ 11; omega) y
              · exact tg_ne q G1.1 (by show x.1 ≠ 4; omega) y)) (same _ (by omega) (by omega) (by omega)) (fun q hq => same _ (by omega) (by omega) (by omega))⟩
            have e9 := mx2 _ _ (k337 _ _ (k336 _ _ (c335) (by omega)) (by omega)) (by show 11 ≠ 2; omega) (by show 11 ≠ 3; omega) (by show 11 ≠ 16; omega)
            rw [evb] at e9
            rw [same (35 + 4 * i) (by omega) (by omega) (by omega), same (35 + 4 * i + 1) (by omega) (by omega) (by omega), same (35 + 4 * i + 2) (by omega) (by omega) (by omega), fr9 (35 + 4 * i + 3), if_neg (by omega), if_neg (by omega), if_pos rfl]
            exact e9
          · obtain ⟨rfl, rfl⟩ := lod_in G1 hj hi hvb z
            refine ⟨ltb_, ?_, lnb_.mv (fun b x q z => kp2 b x q (fun y => by
              rcases y with y | y | y
              · exact tg_ne q lc_ (by show x.1 ≠ 11; omega) y
              · exact tg_ne q lcb_ (by show x.1 ≠ 11; omega) y
              · exact tg_ne q G1.1 (by show x.1 ≠ 4; omega) y)) (same _ (by omega) (by omega) (by omega)) (fun q hq => same _ (by omega) (by omega) (by omega))⟩
            have e9 := mx2 _ _ (k337 _ _ (c336) (by omega)) (by show 11 ≠ 2; omega) (by show 11 ≠ 3; omega) (by show 11 ≠ 16; omega)
            rw [eva] at e9
            rw [same (35 + 4 * i) (by omega) (by omega) (by omega), same (35 + 4 * i + 1) (by omega) (by omega) (by omega), same (35 + 4 * i + 2) (by omega) (by omega) (by omega), fr9 (35 + 4 * i + 3), if_neg (by omega), if_pos rfl]
            exact e9
          · obtain ⟨x0, p1, p2, p3⟩ := el_tag (G1.2.2.2.2.2.1 j hj i hi)
            have := tgW (fun t => t = 4) p1 z G1.1 rfl
            omega
        · have b4 := I1.1
          have nza : j = 2 → i ≠ va := fun h1 h2 => nz (Or.inl (by rw [h1, h2]))
          have nzb : j = 2 → i ≠ vb := fun h1 h2 => nz (Or.inr (Or.inl (by rw [h1, h2])))
          unfold uE at hq
          rcases j4 hj with rfl | rfl | rfl | rfl
          · exact same q (by omega) (by omega) (by omega)
          · exact same q (by omega) (by omega) (by omega)
          · have n1 := nza rfl; have n2 := nzb rfl; exact same q (by omega) (by omega) (by omega)
          · exact same q (by omega) (by omega) (by omega)
      ·
        have hov3 := ov_t c_5
        refine g_vret rfl dX3_friend_77 ?_
        have eL : frL E.t E.n P1 = frE (ix (ndV 8 12 P1)) (ix (ndV 8 12 S1)) S2 := by unfold frL; rw [← qS1, ← qS2]
        exact lnq_no (c1 := c0) (by rw [← hP1, eL]; exact px_frE (lnq_m 2 ⟨_, _, _, _, _, _, X334⟩)) (fun b x _ q => q) (by rw [← hP1, eL, frE_f]; exact hov3) ⟨_, _, _, _, _, G⟩
