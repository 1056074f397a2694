theorem lp_s {v : Nat} (h : v < 4) : lpS (nI v + 1) = nI v := by
  have : ∀ v : Fin 4, lpS (nI v.val + 1) = nI v.val := by decide +kernel
  exact this ⟨v, h⟩
/-- a lodger's cell is no other's -/
theorem lod_in {Δ : Cx} {E : Ev} {c : Nat → Option Cel} {fr : Nat → Int32} {EL cp cnt : Nat → Nat} {el : Nat → Nat → Nat} (G : GP Δ E c fr EL cp cnt el) {j i v : Nat} (hj : j < 4) (hi : i < cnt j) (hv : v < cnt 2) (z : el j i = el 2 v) : j = 2 ∧ i = v := by
  obtain ⟨t0, p0, -⟩ := gp_l G v hv
  rcases j4 hj with rfl | rfl | rfl | rfl
  · obtain ⟨t1, p1, -⟩ := gp_b G i hi
    exact absurd z (tg_ne p1 p0 (by show 6 ≠ 11; omega))
  · obtain ⟨kd, t1, k3, -, p1, -⟩ := gp_h G i hi
    exact absurd z (tg_ne p1 p0 (by show 7 + kd ≠ 11; omega))
  · exact ⟨rfl, (G.2.2.2.2.2.2.1 2 (by omega)).2.2 i v hi hv z⟩
  · have p1 := gp_s G i hi
    exact absurd z (tg_ne p1 p0 (by show 12 ≠ 11; omega))
set_option maxRecDepth 100000 in
theorem t_X3_aboard {Δ : Cx} {h : Hp} (d : Nat) {E : Ev} {L : Nat} {c0 : Nat → Option Cel} {P : Pk} (EK : EOK Δ E) (X : PX Δ E L h c0 P) {EL cp cnt : Nat → Nat} {el : Nat → Nat → Nat} {np nf : Nat} (G : GP Δ E c0 P.fr EL cp cnt el) (I : LIq (cnt 0) (cnt 1) (cnt 2) (cnt 3) np nf 13 P.fr) (EO : eOk E.n P) (hi : isT 1 P = true) : mt Δ (d + 10) muX3_aboard [.ref E.rd] h (LNQ Δ E L c0 (abL E.t E.n (beP E.t E.n 1 true P))) := by
  obtain ⟨w0, now0, e0, ft0, fp0, Q0, X0⟩ := id X
  obtain ⟨hrd0, htk0, T0, ⟨he0, hQe0, hen0, hkk0⟩, hst0, hro0, hsub0, hcr0, hct0, hcp0, hcw0⟩ := id X0
  obtain ⟨num0, z0, le0, hnow0, S0, h3_0, h2_0⟩ := id T0
  obtain ⟨b0, sh0, sz0, B0⟩ := id S0
  have hnrg : n0 Δ ≤ E.rg := EK.2.2.2.2.2.2
  have lrg := ce_lt (hsub0 _ _ G.1)
  have ned : E.rd ≠ E.rg := tg_ne hrd0 (hsub0 _ _ G.1) (by show 2 ≠ 4; omega)
  refine mt_of (lv0 := [(0, .ref E.rd)]) rfl rfl (Nat.le_of_ble_eq_true rfl) rfl ?_
  refine g_aload_n dX3_aboard_0 0 rfl ?_
  refine g_iconst (x := -1) dX3_aboard_1 rfl ?_
  refine g_iconst (x := 0) dX3_aboard_2 rfl ?_
  refine g_callV (t_X3_begins _ EK (⟨_, _, _, _, _, _, X0⟩) (G.1) rfl (-1) 0) (lw_V q721 q723 qs11 q129 q724) okX3_begins (hrd0) rfl rfl rfl rfl (Nat.le_of_ble_eq_true rfl) dX3_aboard_3 (fun v1 h273 _ _ hq => ?_)
  obtain ⟨rfl, Y273⟩ := hq
  show wp Δ (d + 10) muX3_aboard 6 [(0, .ref E.rd)] [] h273 _
  obtain ⟨w273, now273, e273, ft273, fp273, Q273, X273⟩ := id Y273
  obtain ⟨hrd273, htk273, T273, ⟨he273, hQe273, hen273, hkk273⟩, hst273, hro273, hsub273, hcr273, hct273, hcp273, hcw273⟩ := id X273
  obtain ⟨num273, z273, le273, hnow273, S273, h3_273, h2_273⟩ := id T273
  obtain ⟨b273, sh273, sz273, B273⟩ := id S273
  have eP : paP E.t E.n (beC (decide (¬ (-1 : Int32) = 0)) P) = beP E.t E.n 1 true P := by unfold beP; rw [if_pos hi]; exact congrArg (fun b => paP E.t E.n (beC b P)) (by decide)
  obtain ⟨P1, hP1⟩ : ∃ S : Pk, S = beP E.t E.n 1 true P := ⟨_, rfl⟩
  have Z1 : PX Δ E L h273 c0 P1 := by rw [hP1, ← eP]; exact Y273
  have hfr : P1.fr = P.fr := by rw [hP1]; exact fr_be
  have G1 : GP Δ E c0 P1.fr EL cp cnt el := by rw [hfr]; exact G
  have I1 : LIq (cnt 0) (cnt 1) (cnt 2) (cnt 3) np nf 13 P1.fr := by rw [hfr]; exact I
  have EO1 : eOk E.n P1 := by rw [hP1]; exact eOk_be EK.1 EO
  obtain ⟨w274, now274, e274, ft274, fp274, Q274, X274⟩ := id Z1
  obtain ⟨hrd274, htk274, T274, ⟨he274, hQe274, hen274, hkk274⟩, hst274, hro274, hsub274, hcr274, hct274, hcp274, hcw274⟩ := id X274
  obtain ⟨num274, z274, le274, hnow274, S274, h3_274, h2_274⟩ := id T274
  obtain ⟨b274, sh274, sz274, B274⟩ := id S274
  refine g_aload_n dX3_aboard_6 0 rfl ?_
  refine g_callV (t_X3_knownLodger _ EK (⟨_, _, _, _, _, _, X274⟩) G1 I1 EO1) (lw_V q966 q968 qs21 q129 q969) okX3_knownLodger (hrd274) rfl rfl rfl rfl (Nat.le_of_ble_eq_true rfl) dX3_aboard_7 (fun v1 h275 _ _ hq => ?_)
  obtain ⟨rfl, Y275⟩ := hq
  show wp Δ (d + 10) muX3_aboard 10 [(0, .ref E.rd)] [.int (ndV 8 12 P1)] h275 _
  obtain ⟨w275, now275, e275, ft275, fp275, Q275, X275⟩ := id Y275
  obtain ⟨hrd275, htk275, T275, ⟨he275, hQe275, hen275, hkk275⟩, hst275, hro275, hsub275, hcr275, hct275, hcp275, hcw275⟩ := id X275
  obtain ⟨num275, z275, le275, hnow275, S275, h3_275, h2_275⟩ := id T275
  obtain ⟨b275, sh275, sz275, B275⟩ := id S275
  refine g_istore_n (lv' := [(1, .int (ndV 8 12 P1)), (0, .ref E.rd)]) dX3_aboard_10 (by decide) rfl ?_
  refine g_aload_n dX3_aboard_11 1 rfl ?_
  refine g_callV (t_X3_isOver _ (⟨_, _, _, _, _, _, X275⟩)) (lw_V q682 q684 qs5 q129 q685) okX3_isOver (hrd275) rfl rfl rfl rfl (Nat.le_of_ble_eq_true rfl) dX3_aboard_12 (fun v1 h1 _ _ hq => ?_)
  obtain ⟨rfl, hh⟩ := hq
  rw [hh]
  show wp Δ (d + 10) muX3_aboard 15 [(1, .int (ndV 8 12 P1)), (0, .ref E.rd)] [.int (bI (decide (¬ (ndP 8 12 P1).f = 0)))] h275 _
  refine gb_ne (tgt := 45) dX3_aboard_15 (by decide) (fun c_1 => ?_) (fun c_1 => ?_)
  ·
    have hov1 := ov_t c_1
    have eA : aaW (ix (ndV 8 12 P1)) (ndP 8 12 P1) = ndP 8 12 P1 := aa_n hov1
    refine g_aload_n dX3_aboard_45 1 rfl ?_
    refine g_callV (t_X3_on _ EK (⟨_, _, _, _, _, _, X275⟩)) (lw_V q686 q688 qs6 q129 q689) okX3_on (hrd275) rfl rfl rfl rfl (Nat.le_of_ble_eq_true rfl) dX3_aboard_46 (fun v1 h276 _ _ hq => ?_)
    obtain ⟨rfl, Y276⟩ := hq
    show wp Δ (d + 10) muX3_aboard 49 [(1, .int (ndV 8 12 P1)), (0, .ref E.rd)] [] h276 _
    obtain ⟨w276, now276, e276, ft276, fp276, Q276, X276⟩ := id Y276
    obtain ⟨hrd276, htk276, T276, ⟨he276, hQe276, hen276, hkk276⟩, hst276, hro276, hsub276, hcr276, hct276, hcp276, hcw276⟩ := id X276
    obtain ⟨num276, z276, le276, hnow276, S276, h3_276, h2_276⟩ := id T276
    obtain ⟨b276, sh276, sz276, B276⟩ := id S276
    obtain ⟨S1, qS1⟩ : ∃ S : Pk, S = abQ E.t E.n P1 := ⟨_, rfl⟩
    have ZS1 : PX Δ E L h276 c0 S1 := by rw [qS1]; exact (by unfold abQ; rw [eA]; exact Y276)
    have hfS1 : S1.fr = P1.fr := by rw [qS1]; unfold abQ; rw [fr_pa, fr_aa, fr_nd]
    have GS1 : GP Δ E c0 S1.fr EL cp cnt el := by rw [hfS1]; exact G1
    have IS1 : LIq (cnt 0) (cnt 1) (cnt 2) (cnt 3) np nf 13 S1.fr := by rw [hfS1]; exact I1
    have EOS1 : eOk E.n S1 := by rw [qS1]; exact (by unfold abQ; exact eOk_pa EK.1 (eOk_aa (eOk_nd EO1)))
    obtain ⟨w277, now277, e277, ft277, fp277, Q277, X277⟩ := id ZS1
    obtain ⟨hrd277, htk277, T277, ⟨he277, hQe277, hen277, hkk277⟩, hst277, hro277, hsub277, hcr277, hct277, hcp277, hcw277⟩ := id X277
    obtain ⟨num277, z277, le277, hnow277, S277, h3_277, h2_277⟩ := id T277
    obtain ⟨b277, sh277, sz277, B277⟩ := id S277
    refine g_aload_n dX3_aboard_49 1 rfl ?_
    refine g_callV (t_X3_knownHouse _ EK (⟨_, _, _, _, _, _, X277⟩) GS1 IS1 EOS1) (lw_V q975 q977 qs23 q129 q978) okX3_knownHouse (hrd277) rfl rfl rfl rfl (Nat.le_of_ble_eq_true rfl) dX3_aboard_50 (fun v1 h278 _ _ hq => ?_)
    obtain ⟨rfl, Y278⟩ := hq
    show wp Δ (d + 10) muX3_aboard 53 [(1, .int (ndV 8 12 P1)), (0, .ref E.rd)] [.int (ndV 0 3 S1)] h278 _
    obtain ⟨w278, now278, e278, ft278, fp278, Q278, X278⟩ := id Y278
    obtain ⟨hrd278, htk278, T278, ⟨he278, hQe278, hen278, hkk278⟩, hst278, hro278, hsub278, hcr278, hct278, hcp278, hcw278⟩ := id X278
    obtain ⟨num278, z278, le278, hnow278, S278, h3_278, h2_278⟩ := id T278
    obtain ⟨b278, sh278, sz278, B278⟩ := id S278
    refine g_istore_n (lv' := [(2, .int (ndV 0 3 S1)), (1, .int (ndV 8 12 P1)), (0, .ref E.rd)]) dX3_aboard_53 (by decide) rfl ?_
    refine g_aload_n dX3_aboard_54 2 rfl ?_
    refine g_callV (t_X3_isOver _ (⟨_, _, _, _, _, _, X278⟩)) (lw_V q682 q684 qs5 q129 q685) okX3_isOver (hrd278) rfl rfl rfl rfl (Nat.le_of_ble_eq_true rfl) dX3_aboard_55 (fun v1 h1 _ _ hq => ?_)
    obtain ⟨rfl, hh⟩ := hq
    rw [hh]
    show wp Δ (d + 10) muX3_aboard 58 [(2, .int (ndV 0 3 S1)), (1, .int (ndV 8 12 P1)), (0, .ref E.rd)] [.int (bI (decide (¬ (ndP 0 3 S1).f = 0)))] h278 _
    refine gb_ne (tgt := 95) dX3_aboard_58 (by decide) (fun c_2 => ?_) (fun c_2 => ?_)
    ·
      have hov2 := ov_t c_2
      have eB : abW (cnH P1.fr (nI (ix (ndV 0 3 S1)) + 1) (ix (P1.fr 7))) (ix (ndV 0 3 S1)) (ndP 0 3 S1) = ndP 0 3 S1 := ab_n hov2
      refine g_aload_n dX3_aboard_95 2 rfl ?_
      refine g_callV (t_X3_on _ EK (⟨_, _, _, _, _, _, X278⟩)) (lw_V q686 q688 qs6 q129 q689) okX3_on (hrd278) rfl rfl rfl rfl (Nat.le_of_ble_eq_true rfl) dX3_aboard_96 (fun v1 h279 _ _ hq => ?_)
      obtain ⟨rfl, Y279⟩ := hq
      show wp Δ (d + 10) muX3_aboard 99 [(2, .int (ndV 0 3 S1)), (1, .int (ndV 8 12 P1)), (0, .ref E.rd)] [] h279 _
      obtain ⟨w279, now279, e279, ft279, fp279, Q279, X279⟩ := id Y279
      obtain ⟨hrd279, htk279, T279, ⟨he279, hQe279, hen279, hkk279⟩, hst279, hro279, hsub279, hcr279, hct279, hcp279, hcw279⟩ := id X279
      obtain ⟨num279, z279, le279, hnow279, S279, h3_279, h2_279⟩ := id T279
      obtain ⟨b279, sh279, sz279, B279⟩ := id S279
      obtain ⟨S2, qS2⟩ : ∃ S : Pk, S = paP E.t E.n (abW (cnH P1.fr (nI (ix (ndV 0 3 S1)) + 1) (ix (P1.fr 7))) (ix (ndV 0 3 S1)) (ndP 0 3 S1)) := ⟨_, rfl⟩
      have ZS2 : PX Δ E L h279 c0 S2 := by rw [qS2]; exact (by rw [eB]; exact Y279)
      have hfS2 : S2.fr = P1.fr := by rw [qS2, fr_pa, fr_abw, fr_nd, hfS1]
      have GS2 : GP Δ E c0 S2.fr EL cp cnt el := by rw [hfS2]; exact G1
      have IS2 : LIq (cnt 0) (cnt 1) (cnt 2) (cnt 3) np nf 13 S2.fr := by rw [hfS2]; exact I1
      have EOS2 : eOk E.n S2 := by rw [qS2]; exact eOk_pa EK.1 (eOk_aw (eOk_nd EOS1))
      obtain ⟨w280, now280, e280, ft280, fp280, Q280, X280⟩ := id ZS2
      obtain ⟨hrd280, htk280, T280, ⟨he280, hQe280, hen280, hkk280⟩, hst280, hro280, hsub280, hcr280, hct280, hcp280, hcw280⟩ := id X280
      obtain ⟨num280, z280, le280, hnow280, S280, h3_280, h2_280⟩ := id T280
      obtain ⟨b280, sh280, sz280, B280⟩ := id S280
      refine g_aload_n dX3_aboard_99 2 rfl ?_
      refine g_callV (t_X3_isOver _ (⟨_, _, _, _, _, _, X280⟩)) (lw_V q682 q684 qs5 q129 q685) okX3_isOver (hrd280) rfl rfl rfl rfl (Nat.le_of_ble_eq_true rfl) dX3_aboard_100 (fun v1 h1 _ _ hq => ?_)
      obtain ⟨rfl, hh⟩ := hq
      rw [hh]
      show wp Δ (d + 10) muX3_aboard 103 [(2, .int (ndV 0 3 S1)), (1, .int (ndV 8 12 P1)), (0, .ref E.rd)] [.int (bI (decide (¬ S2.f = 0)))] h279 _
      refine gb_ne (tgt := 124) dX3_aboard_103 (by decide) (fun c_3 => ?_) (fun c_3 => ?_)
      ·
        have hov3 := ov_t c_3
        refine g_vret rfl dX3_aboard_124 ?_
        have eL : abL E.t E.n P1 = abE (ix (ndV 8 12 P1)) (ix (ndV 0 3 S1)) S2 := by unfold abL; rw [← qS1, ← qS2]
        exact lnq_no (c1 := c0) (by rw [← hP1, eL]; exact px_abE (lnq_m 2 ⟨_, _, _, _, _, _, X280⟩)) (fun b x _ q => q) (by rw [← hP1, eL, abE_f]; exact hov3) ⟨_, _, _, _, _, G⟩
      ·
        have hov3 := ov_f c_3
        have hov2 : (ndP 0 3 S1).f = 0 := by
          have q := hov3
          rw [qS2, f_pa] at q
          exact (f_aw q).1
        have hov1 : (ndP 8 12 P1).f = 0 := by
          have q := f_nd hov2
          rw [qS1] at q
          exact f_abS q
        obtain ⟨vl, hvl, evl⟩ := nd_l I1 (hov1)
        obtain ⟨lt_, lc_, lnm_⟩ := gp_l G1 vl hvl
        have hvl5 : vl < 5 := by have := I.1; omega
        obtain ⟨vh, hvh, evh⟩ := nd_h IS1 hov2
        have hvh3 : vh < 4 := by have := I.1; omega
        have nrl : E.rd ≠ el 2 vl := tg_ne hrd0 (hsub0 _ _ lc_) (by show 2 ≠ 11; omega)
        have nrg2 : E.rg ≠ el 2 vl := tg_ne G.1 lc_ (by show 4 ≠ 11; omega)
        have nlo : n0 Δ ≤ el 2 vl := by have := (G.2.2.2.2.2.2.1 2 (by omega)).2.1 vl hvl; omega
        refine g_aload_n dX3_aboard_106 2 rfl ?_
        refine gh_get (x := .ref E.rg) f_2_1 q579 (hrd280) dX3_aboard_107 rfl ?_
        refine gh_get (x := .ref (E.rg + 4)) f_4_10 q327 (hsub280 _ _ (G.1)) dX3_aboard_110 rfl ?_
        refine g_iload_n dX3_aboard_113 1 rfl ?_
        refine wp_top (z := .int (nI vl)) (congrArg Value.int (evl)) ?_
        obtain ⟨lf_, hl_⟩ := AL_c ((LX.al (G.2.2.2.1 2 (by omega))).mono hsub280)
        refine g_callV (t_J2_get _ ((LX.al (G.2.2.2.1 2 (by omega))).mono hsub280) vl (by omega)) (lw_V q974 q750 q751 q127 q752) okJ2_get hl_ rfl rfl rfl rfl (Nat.le_of_ble_eq_true rfl) dX3_aboard_114 (fun v1 h1 _ _ hq => ?_)
        obtain ⟨rfl, hh⟩ := hq
        rw [hh]
        show wp Δ (d + 10) muX3_aboard 117 [(2, .int (ndV 0 3 S1)), (1, .int (ndV 8 12 P1)), (0, .ref E.rd)] [.ref (el 2 vl)] h279 _
        refine g_castS (hsub280 _ _ (lc_)) rfl q928 dX3_aboard_117 ?_
        refine g_iload_n dX3_aboard_120 0 rfl ?_
        refine gh_put (f2 := ob [.ref lt_, .int (P1.fr (35 + 4 * vl)), .int (P1.fr (35 + 4 * vl + 1)), .int (ndV 0 3 S1), .int (P1.fr (35 + 4 * vl + 3))]) f_11_3 q945 (hsub280 _ _ (lc_)) (by omega) dX3_aboard_121 rfl rfl (ob_u [.ref lt_, .int (P1.fr (35 + 4 * vl)), .int (P1.fr (35 + 4 * vl + 1)), .int (lpS (P1.fr (35 + 4 * vl + 2))), .int (P1.fr (35 + 4 * vl + 3))] 3 (.int (ndV 0 3 S1)) (Nat.le_of_ble_eq_true rfl)) ?_
        refine wp_put (Fr.refl (fun b => b = el 2 vl) _) (fun q => by first | exact absurd q (by omega) | exact Or.inl rfl | exact Or.inr rfl | exact Or.inr (Or.inl rfl) | exact Or.inr (Or.inr rfl) | exact Or.inr ⟨rfl, by omega⟩ | exact rfl | (simp only []; omega)) (hsub280 _ _ (lc_)) (by omega) (fun u281 F281 z281 c281 k281 => ?_)
        refine g_vret rfl dX3_aboard_124 ?_
        have eL : abL E.t E.n P1 = sfP (35 + 4 * vl + 2) (nI vh + 1) S2 := by
          unfold abL abE
          rw [← qS1, ← qS2, evl, evh, ix_nI (by omega), ix_nI (by omega), if_pos hov3]
        have fr9 : ∀ q, (abL E.t E.n P1).fr q = if q = 35 + 4 * vl + 2 then nI vh + 1 else P1.fr q := fun q => by
          rw [eL]
          show (if q = 35 + 4 * vl + 2 then nI vh + 1 else S2.fr q) = _
          rw [hfS2]
        have same : ∀ q, q ≠ 35 + 4 * vl + 2 → (abL E.t E.n P1).fr q = P1.fr q := fun q h1 => by rw [fr9, if_neg h1]
        obtain ⟨c2, Y2, kp2, mx2⟩ := px_gen (⟨_, _, _, _, _, _, X280⟩ : PX Δ E L h279 c0 S2) (F281.le (by omega) (by omega) (fun _ _ q => q)) (fun b x q z => by
          exact tgW R5 q z (hsub280 _ _ lc_) ⟨by show 11 ≠ 2; omega, by show 11 ≠ 3; omega, by show 11 ≠ 5; omega, by show 11 ≠ 16; omega, by show 11 ≠ 102; omega⟩)
        refine lnq_mk (c1 := c2) (by rw [← hP1, eL]; exact px_sf (lnq_m 1 Y2)) (fun b x hb q => kp2 b x q (fun z => by have z : b = el 2 vl := z; have := (G.2.2.2.2.2.2.1 2 (by omega)).2.1 vl hvl; omega)) ?_
        rw [← hP1]
        refine ⟨EL, cp, cnt, el, gp_keep G1 kp2 (fun b x q z => tgW R4 q z (lc_) ⟨by show 11 ≠ 14; omega, by show 11 ≠ 103; omega, by show 11 ≠ 16; omega, by show 11 ≠ 102; omega⟩) ?_ ?_ ⟨same 5 (by omega), same 6 (by omega), same 7 (by omega), same 10 (by omega)⟩ (fun j i hj hi => ⟨fun z => ?_, fun nz q hq => same q (fun e => ?_)⟩) (fun l h1 h2 => by rw [same _ (by omega), same _ (by omega)]; exact G1.2.2.2.2.2.2.2 l h1 h2)⟩
        · unfold rgO
          rw [same 0 (by omega), same 1 (by omega), same 2 (by omega), same 3 (by omega), same 4 (by omega), same 8 (by omega), same 9 (by omega)]
          exact kp2 _ _ G1.1 (fun z => tg_ne G1.1 lc_ (by show 4 ≠ 11; omega) z)
        · obtain ⟨pf, np_, g1, g2, g3, g4⟩ := G1.2.1
          exact ⟨pf, np_, kp2 _ _ g1 (fun z => tg_ne g1 lc_ (by show 100 ≠ 11; omega) z), (same 9 (by omega)).trans g2, g3, fun i hi => (g4 i hi).trans (same _ (by omega)).symm⟩
        · have z : el j i = el 2 vl := z
          have hji : j = 2 ∧ i = vl := lod_in G1 hj hi hvl z
          obtain ⟨rfl, rfl⟩ := hji
          refine ⟨lt_, ?_, lnm_.mv (fun b x q z => kp2 b x q (fun y => tg_ne q lc_ (by show x.1 ≠ 11; omega) y)) (same _ (by omega)) (fun q hq => same _ (by omega))⟩
          have e9 := mx2 _ _ (c281) (by show 11 ≠ 2; omega) (by show 11 ≠ 3; omega) (by show 11 ≠ 16; omega)
          rw [evh] at e9
          rw [same (35 + 4 * i) (by omega), same (35 + 4 * i + 1) (by omega), same (35 + 4 * i + 3) (by omega), fr9 (35 + 4 * i + 2), if_pos rfl, lp_s hvh3]
          exact e9
        · have b4 := I1.1
          unfold uE at hq
          rcases j4 hj with rfl | rfl | rfl | rfl
          · omega
          · omega
          · exact nz (by rw [show i = vl by omega])
          · omega
    ·
      have hov2 := ov_f c_2
      obtain ⟨vh, hvh, evh⟩ := nd_h IS1 hov2
      obtain ⟨hkd_, ht_, hkd3, _, hc_, _⟩ := gp_h GS1 vh hvh
      have hvh3 : vh < 4 := by have := I.1; omega
      refine g_aload_n dX3_aboard_61 2 rfl ?_
      refine gh_get (x := .ref E.rg) f_2_1 q579 (hrd278) dX3_aboard_62 rfl ?_
      refine g_iload_n dX3_aboard_65 0 rfl ?_
      refine g_callV (t_X5_aboard _ (hf := (fun i => lpS (S1.fr (35 + 4 * i + 2)))) (hsub278 _ _ GS1.1) rfl ((LX.al (GS1.2.2.2.1 2 (by omega))).mono hsub278) (fun i hi => by obtain ⟨t_, q_, _⟩ := gp_l GS1 i hi; exact ⟨t_, _, _, _, hsub278 _ _ q_⟩) (ndV 0 3 S1)) (lw_V q979 q980 q981 q131 q982) okX5_aboard (hsub278 _ _ GS1.1) rfl rfl rfl rfl (Nat.le_of_ble_eq_true rfl) dX3_aboard_66 (fun v1 h1 _ _ hq => ?_)
      obtain ⟨rfl, hh⟩ := hq
      rw [hh]
      show wp Δ (d + 10) muX3_aboard 69 [(2, .int (ndV 0 3 S1)), (1, .int (ndV 8 12 P1)), (0, .ref E.rd)] [.int (cnA (fun i => lpS (S1.fr (35 + 4 * i + 2))) (ndV 0 3 S1) (cnt 2))] h278 _
      refine g_aload_n dX3_aboard_69 2 rfl ?_
      refine gh_get (x := .ref E.rg) f_2_1 q579 (hrd278) dX3_aboard_70 rfl ?_
      refine gh_get (x := .ref (E.rg + 3)) f_4_9 q322 (hsub278 _ _ (G.1)) dX3_aboard_73 rfl ?_
      refine g_iload_n dX3_aboard_76 0 rfl ?_
      refine wp_top (z := .int (nI vh)) (congrArg Value.int (evh)) ?_
      obtain ⟨lf_, hl_⟩ := AL_c ((LX.al (G.2.2.2.1 1 (by omega))).mono hsub278)
      refine g_callV (t_J2_get _ ((LX.al (G.2.2.2.1 1 (by omega))).mono hsub278) vh (by omega)) (lw_V q974 q750 q751 q127 q752) okJ2_get hl_ rfl rfl rfl rfl (Nat.le_of_ble_eq_true rfl) dX3_aboard_77 (fun v1 h1 _ _ hq => ?_)
      obtain ⟨rfl, hh⟩ := hq
      rw [hh]
      show wp Δ (d + 10) muX3_aboard 80 [(2, .int (ndV 0 3 S1)), (1, .int (ndV 8 12 P1)), (0, .ref E.rd)] [.ref (el 1 vh), .int (cnA (fun i => lpS (S1.fr (35 + 4 * i + 2))) (ndV 0 3 S1) (cnt 2))] h278 _
      refine gH_cast hkd3 (hsub278 _ _ (hc_)) q863 dX3_aboard_80 ?_
      refine gh_get (x := .int (S1.fr (19 + 4 * vh + 3))) (fH_3 hkd3) q878 (hsub278 _ _ (hc_)) dX3_aboard_83 rfl ?_
      refine g_icmp_lt (tgt := 95) dX3_aboard_86 (by decide) (fun c_4 => ?_) (fun c_4 => ?_)
      ·
        have hq3 := c_4
        have eB : abW (cnH P1.fr (nI (ix (ndV 0 3 S1)) + 1) (ix (P1.fr 7))) (ix (ndV 0 3 S1)) (ndP 0 3 S1) = ndP 0 3 S1 := by rw [evh, ix_nI (by omega), I1.2.1.2.2.1, ix_nI (by have := I.1; omega), ← cn_eq (bd_lod I1) hvh3 _ (by have := I.1; omega)]; exact ab_1 hov2 (by rw [fr_nd, ← hfS1]; rw [evh] at hq3; exact hq3)
        refine g_aload_n dX3_aboard_95 2 rfl ?_
        refine g_callV (t_X3_on _ EK (⟨_, _, _, _, _, _, X278⟩)) (lw_V q686 q688 qs6 q129 q689) okX3_on (hrd278) rfl rfl rfl rfl (Nat.le_of_ble_eq_true rfl) dX3_aboard_96 (fun v1 h282 _ _ hq => ?_)
        obtain ⟨rfl, Y282⟩ := hq
        show wp Δ (d + 10) muX3_aboard 99 [(2, .int (ndV 0 3 S1)), (1, .int (ndV 8 12 P1)), (0, .ref E.rd)] [] h282 _
        obtain ⟨w282, now282, e282, ft282, fp282, Q282, X282⟩ := id Y282
        obtain ⟨hrd282, htk282, T282, ⟨he282, hQe282, hen282, hkk282⟩, hst282, hro282, hsub282, hcr282, hct282, hcp282, hcw282⟩ := id X282
        obtain ⟨num282, z282, le282, hnow282, S282, h3_282, h2_282⟩ := id T282
        obtain ⟨b282, sh282, sz282, B282⟩ := id S282
        obtain ⟨S2, qS2⟩ : ∃ S : Pk, S = paP E.t E.n (abW (cnH P1.fr (nI (ix (ndV 0 3 S1)) + 1) (ix (P1.fr 7))) (ix (ndV 0 3 S1)) (ndP 0 3 S1)) := ⟨_, rfl⟩
        have ZS2 : PX Δ E L h282 c0 S2 := by rw [qS2]; exact (by rw [eB]; exact Y282)
        have hfS2 : S2.fr = P1.fr := by rw [qS2, fr_pa, fr_abw, fr_nd, hfS1]
        have GS2 : GP Δ E c0 S2.fr EL cp cnt el := by rw [hfS2]; exact G1
        have IS2 : LIq (cnt 0) (cnt 1) (cnt 2) (cnt 3) np nf 13 S2.fr := by rw [hfS2]; exact I1
        have EOS2 : eOk E.n S2 := by rw [qS2]; exact eOk_pa EK.1 (eOk_aw (eOk_nd EOS1))
        obtain ⟨w283, now283, e283, ft283, fp283, Q283, X283⟩ := id ZS2
        obtain ⟨hrd283, htk283, T283, ⟨he283, hQe283, hen283, hkk283⟩, hst283, hro283, hsub283, hcr283, hct283, hcp283, hcw283⟩ := id X283
        obtain ⟨num283, z283, le283, hnow283, S283, h3_283, h2_283⟩ := id T283
        obtain ⟨b283, sh283, sz283, B283⟩ := id S283
        refine g_aload_n dX3_aboard_99 2 rfl ?_
        refine g_callV (t_X3_isOver _ (⟨_, _, _, _, _, _, X283⟩)) (lw_V q682 q684 qs5 q129 q685) okX3_isOver (hrd283) rfl rfl rfl rfl (Nat.le_of_ble_eq_true rfl) dX3_aboard_100 (fun v1 h1 _ _ hq => ?_)
        obtain ⟨rfl, hh⟩ := hq
        rw [hh]
        show wp Δ (d + 10) muX3_aboard 103 [(2, .int (ndV 0 3 S1)), (1, .int (ndV 8 12 P1)), (0, .ref E.rd)] [.int (bI (decide (¬ S2.f = 0)))] h282 _
        refine gb_ne (tgt := 124) dX3_aboard_103 (by decide) (fun c_5 => ?_) (fun c_5 => ?_)
        ·
          have hov3 := ov_t c_5
          refine g_vret rfl dX3_aboard_124 ?_
          have eL : abL E.t E.n P1 = abE (ix (ndV 8 12 P1)) (ix (ndV 0 3 S1)) S2 := by unfold abL; rw [← qS1, ← qS2]
          exact lnq_no (c1 := c0) (by rw [← hP1, eL]; exact px_abE (lnq_m 2 ⟨_, _, _, _, _, _, X283⟩)) (fun b x _ q => q) (by rw [← hP1, eL, abE_f]; exact hov3) ⟨_, _, _, _, _, G⟩
        ·
          have hov3 := ov_f c_5
          have hov2 : (ndP 0 3 S1).f = 0 := by
            have q := hov3
            rw [qS2, f_pa] at q
            exact (f_aw q).1
          have hov1 : (ndP 8 12 P1).f = 0 := by
            have q := f_nd hov2
            rw [qS1] at q
            exact f_abS q
          obtain ⟨vl, hvl, evl⟩ := nd_l I1 (hov1)
          obtain ⟨lt_, lc_, lnm_⟩ := gp_l G1 vl hvl
          have hvl5 : vl < 5 := by have := I.1; omega
          obtain ⟨vh, hvh, evh⟩ := nd_h IS1 hov2
          have hvh3 : vh < 4 := by have := I.1; omega
          have nrl : E.rd ≠ el 2 vl := tg_ne hrd0 (hsub0 _ _ lc_) (by show 2 ≠ 11; omega)
          have nrg2 : E.rg ≠ el 2 vl := tg_ne G.1 lc_ (by show 4 ≠ 11; omega)
          have nlo : n0 Δ ≤ el 2 vl := by have := (G.2.2.2.2.2.2.1 2 (by omega)).2.1 vl hvl; omega
          refine g_aload_n dX3_aboard_106 2 rfl ?_
          refine gh_get (x := .ref E.rg) f_2_1 q579 (hrd283) dX3_aboard_107 rfl ?_
          refine gh_get (x := .ref (E.rg + 4)) f_4_10 q327 (hsub283 _ _ (G.1)) dX3_aboard_110 rfl ?_
          refine g_iload_n dX3_aboard_113 1 rfl ?_
          refine wp_top (z := .int (nI vl)) (congrArg Value.int (evl)) ?_
          obtain ⟨lf_, hl_⟩ := AL_c ((LX.al (G.2.2.2.1 2 (by omega))).mono hsub283)
          refine g_callV (t_J2_get _ ((LX.al (G.2.2.2.1 2 (by omega))).mono hsub283) vl (by omega)) (lw_V q974 q750 q751 q127 q752) okJ2_get hl_ rfl rfl rfl rfl (Nat.le_of_ble_eq_true rfl) dX3_aboard_114 (fun v1 h1 _ _ hq => ?_)
          obtain ⟨rfl, hh⟩ := hq
          rw [hh]
          show wp Δ (d + 10) muX3_aboard 117 [(2, .int (ndV 0 3 S1)), (1, .int (ndV 8 12 P1)), (0, .ref E.rd)] [.ref (el 2 vl)] h282 _
          refine g_castS (hsub283 _ _ (lc_)) rfl q928 dX3_aboard_117 ?_
          refine g_iload_n dX3_aboard_120 0 rfl ?_
          refine gh_put (f2 := ob [.ref lt_, .int (P1.fr (35 + 4 * vl)), .int (P1.fr (35 + 4 * vl + 1)), .int (ndV 0 3 S1), .int (P1.fr (35 + 4 * vl + 3))]) f_11_3 q945 (hsub283 _ _ (lc_)) (by omega) dX3_aboard_121 rfl rfl (ob_u [.ref lt_, .int (P1.fr (35 + 4 * vl)), .int (P1.fr (35 + 4 * vl + 1)), .int (lpS (P1.fr (35 + 4 * vl + 2))), .int (P1.fr (35 + 4 * vl + 3))] 3 (.int (ndV 0 3 S1)) (Nat.le_of_ble_eq_true rfl)) ?_
          refine wp_put (Fr.refl (fun b => b = el 2 vl) _) (fun q => by first | exact absurd q (by omega) | exact Or.inl rfl | exact Or.inr rfl | exact Or.inr (Or.inl rfl) | exact Or.inr (Or.inr rfl) | exact Or.inr ⟨rfl, by omega⟩ | exact rfl | (simp only []; omega)) (hsub283 _ _ (lc_)) (by omega) (fun u284 F284 z284 c284 k284 => ?_)
          refine g_vret rfl dX3_aboard_124 ?_
          have eL : abL E.t E.n P1 = sfP (35 + 4 * vl + 2) (nI vh + 1) S2 := by
            unfold abL abE
            rw [← qS1, ← qS2, evl, evh, ix_nI (by omega), ix_nI (by omega), if_pos hov3]
          have fr9 : ∀ q, (abL E.t E.n P1).fr q = if q = 35 + 4 * vl + 2 then nI vh + 1 else P1.fr q := fun q => by
            rw [eL]
            show (if q = 35 + 4 * vl + 2 then nI vh + 1 else S2.fr q) = _
            rw [hfS2]
          have same : ∀ q, q ≠ 35 + 4 * vl + 2 → (abL E.t E.n P1).fr q = P1.fr q := fun q h1 => by rw [fr9, if_neg h1]
          obtain ⟨c2, Y2, kp2, mx2⟩ := px_gen (⟨_, _, _, _, _, _, X283⟩ : PX Δ E L h282 c0 S2) (F284.le (by omega) (by omega) (fun _ _ q => q)) (fun b x q z => by
            exact tgW R5 q z (hsub283 _ _ lc_) ⟨by show 11 ≠ 2; omega, by show 11 ≠ 3; omega, by show 11 ≠ 5; omega, by show 11 ≠ 16; omega, by show 11 ≠ 102; omega⟩)
          refine lnq_mk (c1 := c2) (by rw [← hP1, eL]; exact px_sf (lnq_m 1 Y2)) (fun b x hb q => kp2 b x q (fun z => by have z : b = el 2 vl := z; have := (G.2.2.2.2.2.2.1 2 (by omega)).2.1 vl hvl; omega)) ?_
          rw [← hP1]
          refine ⟨EL, cp, cnt, el, gp_keep G1 kp2 (fun b x q z => tgW R4 q z (lc_) ⟨by show 11 ≠ 14; omega, by show 11 ≠ 103; omega, by show 11 ≠ 16; omega, by show 11 ≠ 102; omega⟩) ?_ ?_ ⟨same 5 (by omega), same 6 (by omega), same 7 (by omega), same 10 (by omega)⟩ (fun j i hj hi => ⟨fun z => ?_, fun nz q hq => same q (fun e => ?_)⟩) (fun l h1 h2 => by rw [same _ (by omega), same _ (by omega)]; exact G1.2.2.2.2.2.2.2 l h1 h2)⟩
          · unfold rgO
            rw [same 0 (by omega), same 1 (by omega), same 2 (by omega), same 3 (by omega), same 4 (by omega), same 8 (by omega), same 9 (by omega)]
            exact kp2 _ _ G1.1 (fun z => tg_ne G1.1 lc_ (by show 4 ≠ 11; omega) z)
          · obtain ⟨pf, np_, g1, g2, g3, g4⟩ := G1.2.1
            exact ⟨pf, np_, kp2 _ _ g1 (fun z => tg_ne g1 lc_ (by show 100 ≠ 11; omega) z), (same 9 (by omega)).trans g2, g3, fun i hi => (g4 i hi).trans (same _ (by omega)).symm⟩
          · have z : el j i = el 2 vl := z
            have hji : j = 2 ∧ i = vl := lod_in G1 hj hi hvl z
            obtain ⟨rfl, rfl⟩ := hji
            refine ⟨lt_, ?_, lnm_.mv (fun b x q z => kp2 b x q (fun y => tg_ne q lc_ (by show x.1 ≠ 11; omega) y)) (same _ (by omega)) (fun q hq => same _ (by omega))⟩
            have e9 := mx2 _ _ (c284) (by show 11 ≠ 2; omega) (by show 11 ≠ 3; omega) (by show 11 ≠ 16; omega)
            rw [evh] at e9
            rw [same (35 + 4 * i) (by omega), same (35 + 4 * i + 1) (by omega), same (35 + 4 * i + 3) (by omega), fr9 (35 + 4 * i + 2), if_pos rfl, lp_s hvh3]
            exact e9
          · have b4 := I1.1
            unfold uE at hq
            rcases j4 hj with rfl | rfl | rfl | rfl
            · omega
            · omega
            · exact nz (by rw [show i = vl by omega])
            · omega
      ·
        have hq3 := c_4
        have eB : abW (cnH P1.fr (nI (ix (ndV 0 3 S1)) + 1) (ix (P1.fr 7))) (ix (ndV 0 3 S1)) (ndP 0 3 S1) = wgP 7 (ndP 0 3 S1).a (ndP 0 3 S1) := by rw [evh, ix_nI (by omega), I1.2.1.2.2.1, ix_nI (by have := I.1; omega), ← cn_eq (bd_lod I1) hvh3 _ (by have := I.1; omega)]; exact ab_2 hov2 (by rw [fr_nd, ← hfS1]; rw [evh] at hq3; exact hq3)
        refine g_aload_n dX3_aboard_89 2 rfl ?_
        refine g_bipush (x := 7) dX3_aboard_90 rfl ?_
        refine g_callV (t_X3_wrong _ EK (⟨_, _, _, _, _, _, X278⟩) 7 (by decide)) (lw_V q678 q680 qs4 q129 q681) okX3_wrong (hrd278) rfl rfl rfl rfl (Nat.le_of_ble_eq_true rfl) dX3_aboard_92 (fun v1 h285 _ _ hq => ?_)
        obtain ⟨rfl, Y285⟩ := hq
        show wp Δ (d + 10) muX3_aboard 95 [(2, .int (ndV 0 3 S1)), (1, .int (ndV 8 12 P1)), (0, .ref E.rd)] [] h285 _
        obtain ⟨w285, now285, e285, ft285, fp285, Q285, X285⟩ := id Y285
        obtain ⟨hrd285, htk285, T285, ⟨he285, hQe285, hen285, hkk285⟩, hst285, hro285, hsub285, hcr285, hct285, hcp285, hcw285⟩ := id X285
        obtain ⟨num285, z285, le285, hnow285, S285, h3_285, h2_285⟩ := id T285
        obtain ⟨b285, sh285, sz285, B285⟩ := id S285
        refine g_aload_n dX3_aboard_95 2 rfl ?_
        refine g_callV (t_X3_on _ EK (⟨_, _, _, _, _, _, X285⟩)) (lw_V q686 q688 qs6 q129 q689) okX3_on (hrd285) rfl rfl rfl rfl (Nat.le_of_ble_eq_true rfl) dX3_aboard_96 (fun v1 h286 _ _ hq => ?_)
        obtain ⟨rfl, Y286⟩ := hq
        show wp Δ (d + 10) muX3_aboard 99 [(2, .int (ndV 0 3 S1)), (1, .int (ndV 8 12 P1)), (0, .ref E.rd)] [] h286 _
        obtain ⟨w286, now286, e286, ft286, fp286, Q286, X286⟩ := id Y286
        obtain ⟨hrd286, htk286, T286, ⟨he286, hQe286, hen286, hkk286⟩, hst286, hro286, hsub286, hcr286, hct286, hcp286, hcw286⟩ := id X286
        obtain ⟨num286, z286, le286, hnow286, S286, h3_286, h2_286⟩ := id T286
        obtain ⟨b286, sh286, sz286, B286⟩ := id S286
        obtain ⟨S2, qS2⟩ : ∃ S : Pk, S = paP E.t E.n (abW (cnH P1.fr (nI (ix (ndV 0 3 S1)) + 1) (ix (P1.fr 7))) (ix (ndV 0 3 S1)) (ndP 0 3 S1)) := ⟨_, rfl⟩
        have ZS2 : PX Δ E L h286 c0 S2 := by rw [qS2]; exact (by rw [eB]; exact Y286)
        have hfS2 : S2.fr = P1.fr := by rw [qS2, fr_pa, fr_abw, fr_nd, hfS1]
        have GS2 : GP Δ E c0 S2.fr EL cp cnt el := by rw [hfS2]; exact G1
        have IS2 : LIq (cnt 0) (cnt 1) (cnt 2) (cnt 3) np nf 13 S2.fr := by rw [hfS2]; exact I1
        have EOS2 : eOk E.n S2 := by rw [qS2]; exact eOk_pa EK.1 (eOk_aw (eOk_nd EOS1))
        obtain ⟨w287, now287, e287, ft287, fp287, Q287, X287⟩ := id ZS2
        obtain ⟨hrd287, htk287, T287, ⟨he287, hQe287, hen287, hkk287⟩, hst287, hro287, hsub287, hcr287, hct287, hcp287, hcw287⟩ := id X287
        obtain ⟨num287, z287, le287, hnow287, S287, h3_287, h2_287⟩ := id T287
        obtain ⟨b287, sh287, sz287, B287⟩ := id S287
        refine g_aload_n dX3_aboard_99 2 rfl ?_
        refine g_callV (t_X3_isOver _ (⟨_, _, _, _, _, _, X287⟩)) (lw_V q682 q684 qs5 q129 q685) okX3_isOver (hrd287) rfl rfl rfl rfl (Nat.le_of_ble_eq_true rfl) dX3_aboard_100 (fun v1 h1 _ _ hq => ?_)
        obtain ⟨rfl, hh⟩ := hq
        rw [hh]
        show wp Δ (d + 10) muX3_aboard 103 [(2, .int (ndV 0 3 S1)), (1, .int (ndV 8 12 P1)), (0, .ref E.rd)] [.int (bI (decide (¬ S2.f = 0)))] h286 _
        refine gb_ne (tgt := 124) dX3_aboard_103 (by decide) (fun c_6 => ?_) (fun c_6 => ?_)
        ·
          have hov3 := ov_t c_6
          refine g_vret rfl dX3_aboard_124 ?_
          have eL : abL E.t E.n P1 = abE (ix (ndV 8 12 P1)) (ix (ndV 0 3 S1)) S2 := by unfold abL; rw [← qS1, ← qS2]
          exact lnq_no (c1 := c0) (by rw [← hP1, eL]; exact px_abE (lnq_m 2 ⟨_, _, _, _, _, _, X287⟩)) (fun b x _ q => q) (by rw [← hP1, eL, abE_f]; exact hov3) ⟨_, _, _, _, _, G⟩
        ·
          have hov3 := ov_f c_6
          have hov2 : (ndP 0 3 S1).f = 0 := by
            have q := hov3
            rw [qS2, f_pa] at q
            exact (f_aw q).1
          have hov1 : (ndP 8 12 P1).f = 0 := by
            have q := f_nd hov2
            rw [qS1] at q
            exact f_abS q
          obtain ⟨vl, hvl, evl⟩ := nd_l I1 (hov1)
          obtain ⟨lt_, lc_, lnm_⟩ := gp_l G1 vl hvl
          have hvl5 : vl < 5 := by have := I.1; omega
          obtain ⟨vh, hvh, evh⟩ := nd_h IS1 hov2
          have hvh3 : vh < 4 := by have := I.1; omega
          have nrl : E.rd ≠ el 2 vl := tg_ne hrd0 (hsub0 _ _ lc_) (by show 2 ≠ 11; omega)
          have nrg2 : E.rg ≠ el 2 vl := tg_ne G.1 lc_ (by show 4 ≠ 11; omega)
          have nlo : n0 Δ ≤ el 2 vl := by have := (G.2.2.2.2.2.2.1 2 (by omega)).2.1 vl hvl; omega
          refine g_aload_n dX3_aboard_106 2 rfl ?_
          refine gh_get (x := .ref E.rg) f_2_1 q579 (hrd287) dX3_aboard_107 rfl ?_
          refine gh_get (x := .ref (E.rg + 4)) f_4_10 q327 (hsub287 _ _ (G.1)) dX3_aboard_110 rfl ?_
          refine g_iload_n dX3_aboard_113 1 rfl ?_
          refine wp_top (z := .int (nI vl)) (congrArg Value.int (evl)) ?_
          obtain ⟨lf_, hl_⟩ := AL_c ((LX.al (G.2.2.2.1 2 (by omega))).mono hsub287)
          refine g_callV (t_J2_get _ ((LX.al (G.2.2.2.1 2 (by omega))).mono hsub287) vl (by omega)) (lw_V q974 q750 q751 q127 q752) okJ2_get hl_ rfl rfl rfl rfl (Nat.le_of_ble_eq_true rfl) dX3_aboard_114 (fun v1 h1 _ _ hq => ?_)
          obtain ⟨rfl, hh⟩ := hq
          rw [hh]
          show wp Δ (d + 10) muX3_aboard 117 [(2, .int (ndV 0 3 S1)), (1, .int (ndV 8 12 P1)), (0, .ref E.rd)] [.ref (el 2 vl)] h286 _
          refine g_castS (hsub287 _ _ (lc_)) rfl q928 dX3_aboard_117 ?_
          refine g_iload_n dX3_aboard_120 0 rfl ?_
          refine gh_put (f2 := ob [.ref lt_, .int (P1.fr (35 + 4 * vl)), .int (P1.fr (35 + 4 * vl + 1)), .int (ndV 0 3 S1), .int (P1.fr (35 + 4 * vl + 3))]) f_11_3 q945 (hsub287 _ _ (lc_)) (by omega) dX3_aboard_121 rfl rfl (ob_u [.ref lt_, .int (P1.fr (35 + 4 * vl)), .int (P1.fr (35 + 4 * vl + 1)), .int (lpS (P1.fr (35 + 4 * vl + 2))), .int (P1.fr (35 + 4 * vl + 3))] 3 (.int (ndV 0 3 S1)) (Nat.le_of_ble_eq_true rfl)) ?_
          refine wp_put (Fr.refl (fun b => b = el 2 vl) _) (fun q => by first | exact absurd q (by omega) | exact Or.inl rfl | exact Or.inr rfl | exact Or.inr (Or.inl rfl) | exact Or.inr (Or.inr rfl) | exact Or.inr ⟨rfl, by omega⟩ | exact rfl | (simp only []; omega)) (hsub287 _ _ (lc_)) (by omega) (fun u288 F288 z288 c288 k288 => ?_)
          refine g_vret rfl dX3_aboard_124 ?_
          have eL : abL E.t E.n P1 = sfP (35 + 4 * vl + 2) (nI vh + 1) S2 := by
            unfold abL abE
            rw [← qS1, ← qS2, evl, evh, ix_nI (by omega), ix_nI (by omega), if_pos hov3]
          have fr9 : ∀ q, (abL E.t E.n P1).fr q = if q = 35 + 4 * vl + 2 then nI vh + 1 else P1.fr q := fun q => by
            rw [eL]
            show (if q = 35 + 4 * vl + 2 then nI vh + 1 else S2.fr q) = _
            rw [hfS2]
          have same : ∀ q, q ≠ 35 + 4 * vl + 2 → (abL E.t E.n P1).fr q = P1.fr q := fun q h1 => by rw [fr9, if_neg h1]
          obtain ⟨c2, Y2, kp2, mx2⟩ := px_gen (⟨_, _, _, _, _, _, X287⟩ : PX Δ E L h286 c0 S2) (F288.le (by omega) (by omega) (fun _ _ q => q)) (fun b x q z => by
            exact tgW R5 q z (hsub287 _ _ lc_) ⟨by show 11 ≠ 2; omega, by show 11 ≠ 3; omega, by show 11 ≠ 5; omega, by show 11 ≠ 16; omega, by show 11 ≠ 102; omega⟩)
          refine lnq_mk (c1 := c2) (by rw [← hP1, eL]; exact px_sf (lnq_m 1 Y2)) (fun b x hb q => kp2 b x q (fun z => by have z : b = el 2 vl := z; have := (G.2.2.2.2.2.2.1 2 (by omega)).2.1 vl hvl; omega)) ?_
          rw [← hP1]
          refine ⟨EL, cp, cnt, el, gp_keep G1 kp2 (fun b x q z => tgW R4 q z (lc_) ⟨by show 11 ≠ 14; omega, by show 11 ≠ 103; omega, by show 11 ≠ 16; omega, by show 11 ≠ 102; omega⟩) ?_ ?_ ⟨same 5 (by omega), same 6 (by omega), same 7 (by omega), same 10 (by omega)⟩ (fun j i hj hi => ⟨fun z => ?_, fun nz q hq => same q (fun e => ?_)⟩) (fun l h1 h2 => by rw [same _ (by omega), same _ (by omega)]; exact G1.2.2.2.2.2.2.2 l h1 h2)⟩
          · unfold rgO
            rw [same 0 (by omega), same 1 (by omega), same 2 (by omega), same 3 (by omega), same 4 (by omega), same 8 (by omega), same 9 (by omega)]
            exact kp2 _ _ G1.1 (fun z => tg_ne G1.1 lc_ (by show 4 ≠ 11; omega) z)
          · obtain ⟨pf, np_, g1, g2, g3, g4⟩ := G1.2.1
            exact ⟨pf, np_, kp2 _ _ g1 (fun z => tg_ne g1 lc_ (by show 100 ≠ 11; omega) z), (same 9 (by omega)).trans g2, g3, fun i hi => (g4 i hi).trans (same _ (by omega)).symm⟩
          · have z : el j i = el 2 vl := z
            have hji : j = 2 ∧ i = vl := lod_in G1 hj hi hvl z
            obtain ⟨rfl, rfl⟩ := hji
            refine ⟨lt_, ?_, lnm_.mv (fun b x q z => kp2 b x q (fun y => tg_ne q lc_ (by show x.1 ≠ 11; omega) y)) (same _ (by omega)) (fun q hq => same _ (by omega))⟩
            have e9 := mx2 _ _ (c288) (by show 11 ≠ 2; omega) (by show 11 ≠ 3; omega) (by show 11 ≠ 16; omega)
            rw [evh] at e9
            rw [same (35 + 4 * i) (by omega), same (35 + 4 * i + 1) (by omega), same (35 + 4 * i + 3) (by omega), fr9 (35 + 4 * i + 2), if_pos rfl, lp_s hvh3]
            exact e9
          · have b4 := I1.1
            unfold uE at hq
            rcases j4 hj with rfl | rfl | rfl | rfl
            · omega
            · omega
            · exact nz (by rw [show i = vl by omega])
            · omega
  ·
    have hov1 := ov_f c_1
    obtain ⟨vl, hvl, evl⟩ := nd_l I1 (hov1)
    obtain ⟨lt_, lc_, lnm_⟩ := gp_l G1 vl hvl
    have hvl5 : vl < 5 := by have := I.1; omega
    refine g_aload_n dX3_aboard_18 1 rfl ?_
    refine gh_get (x := .ref E.rg) f_2_1 q579 (hrd275) dX3_aboard_19 rfl ?_
    refine gh_get (x := .ref (E.rg + 4)) f_4_10 q327 (hsub275 _ _ (G.1)) dX3_aboard_22 rfl ?_
    refine g_iload_n dX3_aboard_25 0 rfl ?_
    refine wp_top (z := .int (nI vl)) (congrArg Value.int (evl)) ?_
    obtain ⟨lf_, hl_⟩ := AL_c ((LX.al (G.2.2.2.1 2 (by omega))).mono hsub275)
    refine g_callV (t_J2_get _ ((LX.al (G.2.2.2.1 2 (by omega))).mono hsub275) vl (by omega)) (lw_V q974 q750 q751 q127 q752) okJ2_get hl_ rfl rfl rfl rfl (Nat.le_of_ble_eq_true rfl) dX3_aboard_26 (fun v1 h1 _ _ hq => ?_)
    obtain ⟨rfl, hh⟩ := hq
    rw [hh]
    show wp Δ (d + 10) muX3_aboard 29 [(1, .int (ndV 8 12 P1)), (0, .ref E.rd)] [.ref (el 2 vl)] h275 _
    refine g_castS (hsub275 _ _ (lc_)) rfl q928 dX3_aboard_29 ?_
    refine gh_get (x := .int (lpS (P1.fr (35 + 4 * vl + 2)))) f_11_3 q945 (hsub275 _ _ (lc_)) dX3_aboard_32 rfl ?_
    refine g_bipush (x := -2) dX3_aboard_35 rfl ?_
    refine g_icmp_eq (tgt := 45) dX3_aboard_37 (by decide) (fun c_7 => ?_) (fun c_7 => ?_)
    ·
      have hq2 := c_7
      have eA : aaW (ix (ndV 8 12 P1)) (ndP 8 12 P1) = ndP 8 12 P1 := by rw [evl, ix_nI (by omega)]; exact aa_1 hov1 (by rw [fr_nd]; exact Int32.not_lt.mp ((lp_0 (bd_lod I1 vl hvl5) (by omega)).mp hq2))
      refine g_aload_n dX3_aboard_45 1 rfl ?_
      refine g_callV (t_X3_on _ EK (⟨_, _, _, _, _, _, X275⟩)) (lw_V q686 q688 qs6 q129 q689) okX3_on (hrd275) rfl rfl rfl rfl (Nat.le_of_ble_eq_true rfl) dX3_aboard_46 (fun v1 h289 _ _ hq => ?_)
      obtain ⟨rfl, Y289⟩ := hq
      show wp Δ (d + 10) muX3_aboard 49 [(1, .int (ndV 8 12 P1)), (0, .ref E.rd)] [] h289 _
      obtain ⟨w289, now289, e289, ft289, fp289, Q289, X289⟩ := id Y289
      obtain ⟨hrd289, htk289, T289, ⟨he289, hQe289, hen289, hkk289⟩, hst289, hro289, hsub289, hcr289, hct289, hcp289, hcw289⟩ := id X289
      obtain ⟨num289, z289, le289, hnow289, S289, h3_289, h2_289⟩ := id T289
      obtain ⟨b289, sh289, sz289, B289⟩ := id S289
      obtain ⟨S1, qS1⟩ : ∃ S : Pk, S = abQ E.t E.n P1 := ⟨_, rfl⟩
      have ZS1 : PX Δ E L h289 c0 S1 := by rw [qS1]; exact (by unfold abQ; rw [eA]; exact Y289)
      have hfS1 : S1.fr = P1.fr := by rw [qS1]; unfold abQ; rw [fr_pa, fr_aa, fr_nd]
      have GS1 : GP Δ E c0 S1.fr EL cp cnt el := by rw [hfS1]; exact G1
      have IS1 : LIq (cnt 0) (cnt 1) (cnt 2) (cnt 3) np nf 13 S1.fr := by rw [hfS1]; exact I1
      have EOS1 : eOk E.n S1 := by rw [qS1]; exact (by unfold abQ; exact eOk_pa EK.1 (eOk_aa (eOk_nd EO1)))
      obtain ⟨w290, now290, e290, ft290, fp290, Q290, X290⟩ := id ZS1
      obtain ⟨hrd290, htk290, T290, ⟨he290, hQe290, hen290, hkk290⟩, hst290, hro290, hsub290, hcr290, hct290, hcp290, hcw290⟩ := id X290
      obtain ⟨num290, z290, le290, hnow290, S290, h3_290, h2_290⟩ := id T290
      obtain ⟨b290, sh290, sz290, B290⟩ := id S290
      refine g_aload_n dX3_aboard_49 1 rfl ?_
      refine g_callV (t_X3_knownHouse _ EK (⟨_, _, _, _, _, _, X290⟩) GS1 IS1 EOS1) (lw_V q975 q977 qs23 q129 q978) okX3_knownHouse (hrd290) rfl rfl rfl rfl (Nat.le_of_ble_eq_true rfl) dX3_aboard_50 (fun v1 h291 _ _ hq => ?_)
      obtain ⟨rfl, Y291⟩ := hq
      show wp Δ (d + 10) muX3_aboard 53 [(1, .int (ndV 8 12 P1)), (0, .ref E.rd)] [.int (ndV 0 3 S1)] h291 _
      obtain ⟨w291, now291, e291, ft291, fp291, Q291, X291⟩ := id Y291
      obtain ⟨hrd291, htk291, T291, ⟨he291, hQe291, hen291, hkk291⟩, hst291, hro291, hsub291, hcr291, hct291, hcp291, hcw291⟩ := id X291
      obtain ⟨num291, z291, le291, hnow291, S291, h3_291, h2_291⟩ := id T291
      obtain ⟨b291, sh291, sz291, B291⟩ := id S291
      refine g_istore_n (lv' := [(2, .int (ndV 0 3 S1)), (1, .int (ndV 8 12 P1)), (0, .ref E.rd)]) dX3_aboard_53 (by decide) rfl ?_
      refine g_aload_n dX3_aboard_54 2 rfl ?_
      refine g_callV (t_X3_isOver _ (⟨_, _, _, _, _, _, X291⟩)) (lw_V q682 q684 qs5 q129 q685) okX3_isOver (hrd291) rfl rfl rfl rfl (Nat.le_of_ble_eq_true rfl) dX3_aboard_55 (fun v1 h1 _ _ hq => ?_)
      obtain ⟨rfl, hh⟩ := hq
      rw [hh]
      show wp Δ (d + 10) muX3_aboard 58 [(2, .int (ndV 0 3 S1)), (1, .int (ndV 8 12 P1)), (0, .ref E.rd)] [.int (bI (decide (¬ (ndP 0 3 S1).f = 0)))] h291 _
      refine gb_ne (tgt := 95) dX3_aboard_58 (by decide) (fun c_8 => ?_) (fun c_8 => ?_)
      ·
        have hov2 := ov_t c_8
        have eB : abW (cnH P1.fr (nI (ix (ndV 0 3 S1)) + 1) (ix (P1.fr 7))) (ix (ndV 0 3 S1)) (ndP 0 3 S1) = ndP 0 3 S1 := ab_n hov2
        refine g_aload_n dX3_aboard_95 2 rfl ?_
        refine g_callV (t_X3_on _ EK (⟨_, _, _, _, _, _, X291⟩)) (lw_V q686 q688 qs6 q129 q689) okX3_on (hrd291) rfl rfl rfl rfl (Nat.le_of_ble_eq_true rfl) dX3_aboard_96 (fun v1 h292 _ _ hq => ?_)
        obtain ⟨rfl, Y292⟩ := hq
        show wp Δ (d + 10) muX3_aboard 99 [(2, .int (ndV 0 3 S1)), (1, .int (ndV 8 12 P1)), (0, .ref E.rd)] [] h292 _
        obtain ⟨w292, now292, e292, ft292, fp292, Q292, X292⟩ := id Y292
        obtain ⟨hrd292, htk292, T292, ⟨he292, hQe292, hen292, hkk292⟩, hst292, hro292, hsub292, hcr292, hct292, hcp292, hcw292⟩ := id X292
        obtain ⟨num292, z292, le292, hnow292, S292, h3_292, h2_292⟩ := id T292
        obtain ⟨b292, sh292, sz292, B292⟩ := id S292
        obtain ⟨S2, qS2⟩ : ∃ S : Pk, S = paP E.t E.n (abW (cnH P1.fr (nI (ix (ndV 0 3 S1)) + 1) (ix (P1.fr 7))) (ix (ndV 0 3 S1)) (ndP 0 3 S1)) := ⟨_, rfl⟩
        have ZS2 : PX Δ E L h292 c0 S2 := by rw [qS2]; exact (by rw [eB]; exact Y292)
        have hfS2 : S2.fr = P1.fr := by rw [qS2, fr_pa, fr_abw, fr_nd, hfS1]
        have GS2 : GP Δ E c0 S2.fr EL cp cnt el := by rw [hfS2]; exact G1
        have IS2 : LIq (cnt 0) (cnt 1) (cnt 2) (cnt 3) np nf 13 S2.fr := by rw [hfS2]; exact I1
        have EOS2 : eOk E.n S2 := by rw [qS2]; exact eOk_pa EK.1 (eOk_aw (eOk_nd EOS1))
        obtain ⟨w293, now293, e293, ft293, fp293, Q293, X293⟩ := id ZS2
        obtain ⟨hrd293, htk293, T293, ⟨he293, hQe293, hen293, hkk293⟩, hst293, hro293, hsub293, hcr293, hct293, hcp293, hcw293⟩ := id X293
        obtain ⟨num293, z293, le293, hnow293, S293, h3_293, h2_293⟩ := id T293
        obtain ⟨b293, sh293, sz293, B293⟩ := id S293
        refine g_aload_n dX3_aboard_99 2 rfl ?_
        refine g_callV (t_X3_isOver _ (⟨_, _, _, _, _, _, X293⟩)) (lw_V q682 q684 qs5 q129 q685) okX3_isOver (hrd293) rfl rfl rfl rfl (Nat.le_of_ble_eq_true rfl) dX3_aboard_100 (fun v1 h1 _ _ hq => ?_)
        obtain ⟨rfl, hh⟩ := hq
        rw [hh]
        show wp Δ (d + 10) muX3_aboard 103 [(2, .int (ndV 0 3 S1)), (1, .int (ndV 8 12 P1)), (0, .ref E.rd)] [.int (bI (decide (¬ S2.f = 0)))] h292 _
        refine gb_ne (tgt := 124) dX3_aboard_103 (by decide) (fun c_9 => ?_) (fun c_9 => ?_)
        ·
          have hov3 := ov_t c_9
          refine g_vret rfl dX3_aboard_124 ?_
          have eL : abL E.t E.n P1 = abE (ix (ndV 8 12 P1)) (ix (ndV 0 3 S1)) S2 := by unfold abL; rw [← qS1, ← qS2]
          exact lnq_no (c1 := c0) (by rw [← hP1, eL]; exact px_abE (lnq_m 2 ⟨_, _, _, _, _, _, X293⟩)) (fun b x _ q => q) (by rw [← hP1, eL, abE_f]; exact hov3) ⟨_, _, _, _, _, G⟩
        ·
          have hov3 := ov_f c_9
          have hov2 : (ndP 0 3 S1).f = 0 := by
            have q := hov3
            rw [qS2, f_pa] at q
            exact (f_aw q).1
          have hov1 : (ndP 8 12 P1).f = 0 := by
            have q := f_nd hov2
            rw [qS1] at q
            exact f_abS q
          obtain ⟨vl, hvl, evl⟩ := nd_l I1 (hov1)
          obtain ⟨lt_, lc_, lnm_⟩ := gp_l G1 vl hvl
          have hvl5 : vl < 5 := by have := I.1; omega
          obtain ⟨vh, hvh, evh⟩ := nd_h IS1 hov2
          have hvh3 : vh < 4 := by have := I.1; omega
          have nrl : E.rd ≠ el 2 vl := tg_ne hrd0 (hsub0 _ _ lc_) (by show 2 ≠ 11; omega)
          have nrg2 : E.rg ≠ el 2 vl := tg_ne G.1 lc_ (by show 4 ≠ 11; omega)
          have nlo : n0 Δ ≤ el 2 vl := by have := (G.2.2.2.2.2.2.1 2 (by omega)).2.1 vl hvl; omega
          refine g_aload_n dX3_aboard_106 2 rfl ?_
          refine gh_get (x := .ref E.rg) f_2_1 q579 (hrd293) dX3_aboard_107 rfl ?_
          refine gh_get (x := .ref (E.rg + 4)) f_4_10 q327 (hsub293 _ _ (G.1)) dX3_aboard_110 rfl ?_
          refine g_iload_n dX3_aboard_113 1 rfl ?_
          refine wp_top (z := .int (nI vl)) (congrArg Value.int (evl)) ?_
          obtain ⟨lf_, hl_⟩ := AL_c ((LX.al (G.2.2.2.1 2 (by omega))).mono hsub293)
          refine g_callV (t_J2_get _ ((LX.al (G.2.2.2.1 2 (by omega))).mono hsub293) vl (by omega)) (lw_V q974 q750 q751 q127 q752) okJ2_get hl_ rfl rfl rfl rfl (Nat.le_of_ble_eq_true rfl) dX3_aboard_114 (fun v1 h1 _ _ hq => ?_)
          obtain ⟨rfl, hh⟩ := hq
          rw [hh]
          show wp Δ (d + 10) muX3_aboard 117 [(2, .int (ndV 0 3 S1)), (1, .int (ndV 8 12 P1)), (0, .ref E.rd)] [.ref (el 2 vl)] h292 _
          refine g_castS (hsub293 _ _ (lc_)) rfl q928 dX3_aboard_117 ?_
          refine g_iload_n dX3_aboard_120 0 rfl ?_
          refine gh_put (f2 := ob [.ref lt_, .int (P1.fr (35 + 4 * vl)), .int (P1.fr (35 + 4 * vl + 1)), .int (ndV 0 3 S1), .int (P1.fr (35 + 4 * vl + 3))]) f_11_3 q945 (hsub293 _ _ (lc_)) (by omega) dX3_aboard_121 rfl rfl (ob_u [.ref lt_, .int (P1.fr (35 + 4 * vl)), .int (P1.fr (35 + 4 * vl + 1)), .int (lpS (P1.fr (35 + 4 * vl + 2))), .int (P1.fr (35 + 4 * vl + 3))] 3 (.int (ndV 0 3 S1)) (Nat.le_of_ble_eq_true rfl)) ?_
          refine wp_put (Fr.refl (fun b => b = el 2 vl) _) (fun q => by first | exact absurd q (by omega) | exact Or.inl rfl | exact Or.inr rfl | exact Or.inr (Or.inl rfl) | exact Or.inr (Or.inr rfl) | exact Or.inr ⟨rfl, by omega⟩ | exact rfl | (simp only []; omega)) (hsub293 _ _ (lc_)) (by omega) (fun u294 F294 z294 c294 k294 => ?_)
          refine g_vret rfl dX3_aboard_124 ?_
          have eL : abL E.t E.n P1 = sfP (35 + 4 * vl + 2) (nI vh + 1) S2 := by
            unfold abL abE
            rw [← qS1, ← qS2, evl, evh, ix_nI (by omega), ix_nI (by omega), if_pos hov3]
          have fr9 : ∀ q, (abL E.t E.n P1).fr q = if q = 35 + 4 * vl + 2 then nI vh + 1 else P1.fr q := fun q => by
            rw [eL]
            show (if q = 35 + 4 * vl + 2 then nI vh + 1 else S2.fr q) = _
            rw [hfS2]
          have same : ∀ q, q ≠ 35 + 4 * vl + 2 → (abL E.t E.n P1).fr q = P1.fr q := fun q h1 => by rw [fr9, if_neg h1]
          obtain ⟨c2, Y2, kp2, mx2⟩ := px_gen (⟨_, _, _, _, _, _, X293⟩ : PX Δ E L h292 c0 S2) (F294.le (by omega) (by omega) (fun _ _ q => q)) (fun b x q z => by
            exact tgW R5 q z (hsub293 _ _ lc_) ⟨by show 11 ≠ 2; omega, by show 11 ≠ 3; omega, by show 11 ≠ 5; omega, by show 11 ≠ 16; omega, by show 11 ≠ 102; omega⟩)
          refine lnq_mk (c1 := c2) (by rw [← hP1, eL]; exact px_sf (lnq_m 1 Y2)) (fun b x hb q => kp2 b x q (fun z => by have z : b = el 2 vl := z; have := (G.2.2.2.2.2.2.1 2 (by omega)).2.1 vl hvl; omega)) ?_
          rw [← hP1]
          refine ⟨EL, cp, cnt, el, gp_keep G1 kp2 (fun b x q z => tgW R4 q z (lc_) ⟨by show 11 ≠ 14; omega, by show 11 ≠ 103; omega, by show 11 ≠ 16; omega, by show 11 ≠ 102; omega⟩) ?_ ?_ ⟨same 5 (by omega), same 6 (by omega), same 7 (by omega), same 10 (by omega)⟩ (fun j i hj hi => ⟨fun z => ?_, fun nz q hq => same q (fun e => ?_)⟩) (fun l h1 h2 => by rw [same _ (by omega), same _ (by omega)]; exact G1.2.2.2.2.2.2.2 l h1 h2)⟩
          · unfold rgO
            rw [same 0 (by omega), same 1 (by omega), same 2 (by omega), same 3 (by omega), same 4 (by omega), same 8 (by omega), same 9 (by omega)]
            exact kp2 _ _ G1.1 (fun z => tg_ne G1.1 lc_ (by show 4 ≠ 11; omega) z)
          · obtain ⟨pf, np_, g1, g2, g3, g4⟩ := G1.2.1
            exact ⟨pf, np_, kp2 _ _ g1 (fun z => tg_ne g1 lc_ (by show 100 ≠ 11; omega) z), (same 9 (by omega)).trans g2, g3, fun i hi => (g4 i hi).trans (same _ (by omega)).symm⟩
          · have z : el j i = el 2 vl := z
            have hji : j = 2 ∧ i = vl := lod_in G1 hj hi hvl z
            obtain ⟨rfl, rfl⟩ := hji
            refine ⟨lt_, ?_, lnm_.mv (fun b x q z => kp2 b x q (fun y => tg_ne q lc_ (by show x.1 ≠ 11; omega) y)) (same _ (by omega)) (fun q hq => same _ (by omega))⟩
            have e9 := mx2 _ _ (c294) (by show 11 ≠ 2; omega) (by show 11 ≠ 3; omega) (by show 11 ≠ 16; omega)
            rw [evh] at e9
            rw [same (35 + 4 * i) (by omega), same (35 + 4 * i + 1) (by omega), same (35 + 4 * i + 3) (by omega), fr9 (35 + 4 * i + 2), if_pos rfl, lp_s hvh3]
            exact e9
          · have b4 := I1.1
            unfold uE at hq
            rcases j4 hj with rfl | rfl | rfl | rfl
            · omega
            · omega
            · exact nz (by rw [show i = vl by omega])
            · omega
      ·
        have hov2 := ov_f c_8
        obtain ⟨vh, hvh, evh⟩ := nd_h IS1 hov2
        obtain ⟨hkd_, ht_, hkd3, _, hc_, _⟩ := gp_h GS1 vh hvh
        have hvh3 : vh < 4 := by have := I.1; omega
        refine g_aload_n dX3_aboard_61 2 rfl ?_
        refine gh_get (x := .ref E.rg) f_2_1 q579 (hrd291) dX3_aboard_62 rfl ?_
        refine g_iload_n dX3_aboard_65 0 rfl ?_
        refine g_callV (t_X5_aboard _ (hf := (fun i => lpS (S1.fr (35 + 4 * i + 2)))) (hsub291 _ _ GS1.1) rfl ((LX.al (GS1.2.2.2.1 2 (by omega))).mono hsub291) (fun i hi => by obtain ⟨t_, q_, _⟩ := gp_l GS1 i hi; exact ⟨t_, _, _, _, hsub291 _ _ q_⟩) (ndV 0 3 S1)) (lw_V q979 q980 q981 q131 q982) okX5_aboard (hsub291 _ _ GS1.1) rfl rfl rfl rfl (Nat.le_of_ble_eq_true rfl) dX3_aboard_66 (fun v1 h1 _ _ hq => ?_)
        obtain ⟨rfl, hh⟩ := hq
        rw [hh]
        show wp Δ (d + 10) muX3_aboard 69 [(2, .int (ndV 0 3 S1)), (1, .int (ndV 8 12 P1)), (0, .ref E.rd)] [.int (cnA (fun i => lpS (S1.fr (35 + 4 * i + 2))) (ndV 0 3 S1) (cnt 2))] h291 _
        refine g_aload_n dX3_aboard_69 2 rfl ?_
        refine gh_get (x := .ref E.rg) f_2_1 q579 (hrd291) dX3_aboard_70 rfl ?_
        refine gh_get (x := .ref (E.rg + 3)) f_4_9 q322 (hsub291 _ _ (G.1)) dX3_aboard_73 rfl ?_
        refine g_iload_n dX3_aboard_76 0 rfl ?_
        refine wp_top (z := .int (nI vh)) (congrArg Value.int (evh)) ?_
        obtain ⟨lf_, hl_⟩ := AL_c ((LX.al (G.2.2.2.1 1 (by omega))).mono hsub291)
        refine g_callV (t_J2_get _ ((LX.al (G.2.2.2.1 1 (by omega))).mono hsub291) vh (by omega)) (lw_V q974 q750 q751 q127 q752) okJ2_get hl_ rfl rfl rfl rfl (Nat.le_of_ble_eq_true rfl) dX3_aboard_77 (fun v1 h1 _ _ hq => ?_)
        obtain ⟨rfl, hh⟩ := hq
        rw [hh]
        show wp Δ (d + 10) muX3_aboard 80 [(2, .int (ndV 0 3 S1)), (1, .int (ndV 8 12 P1)), (0, .ref E.rd)] [.ref (el 1 vh), .int (cnA (fun i => lpS (S1.fr (35 + 4 * i + 2))) (ndV 0 3 S1) (cnt 2))] h291 _
        refine gH_cast hkd3 (hsub291 _ _ (hc_)) q863 dX3_aboard_80 ?_
        refine gh_get (x := .int (S1.fr (19 + 4 * vh + 3))) (fH_3 hkd3) q878 (hsub291 _ _ (hc_)) dX3_aboard_83 rfl ?_
        refine g_icmp_lt (tgt := 95) dX3_aboard_86 (by decide) (fun c_10 => ?_) (fun c_10 => ?_)
        ·
          have hq3 := c_10
          have eB : abW (cnH P1.fr (nI (ix (ndV 0 3 S1)) + 1) (ix (P1.fr 7))) (ix (ndV 0 3 S1)) (ndP 0 3 S1) = ndP 0 3 S1 := by rw [evh, ix_nI (by omega), I1.2.1.2.2.1, ix_nI (by have := I.1; omega), ← cn_eq (bd_lod I1) hvh3 _ (by have := I.1; omega)]; exact ab_1 hov2 (by rw [fr_nd, ← hfS1]; rw [evh] at hq3; exact hq3)
          refine g_aload_n dX3_aboard_95 2 rfl ?_
          refine g_callV (t_X3_on _ EK (⟨_, _, _, _, _, _, X291⟩)) (lw_V q686 q688 qs6 q129 q689) okX3_on (hrd291) rfl rfl rfl rfl (Nat.le_of_ble_eq_true rfl) dX3_aboard_96 (fun v1 h295 _ _ hq => ?_)
          obtain ⟨rfl, Y295⟩ := hq
          show wp Δ (d + 10) muX3_aboard 99 [(2, .int (ndV 0 3 S1)), (1, .int (ndV 8 12 P1)), (0, .ref E.rd)] [] h295 _
          obtain ⟨w295, now295, e295, ft295, fp295, Q295, X295⟩ := id Y295
          obtain ⟨hrd295, htk295, T295, ⟨he295, hQe295, hen295, hkk295⟩, hst295, hro295, hsub295, hcr295, hct295, hcp295, hcw295⟩ := id X295
          obtain ⟨num295, z295, le295, hnow295, S295, h3_295, h2_295⟩ := id T295
          obtain ⟨b295, sh295, sz295, B295⟩ := id S295
          obtain ⟨S2, qS2⟩ : ∃ S : Pk, S = paP E.t E.n (abW (cnH P1.fr (nI (ix (ndV 0 3 S1)) + 1) (ix (P1.fr 7))) (ix (ndV 0 3 S1)) (ndP 0 3 S1)) := ⟨_, rfl⟩
          have ZS2 : PX Δ E L h295 c0 S2 := by rw [qS2]; exact (by rw [eB]; exact Y295)
          have hfS2 : S2.fr = P1.fr := by rw [qS2, fr_pa, fr_abw, fr_nd, hfS1]
          have GS2 : GP Δ E c0 S2.fr EL cp cnt el := by rw [hfS2]; exact G1
          have IS2 : LIq (cnt 0) (cnt 1) (cnt 2) (cnt 3) np nf 13 S2.fr := by rw [hfS2]; exact I1
          have EOS2 : eOk E.n S2 := by rw [qS2]; exact eOk_pa EK.1 (eOk_aw (eOk_nd EOS1))
          obtain ⟨w296, now296, e296, ft296, fp296, Q296, X296⟩ := id ZS2
          obtain ⟨hrd296, htk296, T296, ⟨he296, hQe296, hen296, hkk296⟩, hst296, hro296, hsub296, hcr296, hct296, hcp296, hcw296⟩ := id X296
          obtain ⟨num296, z296, le296, hnow296, S296, h3_296, h2_296⟩ := id T296
          obtain ⟨b296, sh296, sz296, B296⟩ := id S296
          refine g_aload_n dX3_aboard_99 2 rfl ?_
          refine g_callV (t_X3_isOver _ (⟨_, _, _, _, _, _, X296⟩)) (lw_V q682 q684 qs5 q129 q685) okX3_isOver (hrd296) rfl rfl rfl rfl (Nat.le_of_ble_eq_true rfl) dX3_aboard_100 (fun v1 h1 _ _ hq => ?_)
          obtain ⟨rfl, hh⟩ := hq
          rw [hh]
          show wp Δ (d + 10) muX3_aboard 103 [(2, .int (ndV 0 3 S1)), (1, .int (ndV 8 12 P1)), (0, .ref E.rd)] [.int (bI (decide (¬ S2.f = 0)))] h295 _
          refine gb_ne (tgt := 124) dX3_aboard_103 (by decide) (fun c_11 => ?_) (fun c_11 => ?_)
          ·
            have hov3 := ov_t c_11
            refine g_vret rfl dX3_aboard_124 ?_
            have eL : abL E.t E.n P1 = abE (ix (ndV 8 12 P1)) (ix (ndV 0 3 S1)) S2 := by unfold abL; rw [← qS1, ← qS2]
            exact lnq_no (c1 := c0) (by rw [← hP1, eL]; exact px_abE (lnq_m 2 ⟨_, _, _, _, _, _, X296⟩)) (fun b x _ q => q) (by rw [← hP1, eL, abE_f]; exact hov3) ⟨_, _, _, _, _, G⟩
          ·
            have hov3 := ov_f c_11
            have hov2 : (ndP 0 3 S1).f = 0 := by
              have q := hov3
              rw [qS2, f_pa] at q
              exact (f_aw q).1
            have hov1 : (ndP 8 12 P1).f = 0 := by
              have q := f_nd hov2
              rw [qS1] at q
              exact f_abS q
            obtain ⟨vl, hvl, evl⟩ := nd_l I1 (hov1)
            obtain ⟨lt_, lc_, lnm_⟩ := gp_l G1 vl hvl
            have hvl5 : vl < 5 := by have := I.1; omega
            obtain ⟨vh, hvh, evh⟩ := nd_h IS1 hov2
            have hvh3 : vh < 4 := by have := I.1; omega
            have nrl : E.rd ≠ el 2 vl := tg_ne hrd0 (hsub0 _ _ lc_) (by show 2 ≠ 11; omega)
            have nrg2 : E.rg ≠ el 2 vl := tg_ne G.1 lc_ (by show 4 ≠ 11; omega)
            have nlo : n0 Δ ≤ el 2 vl := by have := (G.2.2.2.2.2.2.1 2 (by omega)).2.1 vl hvl; omega
            refine g_aload_n dX3_aboard_106 2 rfl ?_
            refine gh_get (x := .ref E.rg) f_2_1 q579 (hrd296) dX3_aboard_107 rfl ?_
            refine gh_get (x := .ref (E.rg + 4)) f_4_10 q327 (hsub296 _ _ (G.1)) dX3_aboard_110 rfl ?_
            refine g_iload_n dX3_aboard_113 1 rfl ?_
            refine wp_top (z := .int (nI vl)) (congrArg Value.int (evl)) ?_
            obtain ⟨lf_, hl_⟩ := AL_c ((LX.al (G.2.2.2.1 2 (by omega))).mono hsub296)
            refine g_callV (t_J2_get _ ((LX.al (G.2.2.2.1 2 (by omega))).mono hsub296) vl (by omega)) (lw_V q974 q750 q751 q127 q752) okJ2_get hl_ rfl rfl rfl rfl (Nat.le_of_ble_eq_true rfl) dX3_aboard_114 (fun v1 h1 _ _ hq => ?_)
            obtain ⟨rfl, hh⟩ := hq
            rw [hh]
            show wp Δ (d + 10) muX3_aboard 117 [(2, .int (ndV 0 3 S1)), (1, .int (ndV 8 12 P1)), (0, .ref E.rd)] [.ref (el 2 vl)] h295 _
            refine g_castS (hsub296 _ _ (lc_)) rfl q928 dX3_aboard_117 ?_
            refine g_iload_n dX3_aboard_120 0 rfl ?_
            refine gh_put (f2 := ob [.ref lt_, .int (P1.fr (35 + 4 * vl)), .int (P1.fr (35 + 4 * vl + 1)), .int (ndV 0 3 S1), .int (P1.fr (35 + 4 * vl + 3))]) f_11_3 q945 (hsub296 _ _ (lc_)) (by omega) dX3_aboard_121 rfl rfl (ob_u [.ref lt_, .int (P1.fr (35 + 4 * vl)), .int (P1.fr (35 + 4 * vl + 1)), .int (lpS (P1.fr (35 + 4 * vl + 2))), .int (P1.fr (35 + 4 * vl + 3))] 3 (.int (ndV 0 3 S1)) (Nat.le_of_ble_eq_true rfl)) ?_
            refine wp_put (Fr.refl (fun b => b = el 2 vl) _) (fun q => by first | exact absurd q (by omega) | exact Or.inl rfl | exact Or.inr rfl | exact Or.inr (Or.inl rfl) | exact Or.inr (Or.inr rfl) | exact Or.inr ⟨rfl, by omega⟩ | exact rfl | (simp only []; omega)) (hsub296 _ _ (lc_)) (by omega) (fun u297 F297 z297 c297 k297 => ?_)
            refine g_vret rfl dX3_aboard_124 ?_
            have eL : abL E.t E.n P1 = sfP (35 + 4 * vl + 2) (nI vh + 1) S2 := by
              unfold abL abE
              rw [← qS1, ← qS2, evl, evh, ix_nI (by omega), ix_nI (by omega), if_pos hov3]
            have fr9 : ∀ q, (abL E.t E.n P1).fr q = if q = 35 + 4 * vl + 2 then nI vh + 1 else P1.fr q := fun q => by
              rw [eL]
              show (if q = 35 + 4 * vl + 2 then nI vh + 1 else S2.fr q) = _
              rw [hfS2]
            have same : ∀ q, q ≠ 35 + 4 * vl + 2 → (abL E.t E.n P1).fr q = P1.fr q := fun q h1 => by rw [fr9, if_neg h1]
            obtain ⟨c2, Y2, kp2, mx2⟩ := px_gen (⟨_, _, _, _, _, _, X296⟩ : PX Δ E L h295 c0 S2) (F297.le (by omega) (by omega) (fun _ _ q => q)) (fun b x q z => by
              exact tgW R5 q z (hsub296 _ _ lc_) ⟨by show 11 ≠ 2; omega, by show 11 ≠ 3; omega, by show 11 ≠ 5; omega, by show 11 ≠ 16; omega, by show 11 ≠ 102; omega⟩)
            refine lnq_mk (c1 := c2) (by rw [← hP1, eL]; exact px_sf (lnq_m 1 Y2)) (fun b x hb q => kp2 b x q (fun z => by have z : b = el 2 vl := z; have := (G.2.2.2.2.2.2.1 2 (by omega)).2.1 vl hvl; omega)) ?_
            rw [← hP1]
            refine ⟨EL, cp, cnt, el, gp_keep G1 kp2 (fun b x q z => tgW R4 q z (lc_) ⟨by show 11 ≠ 14; omega, by show 11 ≠ 103; omega, by show 11 ≠ 16; omega, by show 11 ≠ 102; omega⟩) ?_ ?_ ⟨same 5 (by omega), same 6 (by omega), same 7 (by omega), same 10 (by omega)⟩ (fun j i hj hi => ⟨fun z => ?_, fun nz q hq => same q (fun e => ?_)⟩) (fun l h1 h2 => by rw [same _ (by omega), same _ (by omega)]; exact G1.2.2.2.2.2.2.2 l h1 h2)⟩
            · unfold rgO
              rw [same 0 (by omega), same 1 (by omega), same 2 (by omega), same 3 (by omega), same 4 (by omega), same 8 (by omega), same 9 (by omega)]
              exact kp2 _ _ G1.1 (fun z => tg_ne G1.1 lc_ (by show 4 ≠ 11; omega) z)
            · obtain ⟨pf, np_, g1, g2, g3, g4⟩ := G1.2.1
              exact ⟨pf, np_, kp2 _ _ g1 (fun z => tg_ne g1 lc_ (by show 100 ≠ 11; omega) z), (same 9 (by omega)).trans g2, g3, fun i hi => (g4 i hi).trans (same _ (by omega)).symm⟩
            · have z : el j i = el 2 vl := z
              have hji : j = 2 ∧ i = vl := lod_in G1 hj hi hvl z
              obtain ⟨rfl, rfl⟩ := hji
              refine ⟨lt_, ?_, lnm_.mv (fun b x q z => kp2 b x q (fun y => tg_ne q lc_ (by show x.1 ≠ 11; omega) y)) (same _ (by omega)) (fun q hq => same _ (by omega))⟩
              have e9 := mx2 _ _ (c297) (by show 11 ≠ 2; omega) (by show 11 ≠ 3; omega) (by show 11 ≠ 16; omega)
              rw [evh] at e9
              rw [same (35 + 4 * i) (by omega), same (35 + 4 * i + 1) (by omega), same (35 + 4 * i + 3) (by omega), fr9 (35 + 4 * i + 2), if_pos rfl, lp_s hvh3]
              exact e9
            · have b4 := I1.1
              unfold uE at hq
              rcases j4 hj with rfl | rfl | rfl | rfl
              · omega
              · omega
              · exact nz (by rw [show i = vl by omega])
              · omega
        ·
          have hq3 := c_10
          have eB : abW (cnH P1.fr (nI (ix (ndV 0 3 S1)) + 1) (ix (P1.fr 7))) (ix (ndV 0 3 S1)) (ndP 0 3 S1) = wgP 7 (ndP 0 3 S1).a (ndP 0 3 S1) := by rw [evh, ix_nI (by omega), I1.2.1.2.2.1, ix_nI (by have := I.1; omega), ← cn_eq (bd_lod I1) hvh3 _ (by have := I.1; omega)]; exact ab_2 hov2 (by rw [fr_nd, ← hfS1]; rw [evh] at hq3; exact hq3)
          refine g_aload_n dX3_aboard_89 2 rfl ?_
          refine g_bipush (x := 7) dX3_aboard_90 rfl ?_
          refine g_callV (t_X3_wrong _ EK (⟨_, _, _, _, _, _, X291⟩) 7 (by decide)) (lw_V q678 q680 qs4 q129 q681) okX3_wrong (hrd291) rfl rfl rfl rfl (Nat.le_of_ble_eq_true rfl) dX3_aboard_92 (fun v1 h298 _ _ hq => ?_)
          obtain ⟨rfl, Y298⟩ := hq
          show wp Δ (d + 10) muX3_aboard 95 [(2, .int (ndV 0 3 S1)), (1, .int (ndV 8 12 P1)), (0, .ref E.rd)] [] h298 _
          obtain ⟨w298, now298, e298, ft298, fp298, Q298, X298⟩ := id Y298
          obtain ⟨hrd298, htk298, T298, ⟨he298, hQe298, hen298, hkk298⟩, hst298, hro298, hsub298, hcr298, hct298, hcp298, hcw298⟩ := id X298
          obtain ⟨num298, z298, le298, hnow298, S298, h3_298, h2_298⟩ := id T298
          obtain ⟨b298, sh298, sz298, B298⟩ := id S298
          refine g_aload_n dX3_aboard_95 2 rfl ?_
          refine g_callV (t_X3_on _ EK (⟨_, _, _, _, _, _, X298⟩)) (lw_V q686 q688 qs6 q129 q689) okX3_on (hrd298) rfl rfl rfl rfl (Nat.le_of_ble_eq_true rfl) dX3_aboard_96 (fun v1 h299 _ _ hq => ?_)
          obtain ⟨rfl, Y299⟩ := hq
          show wp Δ (d + 10) muX3_aboard 99 [(2, .int (ndV 0 3 S1)), (1, .int (ndV 8 12 P1)), (0, .ref E.rd)] [] h299 _
          obtain ⟨w299, now299, e299, ft299, fp299, Q299, X299⟩ := id Y299
          obtain ⟨hrd299, htk299, T299, ⟨he299, hQe299, hen299, hkk299⟩, hst299, hro299, hsub299, hcr299, hct299, hcp299, hcw299⟩ := id X299
          obtain ⟨num299, z299, le299, hnow299, S299, h3_299, h2_299⟩ := id T299
          obtain ⟨b299, sh299, sz299, B299⟩ := id S299
          obtain ⟨S2, qS2⟩ : ∃ S : Pk, S = paP E.t E.n (abW (cnH P1.fr (nI (ix (ndV 0 3 S1)) + 1) (ix (P1.fr 7))) (ix (ndV 0 3 S1)) (ndP 0 3 S1)) := ⟨_, rfl⟩
          have ZS2 : PX Δ E L h299 c0 S2 := by rw [qS2]; exact (by rw [eB]; exact Y299)
          have hfS2 : S2.fr = P1.fr := by rw [qS2, fr_pa, fr_abw, fr_nd, hfS1]
          have GS2 : GP Δ E c0 S2.fr EL cp cnt el := by rw [hfS2]; exact G1
          have IS2 : LIq (cnt 0) (cnt 1) (cnt 2) (cnt 3) np nf 13 S2.fr := by rw [hfS2]; exact I1
          have EOS2 : eOk E.n S2 := by rw [qS2]; exact eOk_pa EK.1 (eOk_aw (eOk_nd EOS1))
          obtain ⟨w300, now300, e300, ft300, fp300, Q300, X300⟩ := id ZS2
          obtain ⟨hrd300, htk300, T300, ⟨he300, hQe300, hen300, hkk300⟩, hst300, hro300, hsub300, hcr300, hct300, hcp300, hcw300⟩ := id X300
          obtain ⟨num300, z300, le300, hnow300, S300, h3_300, h2_300⟩ := id T300
          obtain ⟨b300, sh300, sz300, B300⟩ := id S300
          refine g_aload_n dX3_aboard_99 2 rfl ?_
          refine g_callV (t_X3_isOver _ (⟨_, _, _, _, _, _, X300⟩)) (lw_V q682 q684 qs5 q129 q685) okX3_isOver (hrd300) rfl rfl rfl rfl (Nat.le_of_ble_eq_true rfl) dX3_aboard_100 (fun v1 h1 _ _ hq => ?_)
          obtain ⟨rfl, hh⟩ := hq
          rw [hh]
          show wp Δ (d + 10) muX3_aboard 103 [(2, .int (ndV 0 3 S1)), (1, .int (ndV 8 12 P1)), (0, .ref E.rd)] [.int (bI (decide (¬ S2.f = 0)))] h299 _
          refine gb_ne (tgt := 124) dX3_aboard_103 (by decide) (fun c_12 => ?_) (fun c_12 => ?_)
          ·
            have hov3 := ov_t c_12
            refine g_vret rfl dX3_aboard_124 ?_
            have eL : abL E.t E.n P1 = abE (ix (ndV 8 12 P1)) (ix (ndV 0 3 S1)) S2 := by unfold abL; rw [← qS1, ← qS2]
            exact lnq_no (c1 := c0) (by rw [← hP1, eL]; exact px_abE (lnq_m 2 ⟨_, _, _, _, _, _, X300⟩)) (fun b x _ q => q) (by rw [← hP1, eL, abE_f]; exact hov3) ⟨_, _, _, _, _, G⟩
          ·
            have hov3 := ov_f c_12
            have hov2 : (ndP 0 3 S1).f = 0 := by
              have q := hov3
              rw [qS2, f_pa] at q
              exact (f_aw q).1
            have hov1 : (ndP 8 12 P1).f = 0 := by
              have q := f_nd hov2
              rw [qS1] at q
              exact f_abS q
            obtain ⟨vl, hvl, evl⟩ := nd_l I1 (hov1)
            obtain ⟨lt_, lc_, lnm_⟩ := gp_l G1 vl hvl
            have hvl5 : vl < 5 := by have := I.1; omega
            obtain ⟨vh, hvh, evh⟩ := nd_h IS1 hov2
            have hvh3 : vh < 4 := by have := I.1; omega
            have nrl : E.rd ≠ el 2 vl := tg_ne hrd0 (hsub0 _ _ lc_) (by show 2 ≠ 11; omega)
            have nrg2 : E.rg ≠ el 2 vl := tg_ne G.1 lc_ (by show 4 ≠ 11; omega)
            have nlo : n0 Δ ≤ el 2 vl := by have := (G.2.2.2.2.2.2.1 2 (by omega)).2.1 vl hvl; omega
            refine g_aload_n dX3_aboard_106 2 rfl ?_
            refine gh_get (x := .ref E.rg) f_2_1 q579 (hrd300) dX3_aboard_107 rfl ?_
            refine gh_get (x := .ref (E.rg + 4)) f_4_10 q327 (hsub300 _ _ (G.1)) dX3_aboard_110 rfl ?_
            refine g_iload_n dX3_aboard_113 1 rfl ?_
            refine wp_top (z := .int (nI vl)) (congrArg Value.int (evl)) ?_
            obtain ⟨lf_, hl_⟩ := AL_c ((LX.al (G.2.2.2.1 2 (by omega))).mono hsub300)
            refine g_callV (t_J2_get _ ((LX.al (G.2.2.2.1 2 (by omega))).mono hsub300) vl (by omega)) (lw_V q974 q750 q751 q127 q752) okJ2_get hl_ rfl rfl rfl rfl (Nat.le_of_ble_eq_true rfl) dX3_aboard_114 (fun v1 h1 _ _ hq => ?_)
            obtain ⟨rfl, hh⟩ := hq
            rw [hh]
            show wp Δ (d + 10) muX3_aboard 117 [(2, .int (ndV 0 3 S1)), (1, .int (ndV 8 12 P1)), (0, .ref E.rd)] [.ref (el 2 vl)] h299 _
            refine g_castS (hsub300 _ _ (lc_)) rfl q928 dX3_aboard_117 ?_
            refine g_iload_n dX3_aboard_120 0 rfl ?_
            refine gh_put (f2 := ob [.ref lt_, .int (P1.fr (35 + 4 * vl)), .int (P1.fr (35 + 4 * vl + 1)), .int (ndV 0 3 S1), .int (P1.fr (35 + 4 * vl + 3))]) f_11_3 q945 (hsub300 _ _ (lc_)) (by omega) dX3_aboard_121 rfl rfl (ob_u [.ref lt_, .int (P1.fr (35 + 4 * vl)), .int (P1.fr (35 + 4 * vl + 1)), .int (lpS (P1.fr (35 + 4 * vl + 2))), .int (P1.fr (35 + 4 * vl + 3))] 3 (.int (ndV 0 3 S1)) (Nat.le_of_ble_eq_true rfl)) ?_
            refine wp_put (Fr.refl (fun b => b = el 2 vl) _) (fun q => by first | exact absurd q (by omega) | exact Or.inl rfl | exact Or.inr rfl | exact Or.inr (Or.inl rfl) | exact Or.inr (Or.inr rfl) | exact Or.inr ⟨rfl, by omega⟩ | exact rfl | (simp only []; omega)) (hsub300 _ _ (lc_)) (by omega) (fun u301 F301 z301 c301 k301 => ?_)
            refine g_vret rfl dX3_aboard_124 ?_
            have eL : abL E.t E.n P1 = sfP (35 + 4 * vl + 2) (nI vh + 1) S2 := by
              unfold abL abE
              rw [← qS1, ← qS2, evl, evh, ix_nI (by omega), ix_nI (by omega), if_pos hov3]
            have fr9 : ∀ q, (abL E.t E.n P1).fr q = if q = 35 + 4 * vl + 2 then nI vh + 1 else P1.fr q := fun q => by
              rw [eL]
              show (if q = 35 + 4 * vl + 2 then nI vh + 1 else S2.fr q) = _
              rw [hfS2]
            have same : ∀ q, q ≠ 35 + 4 * vl + 2 → (abL E.t E.n P1).fr q = P1.fr q := fun q h1 => by rw [fr9, if_neg h1]
            obtain ⟨c2, Y2, kp2, mx2⟩ := px_gen (⟨_, _, _, _, _, _, X300⟩ : PX Δ E L h299 c0 S2) (F301.le (by omega) (by omega) (fun _ _ q => q)) (fun b x q z => by
              exact tgW R5 q z (hsub300 _ _ lc_) ⟨by show 11 ≠ 2; omega, by show 11 ≠ 3; omega, by show 11 ≠ 5; omega, by show 11 ≠ 16; omega, by show 11 ≠ 102; omega⟩)
            refine lnq_mk (c1 := c2) (by rw [← hP1, eL]; exact px_sf (lnq_m 1 Y2)) (fun b x hb q => kp2 b x q (fun z => by have z : b = el 2 vl := z; have := (G.2.2.2.2.2.2.1 2 (by omega)).2.1 vl hvl; omega)) ?_
            rw [← hP1]
            refine ⟨EL, cp, cnt, el, gp_keep G1 kp2 (fun b x q z => tgW R4 q z (lc_) ⟨by show 11 ≠ 14; omega, by show 11 ≠ 103; omega, by show 11 ≠ 16; omega, by show 11 ≠ 102; omega⟩) ?_ ?_ ⟨same 5 (by omega), same 6 (by omega), same 7 (by omega), same 10 (by omega)⟩ (fun j i hj hi => ⟨fun z => ?_, fun nz q hq => same q (fun e => ?_)⟩) (fun l h1 h2 => by rw [same _ (by omega), same _ (by omega)]; exact G1.2.2.2.2.2.2.2 l h1 h2)⟩
            · unfold rgO
              rw [same 0 (by omega), same 1 (by omega), same 2 (by omega), same 3 (by omega), same 4 (by omega), same 8 (by omega), same 9 (by omega)]
              exact kp2 _ _ G1.1 (fun z => tg_ne G1.1 lc_ (by show 4 ≠ 11; omega) z)
            · obtain ⟨pf, np_, g1, g2, g3, g4⟩ := G1.2.1
              exact ⟨pf, np_, kp2 _ _ g1 (fun z => tg_ne g1 lc_ (by show 100 ≠ 11; omega) z), (same 9 (by omega)).trans g2, g3, fun i hi => (g4 i hi).trans (same _ (by omega)).symm⟩
            · have z : el j i = el 2 vl := z
              have hji : j = 2 ∧ i = vl := lod_in G1 hj hi hvl z
              obtain ⟨rfl, rfl⟩ := hji
              refine ⟨lt_, ?_, lnm_.mv (fun b x q z => kp2 b x q (fun y => tg_ne q lc_ (by show x.1 ≠ 11; omega) y)) (same _ (by omega)) (fun q hq => same _ (by omega))⟩
              have e9 := mx2 _ _ (c301) (by show 11 ≠ 2; omega) (by show 11 ≠ 3; omega) (by show 11 ≠ 16; omega)
              rw [evh] at e9
              rw [same (35 + 4 * i) (by omega), same (35 + 4 * i + 1) (by omega), same (35 + 4 * i + 3) (by omega), fr9 (35 + 4 * i + 2), if_pos rfl, lp_s hvh3]
              exact e9
            · have b4 := I1.1
              unfold uE at hq
              rcases j4 hj with rfl | rfl | rfl | rfl
              · omega
              · omega
              · exact nz (by rw [show i = vl by omega])
              · omega
    ·
      have hq2 := c_7
      have eA : aaW (ix (ndV 8 12 P1)) (ndP 8 12 P1) = wgP 3 (ndP 8 12 P1).a (ndP 8 12 P1) := by rw [evl, ix_nI (by omega)]; exact aa_2 hov1 (by rw [fr_nd]; exact fun z => hq2 ((lp_0 (bd_lod I1 vl hvl5) (by omega)).mpr (Int32.not_lt.mpr z)))
      refine g_aload_n dX3_aboard_40 1 rfl ?_
      refine g_iconst (x := 3) dX3_aboard_41 rfl ?_
      refine g_callV (t_X3_wrong _ EK (⟨_, _, _, _, _, _, X275⟩) 3 (by decide)) (lw_V q678 q680 qs4 q129 q681) okX3_wrong (hrd275) rfl rfl rfl rfl (Nat.le_of_ble_eq_true rfl) dX3_aboard_42 (fun v1 h302 _ _ hq => ?_)
      obtain ⟨rfl, Y302⟩ := hq
      show wp Δ (d + 10) muX3_aboard 45 [(1, .int (ndV 8 12 P1)), (0, .ref E.rd)] [] h302 _
      obtain ⟨w302, now302, e302, ft302, fp302, Q302, X302⟩ := id Y302
      obtain ⟨hrd302, htk302, T302, ⟨he302, hQe302, hen302, hkk302⟩, hst302, hro302, hsub302, hcr302, hct302, hcp302, hcw302⟩ := id X302
      obtain ⟨num302, z302, le302, hnow302, S302, h3_302, h2_302⟩ := id T302
      obtain ⟨b302, sh302, sz302, B302⟩ := id S302
      refine g_aload_n dX3_aboard_45 1 rfl ?_
      refine g_callV (t_X3_on _ EK (⟨_, _, _, _, _, _, X302⟩)) (lw_V q686 q688 qs6 q129 q689) okX3_on (hrd302) rfl rfl rfl rfl (Nat.le_of_ble_eq_true rfl) dX3_aboard_46 (fun v1 h303 _ _ hq => ?_)
      obtain ⟨rfl, Y303⟩ := hq
      show wp Δ (d + 10) muX3_aboard 49 [(1, .int (ndV 8 12 P1)), (0, .ref E.rd)] [] h303 _
      obtain ⟨w303, now303, e303, ft303, fp303, Q303, X303⟩ := id Y303
      obtain ⟨hrd303, htk303, T303, ⟨he303, hQe303, hen303, hkk303⟩, hst303, hro303, hsub303, hcr303, hct303, hcp303, hcw303⟩ := id X303
      obtain ⟨num303, z303, le303, hnow303, S303, h3_303, h2_303⟩ := id T303
      obtain ⟨b303, sh303, sz303, B303⟩ := id S303
      obtain ⟨S1, qS1⟩ : ∃ S : Pk, S = abQ E.t E.n P1 := ⟨_, rfl⟩
      have ZS1 : PX Δ E L h303 c0 S1 := by rw [qS1]; exact (by unfold abQ; rw [eA]; exact Y303)
      have hfS1 : S1.fr = P1.fr := by rw [qS1]; unfold abQ; rw [fr_pa, fr_aa, fr_nd]
      have GS1 : GP Δ E c0 S1.fr EL cp cnt el := by rw [hfS1]; exact G1
      have IS1 : LIq (cnt 0) (cnt 1) (cnt 2) (cnt 3) np nf 13 S1.fr := by rw [hfS1]; exact I1
      have EOS1 : eOk E.n S1 := by rw [qS1]; exact (by unfold abQ; exact eOk_pa EK.1 (eOk_aa (eOk_nd EO1)))
      obtain ⟨w304, now304, e304, ft304, fp304, Q304, X304⟩ := id ZS1
      obtain ⟨hrd304, htk304, T304, ⟨he304, hQe304, hen304, hkk304⟩, hst304, hro304, hsub304, hcr304, hct304, hcp304, hcw304⟩ := id X304
      obtain ⟨num304, z304, le304, hnow304, S304, h3_304, h2_304⟩ := id T304
      obtain ⟨b304, sh304, sz304, B304⟩ := id S304
      refine g_aload_n dX3_aboard_49 1 rfl ?_
      refine g_callV (t_X3_knownHouse _ EK (⟨_, _, _, _, _, _, X304⟩) GS1 IS1 EOS1) (lw_V q975 q977 qs23 q129 q978) okX3_knownHouse (hrd304) rfl rfl rfl rfl (Nat.le_of_ble_eq_true rfl) dX3_aboard_50 (fun v1 h305 _ _ hq => ?_)
      obtain ⟨rfl, Y305⟩ := hq
      show wp Δ (d + 10) muX3_aboard 53 [(1, .int (ndV 8 12 P1)), (0, .ref E.rd)] [.int (ndV 0 3 S1)] h305 _
      obtain ⟨w305, now305, e305, ft305, fp305, Q305, X305⟩ := id Y305
      obtain ⟨hrd305, htk305, T305, ⟨he305, hQe305, hen305, hkk305⟩, hst305, hro305, hsub305, hcr305, hct305, hcp305, hcw305⟩ := id X305
      obtain ⟨num305, z305, le305, hnow305, S305, h3_305, h2_305⟩ := id T305
      obtain ⟨b305, sh305, sz305, B305⟩ := id S305
      refine g_istore_n (lv' := [(2, .int (ndV 0 3 S1)), (1, .int (ndV 8 12 P1)), (0, .ref E.rd)]) dX3_aboard_53 (by decide) rfl ?_
      refine g_aload_n dX3_aboard_54 2 rfl ?_
      refine g_callV (t_X3_isOver _ (⟨_, _, _, _, _, _, X305⟩)) (lw_V q682 q684 qs5 q129 q685) okX3_isOver (hrd305) rfl rfl rfl rfl (Nat.le_of_ble_eq_true rfl) dX3_aboard_55 (fun v1 h1 _ _ hq => ?_)
      obtain ⟨rfl, hh⟩ := hq
      rw [hh]
      show wp Δ (d + 10) muX3_aboard 58 [(2, .int (ndV 0 3 S1)), (1, .int (ndV 8 12 P1)), (0, .ref E.rd)] [.int (bI (decide (¬ (ndP 0 3 S1).f = 0)))] h305 _
      refine gb_ne (tgt := 95) dX3_aboard_58 (by decide) (fun c_13 => ?_) (fun c_13 => ?_)
      ·
        have hov2 := ov_t c_13
        have eB : abW (cnH P1.fr (nI (ix (ndV 0 3 S1)) + 1) (ix (P1.fr 7))) (ix (ndV 0 3 S1)) (ndP 0 3 S1) = ndP 0 3 S1 := ab_n hov2
        refine g_aload_n dX3_aboard_95 2 rfl ?_
        refine g_callV (t_X3_on _ EK (⟨_, _, _, _, _, _, X305⟩)) (lw_V q686 q688 qs6 q129 q689) okX3_on (hrd305) rfl rfl rfl rfl (Nat.le_of_ble_eq_true rfl) dX3_aboard_96 (fun v1 h306 _ _ hq => ?_)
        obtain ⟨rfl, Y306⟩ := hq
        show wp Δ (d + 10) muX3_aboard 99 [(2, .int (ndV 0 3 S1)), (1, .int (ndV 8 12 P1)), (0, .ref E.rd)] [] h306 _
        obtain ⟨w306, now306, e306, ft306, fp306, Q306, X306⟩ := id Y306
        obtain ⟨hrd306, htk306, T306, ⟨he306, hQe306, hen306, hkk306⟩, hst306, hro306, hsub306, hcr306, hct306, hcp306, hcw306⟩ := id X306
        obtain ⟨num306, z306, le306, hnow306, S306, h3_306, h2_306⟩ := id T306
        obtain ⟨b306, sh306, sz306, B306⟩ := id S306
        obtain ⟨S2, qS2⟩ : ∃ S : Pk, S = paP E.t E.n (abW (cnH P1.fr (nI (ix (ndV 0 3 S1)) + 1) (ix (P1.fr 7))) (ix (ndV 0 3 S1)) (ndP 0 3 S1)) := ⟨_, rfl⟩
        have ZS2 : PX Δ E L h306 c0 S2 := by rw [qS2]; exact (by rw [eB]; exact Y306)
        have hfS2 : S2.fr = P1.fr := by rw [qS2, fr_pa, fr_abw, fr_nd, hfS1]
        have GS2 : GP Δ E c0 S2.fr EL cp cnt el := by rw [hfS2]; exact G1
        have IS2 : LIq (cnt 0) (cnt 1) (cnt 2) (cnt 3) np nf 13 S2.fr := by rw [hfS2]; exact I1
        have EOS2 : eOk E.n S2 := by rw [qS2]; exact eOk_pa EK.1 (eOk_aw (eOk_nd EOS1))
        obtain ⟨w307, now307, e307, ft307, fp307, Q307, X307⟩ := id ZS2
        obtain ⟨hrd307, htk307, T307, ⟨he307, hQe307, hen307, hkk307⟩, hst307, hro307, hsub307, hcr307, hct307, hcp307, hcw307⟩ := id X307
        obtain ⟨num307, z307, le307, hnow307, S307, h3_307, h2_307⟩ := id T307
        obtain ⟨b307, sh307, sz307, B307⟩ := id S307
        refine g_aload_n dX3_aboard_99 2 rfl ?_
        refine g_callV (t_X3_isOver _ (⟨_, _, _, _, _, _, X307⟩)) (lw_V q682 q684 qs5 q129 q685) okX3_isOver (hrd307) rfl rfl rfl rfl (Nat.le_of_ble_eq_true rfl) dX3_aboard_100 (fun v1 h1 _ _ hq => ?_)
        obtain ⟨rfl, hh⟩ := hq
        rw [hh]
        show wp Δ (d + 10) muX3_aboard 103 [(2, .int (ndV 0 3 S1)), (1, .int (ndV 8 12 P1)), (0, .ref E.rd)] [.int (bI (decide (¬ S2.f = 0)))] h306 _
        refine gb_ne (tgt := 124) dX3_aboard_103 (by decide) (fun c_14 => ?_) (fun c_14 => ?_)
        ·
          have hov3 := ov_t c_14
          refine g_vret rfl dX3_aboard_124 ?_
          have eL : abL E.t E.n P1 = abE (ix (ndV 8 12 P1)) (ix (ndV 0 3 S1)) S2 := by unfold abL; rw [← qS1, ← qS2]
          exact lnq_no (c1 := c0) (by rw [← hP1, eL]; exact px_abE (lnq_m 2 ⟨_, _, _, _, _, _, X307⟩)) (fun b x _ q => q) (by rw [← hP1, eL, abE_f]; exact hov3) ⟨_, _, _, _, _, G⟩
        ·
          have hov3 := ov_f c_14
          have hov2 : (ndP 0 3 S1).f = 0 := by
            have q := hov3
            rw [qS2, f_pa] at q
            exact (f_aw q).1
          have hov1 : (ndP 8 12 P1).f = 0 := by
            have q := f_nd hov2
            rw [qS1] at q
            exact f_abS q
          obtain ⟨vl, hvl, evl⟩ := nd_l I1 (hov1)
          obtain ⟨lt_, lc_, lnm_⟩ := gp_l G1 vl hvl
          have hvl5 : vl < 5 := by have := I.1; omega
          obtain ⟨vh, hvh, evh⟩ := nd_h IS1 hov2
          have hvh3 : vh < 4 := by have := I.1; omega
          have nrl : E.rd ≠ el 2 vl := tg_ne hrd0 (hsub0 _ _ lc_) (by show 2 ≠ 11; omega)
          have nrg2 : E.rg ≠ el 2 vl := tg_ne G.1 lc_ (by show 4 ≠ 11; omega)
          have nlo : n0 Δ ≤ el 2 vl := by have := (G.2.2.2.2.2.2.1 2 (by omega)).2.1 vl hvl; omega
          refine g_aload_n dX3_aboard_106 2 rfl ?_
          refine gh_get (x := .ref E.rg) f_2_1 q579 (hrd307) dX3_aboard_107 rfl ?_
          refine gh_get (x := .ref (E.rg + 4)) f_4_10 q327 (hsub307 _ _ (G.1)) dX3_aboard_110 rfl ?_
          refine g_iload_n dX3_aboard_113 1 rfl ?_
          refine wp_top (z := .int (nI vl)) (congrArg Value.int (evl)) ?_
          obtain ⟨lf_, hl_⟩ := AL_c ((LX.al (G.2.2.2.1 2 (by omega))).mono hsub307)
          refine g_callV (t_J2_get _ ((LX.al (G.2.2.2.1 2 (by omega))).mono hsub307) vl (by omega)) (lw_V q974 q750 q751 q127 q752) okJ2_get hl_ rfl rfl rfl rfl (Nat.le_of_ble_eq_true rfl) dX3_aboard_114 (fun v1 h1 _ _ hq => ?_)
          obtain ⟨rfl, hh⟩ := hq
          rw [hh]
          show wp Δ (d + 10) muX3_aboard 117 [(2, .int (ndV 0 3 S1)), (1, .int (ndV 8 12 P1)), (0, .ref E.rd)] [.ref (el 2 vl)] h306 _
          refine g_castS (hsub307 _ _ (lc_)) rfl q928 dX3_aboard_117 ?_
          refine g_iload_n dX3_aboard_120 0 rfl ?_
          refine gh_put (f2 := ob [.ref lt_, .int (P1.fr (35 + 4 * vl)), .int (P1.fr (35 + 4 * vl + 1)), .int (ndV 0 3 S1), .int (P1.fr (35 + 4 * vl + 3))]) f_11_3 q945 (hsub307 _ _ (lc_)) (by omega) dX3_aboard_121 rfl rfl (ob_u [.ref lt_, .int (P1.fr (35 + 4 * vl)), .int (P1.fr (35 + 4 * vl + 1)), .int (lpS (P1.fr (35 + 4 * vl + 2))), .int (P1.fr (35 + 4 * vl + 3))] 3 (.int (ndV 0 3 S1)) (Nat.le_of_ble_eq_true rfl)) ?_
          refine wp_put (Fr.refl (fun b => b = el 2 vl) _) (fun q => by first | exact absurd q (by omega) | exact Or.inl rfl | exact Or.inr rfl | exact Or.inr (Or.inl rfl) | exact Or.inr (Or.inr rfl) | exact Or.inr ⟨rfl, by omega⟩ | exact rfl | (simp only []; omega)) (hsub307 _ _ (lc_)) (by omega) (fun u308 F308 z308 c308 k308 => ?_)
          refine g_vret rfl dX3_aboard_124 ?_
          have eL : abL E.t E.n P1 = sfP (35 + 4 * vl + 2) (nI vh + 1) S2 := by
            unfold abL abE
            rw [← qS1, ← qS2, evl, evh, ix_nI (by omega), ix_nI (by omega), if_pos hov3]
          have fr9 : ∀ q, (abL E.t E.n P1).fr q = if q = 35 + 4 * vl + 2 then nI vh + 1 else P1.fr q := fun q => by
            rw [eL]
            show (if q = 35 + 4 * vl + 2 then nI vh + 1 else S2.fr q) = _
            rw [hfS2]
          have same : ∀ q, q ≠ 35 + 4 * vl + 2 → (abL E.t E.n P1).fr q = P1.fr q := fun q h1 => by rw [fr9, if_neg h1]
          obtain ⟨c2, Y2, kp2, mx2⟩ := px_gen (⟨_, _, _, _, _, _, X307⟩ : PX Δ E L h306 c0 S2) (F308.le (by omega) (by omega) (fun _ _ q => q)) (fun b x q z => by
            exact tgW R5 q z (hsub307 _ _ lc_) ⟨by show 11 ≠ 2; omega, by show 11 ≠ 3; omega, by show 11 ≠ 5; omega, by show 11 ≠ 16; omega, by show 11 ≠ 102; omega⟩)
          refine lnq_mk (c1 := c2) (by rw [← hP1, eL]; exact px_sf (lnq_m 1 Y2)) (fun b x hb q => kp2 b x q (fun z => by have z : b = el 2 vl := z; have := (G.2.2.2.2.2.2.1 2 (by omega)).2.1 vl hvl; omega)) ?_
          rw [← hP1]
          refine ⟨EL, cp, cnt, el, gp_keep G1 kp2 (fun b x q z => tgW R4 q z (lc_) ⟨by show 11 ≠ 14; omega, by show 11 ≠ 103; omega, by show 11 ≠ 16; omega, by show 11 ≠ 102; omega⟩) ?_ ?_ ⟨same 5 (by omega), same 6 (by omega), same 7 (by omega), same 10 (by omega)⟩ (fun j i hj hi => ⟨fun z => ?_, fun nz q hq => same q (fun e => ?_)⟩) (fun l h1 h2 => by rw [same _ (by omega), same _ (by omega)]; exact G1.2.2.2.2.2.2.2 l h1 h2)⟩
          · unfold rgO
            rw [same 0 (by omega), same 1 (by omega), same 2 (by omega), same 3 (by omega), same 4 (by omega), same 8 (by omega), same 9 (by omega)]
            exact kp2 _ _ G1.1 (fun z => tg_ne G1.1 lc_ (by show 4 ≠ 11; omega) z)
          · obtain ⟨pf, np_, g1, g2, g3, g4⟩ := G1.2.1
            exact ⟨pf, np_, kp2 _ _ g1 (fun z => tg_ne g1 lc_ (by show 100 ≠ 11; omega) z), (same 9 (by omega)).trans g2, g3, fun i hi => (g4 i hi).trans (same _ (by omega)).symm⟩
          · have z : el j i = el 2 vl := z
            have hji : j = 2 ∧ i = vl := lod_in G1 hj hi hvl z
            obtain ⟨rfl, rfl⟩ := hji
            refine ⟨lt_, ?_, lnm_.mv (fun b x q z => kp2 b x q (fun y => tg_ne q lc_ (by show x.1 ≠ 11; omega) y)) (same _ (by omega)) (fun q hq => same _ (by omega))⟩
            have e9 := mx2 _ _ (c308) (by show 11 ≠ 2; omega) (by show 11 ≠ 3; omega) (by show 11 ≠ 16; omega)
            rw [evh] at e9
            rw [same (35 + 4 * i) (by omega), same (35 + 4 * i + 1) (by omega), same (35 + 4 * i + 3) (by omega), fr9 (35 + 4 * i + 2), if_pos rfl, lp_s hvh3]
            exact e9
          · have b4 := I1.1
            unfold uE at hq
            rcases j4 hj with rfl | rfl | rfl | rfl
            · omega
            · omega
            · exact nz (by rw [show i = vl by omega])
            · omega
      ·
        have hov2 := ov_f c_13
        obtain ⟨vh, hvh, evh⟩ := nd_h IS1 hov2
        obtain ⟨hkd_, ht_, hkd3, _, hc_, _⟩ := gp_h GS1 vh hvh
        have hvh3 : vh < 4 := by have := I.1; omega
        refine g_aload_n dX3_aboard_61 2 rfl ?_
        refine gh_get (x := .ref E.rg) f_2_1 q579 (hrd305) dX3_aboard_62 rfl ?_
        refine g_iload_n dX3_aboard_65 0 rfl ?_
        refine g_callV (t_X5_aboard _ (hf := (fun i => lpS (S1.fr (35 + 4 * i + 2)))) (hsub305 _ _ GS1.1) rfl ((LX.al (GS1.2.2.2.1 2 (by omega))).mono hsub305) (fun i hi => by obtain ⟨t_, q_, _⟩ := gp_l GS1 i hi; exact ⟨t_, _, _, _, hsub305 _ _ q_⟩) (ndV 0 3 S1)) (lw_V q979 q980 q981 q131 q982) okX5_aboard (hsub305 _ _ GS1.1) rfl rfl rfl rfl (Nat.le_of_ble_eq_true rfl) dX3_aboard_66 (fun v1 h1 _ _ hq => ?_)
        obtain ⟨rfl, hh⟩ := hq
        rw [hh]
        show wp Δ (d + 10) muX3_aboard 69 [(2, .int (ndV 0 3 S1)), (1, .int (ndV 8 12 P1)), (0, .ref E.rd)] [.int (cnA (fun i => lpS (S1.fr (35 + 4 * i + 2))) (ndV 0 3 S1) (cnt 2))] h305 _
        refine g_aload_n dX3_aboard_69 2 rfl ?_
        refine gh_get (x := .ref E.rg) f_2_1 q579 (hrd305) dX3_aboard_70 rfl ?_
        refine gh_get (x := .ref (E.rg + 3)) f_4_9 q322 (hsub305 _ _ (G.1)) dX3_aboard_73 rfl ?_
        refine g_iload_n dX3_aboard_76 0 rfl ?_
        refine wp_top (z := .int (nI vh)) (congrArg Value.int (evh)) ?_
        obtain ⟨lf_, hl_⟩ := AL_c ((LX.al (G.2.2.2.1 1 (by omega))).mono hsub305)
        refine g_callV (t_J2_get _ ((LX.al (G.2.2.2.1 1 (by omega))).mono hsub305) vh (by omega)) (lw_V q974 q750 q751 q127 q752) okJ2_get hl_ rfl rfl rfl rfl (Nat.le_of_ble_eq_true rfl) dX3_aboard_77 (fun v1 h1 _ _ hq => ?_)
        obtain ⟨rfl, hh⟩ := hq
        rw [hh]
        show wp Δ (d + 10) muX3_aboard 80 [(2, .int (ndV 0 3 S1)), (1, .int (ndV 8 12 P1)), (0, .ref E.rd)] [.ref (el 1 vh), .int (cnA (fun i => lpS (S1.fr (35 + 4 * i + 2))) (ndV 0 3 S1) (cnt 2))] h305 _
        refine gH_cast hkd3 (hsub305 _ _ (hc_)) q863 dX3_aboard_80 ?_
        refine gh_get (x := .int (S1.fr (19 + 4 * vh + 3))) (fH_3 hkd3) q878 (hsub305 _ _ (hc_)) dX3_aboard_83 rfl ?_
        refine g_icmp_lt (tgt := 95) dX3_aboard_86 (by decide) (fun c_15 => ?_) (fun c_15 => ?_)
        ·
          have hq3 := c_15
          have eB : abW (cnH P1.fr (nI (ix (ndV 0 3 S1)) + 1) (ix (P1.fr 7))) (ix (ndV 0 3 S1)) (ndP 0 3 S1) = ndP 0 3 S1 := by rw [evh, ix_nI (by omega), I1.2.1.2.2.1, ix_nI (by have := I.1; omega), ← cn_eq (bd_lod I1) hvh3 _ (by have := I.1; omega)]; exact ab_1 hov2 (by rw [fr_nd, ← hfS1]; rw [evh] at hq3; exact hq3)
          refine g_aload_n dX3_aboard_95 2 rfl ?_
          refine g_callV (t_X3_on _ EK (⟨_, _, _, _, _, _, X305⟩)) (lw_V q686 q688 qs6 q129 q689) okX3_on (hrd305) rfl rfl rfl rfl (Nat.le_of_ble_eq_true rfl) dX3_aboard_96 (fun v1 h309 _ _ hq => ?_)
          obtain ⟨rfl, Y309⟩ := hq
          show wp Δ (d + 10) muX3_aboard 99 [(2, .int (ndV 0 3 S1)), (1, .int (ndV 8 12 P1)), (0, .ref E.rd)] [] h309 _
          obtain ⟨w309, now309, e309, ft309, fp309, Q309, X309⟩ := id Y309
          obtain ⟨hrd309, htk309, T309, ⟨he309, hQe309, hen309, hkk309⟩, hst309, hro309, hsub309, hcr309, hct309, hcp309, hcw309⟩ := id X309
          obtain ⟨num309, z309, le309, hnow309, S309, h3_309, h2_309⟩ := id T309
          obtain ⟨b309, sh309, sz309, B309⟩ := id S309
          obtain ⟨S2, qS2⟩ : ∃ S : Pk, S = paP E.t E.n (abW (cnH P1.fr (nI (ix (ndV 0 3 S1)) + 1) (ix (P1.fr 7))) (ix (ndV 0 3 S1)) (ndP 0 3 S1)) := ⟨_, rfl⟩
          have ZS2 : PX Δ E L h309 c0 S2 := by rw [qS2]; exact (by rw [eB]; exact Y309)
          have hfS2 : S2.fr = P1.fr := by rw [qS2, fr_pa, fr_abw, fr_nd, hfS1]
          have GS2 : GP Δ E c0 S2.fr EL cp cnt el := by rw [hfS2]; exact G1
          have IS2 : LIq (cnt 0) (cnt 1) (cnt 2) (cnt 3) np nf 13 S2.fr := by rw [hfS2]; exact I1
          have EOS2 : eOk E.n S2 := by rw [qS2]; exact eOk_pa EK.1 (eOk_aw (eOk_nd EOS1))
          obtain ⟨w310, now310, e310, ft310, fp310, Q310, X310⟩ := id ZS2
          obtain ⟨hrd310, htk310, T310, ⟨he310, hQe310, hen310, hkk310⟩, hst310, hro310, hsub310, hcr310, hct310, hcp310, hcw310⟩ := id X310
          obtain ⟨num310, z310, le310, hnow310, S310, h3_310, h2_310⟩ := id T310
          obtain ⟨b310, sh310, sz310, B310⟩ := id S310
          refine g_aload_n dX3_aboard_99 2 rfl ?_
          refine g_callV (t_X3_isOver _ (⟨_, _, _, _, _, _, X310⟩)) (lw_V q682 q684 qs5 q129 q685) okX3_isOver (hrd310) rfl rfl rfl rfl (Nat.le_of_ble_eq_true rfl) dX3_aboard_100 (fun v1 h1 _ _ hq => ?_)
          obtain ⟨rfl, hh⟩ := hq
          rw [hh]
          show wp Δ (d + 10) muX3_aboard 103 [(2, .int (ndV 0 3 S1)), (1, .int (ndV 8 12 P1)), (0, .ref E.rd)] [.int (bI (decide (¬ S2.f = 0)))] h309 _
          refine gb_ne (tgt := 124) dX3_aboard_103 (by decide) (fun c_16 => ?_) (fun c_16 => ?_)
          ·
            have hov3 := ov_t c_16
            refine g_vret rfl dX3_aboard_124 ?_
            have eL : abL E.t E.n P1 = abE (ix (ndV 8 12 P1)) (ix (ndV 0 3 S1)) S2 := by unfold abL; rw [← qS1, ← qS2]
            exact lnq_no (c1 := c0) (by rw [← hP1, eL]; exact px_abE (lnq_m 2 ⟨_, _, _, _, _, _, X310⟩)) (fun b x _ q => q) (by rw [← hP1, eL, abE_f]; exact hov3) ⟨_, _, _, _, _, G⟩
          ·
            have hov3 := ov_f c_16
            have hov2 : (ndP 0 3 S1).f = 0 := by
              have q := hov3
              rw [qS2, f_pa] at q
              exact (f_aw q).1
            have hov1 : (ndP 8 12 P1).f = 0 := by
              have q := f_nd hov2
              rw [qS1] at q
              exact f_abS q
            obtain ⟨vl, hvl, evl⟩ := nd_l I1 (hov1)
            obtain ⟨lt_, lc_, lnm_⟩ := gp_l G1 vl hvl
            have hvl5 : vl < 5 := by have := I.1; omega
            obtain ⟨vh, hvh, evh⟩ := nd_h IS1 hov2
            have hvh3 : vh < 4 := by have := I.1; omega
            have nrl : E.rd ≠ el 2 vl := tg_ne hrd0 (hsub0 _ _ lc_) (by show 2 ≠ 11; omega)
            have nrg2 : E.rg ≠ el 2 vl := tg_ne G.1 lc_ (by show 4 ≠ 11; omega)
            have nlo : n0 Δ ≤ el 2 vl := by have := (G.2.2.2.2.2.2.1 2 (by omega)).2.1 vl hvl; omega
            refine g_aload_n dX3_aboard_106 2 rfl ?_
            refine gh_get (x := .ref E.rg) f_2_1 q579 (hrd310) dX3_aboard_107 rfl ?_
            refine gh_get (x := .ref (E.rg + 4)) f_4_10 q327 (hsub310 _ _ (G.1)) dX3_aboard_110 rfl ?_
            refine g_iload_n dX3_aboard_113 1 rfl ?_
            refine wp_top (z := .int (nI vl)) (congrArg Value.int (evl)) ?_
            obtain ⟨lf_, hl_⟩ := AL_c ((LX.al (G.2.2.2.1 2 (by omega))).mono hsub310)
            refine g_callV (t_J2_get _ ((LX.al (G.2.2.2.1 2 (by omega))).mono hsub310) vl (by omega)) (lw_V q974 q750 q751 q127 q752) okJ2_get hl_ rfl rfl rfl rfl (Nat.le_of_ble_eq_true rfl) dX3_aboard_114 (fun v1 h1 _ _ hq => ?_)
            obtain ⟨rfl, hh⟩ := hq
            rw [hh]
            show wp Δ (d + 10) muX3_aboard 117 [(2, .int (ndV 0 3 S1)), (1, .int (ndV 8 12 P1)), (0, .ref E.rd)] [.ref (el 2 vl)] h309 _
            refine g_castS (hsub310 _ _ (lc_)) rfl q928 dX3_aboard_117 ?_
            refine g_iload_n dX3_aboard_120 0 rfl ?_
            refine gh_put (f2 := ob [.ref lt_, .int (P1.fr (35 + 4 * vl)), .int (P1.fr (35 + 4 * vl + 1)), .int (ndV 0 3 S1), .int (P1.fr (35 + 4 * vl + 3))]) f_11_3 q945 (hsub310 _ _ (lc_)) (by omega) dX3_aboard_121 rfl rfl (ob_u [.ref lt_, .int (P1.fr (35 + 4 * vl)), .int (P1.fr (35 + 4 * vl + 1)), .int (lpS (P1.fr (35 + 4 * vl + 2))), .int (P1.fr (35 + 4 * vl + 3))] 3 (.int (ndV 0 3 S1)) (Nat.le_of_ble_eq_true rfl)) ?_
            refine wp_put (Fr.refl (fun b => b = el 2 vl) _) (fun q => by first | exact absurd q (by omega) | exact Or.inl rfl | exact Or.inr rfl | exact Or.inr (Or.inl rfl) | exact Or.inr (Or.inr rfl) | exact Or.inr ⟨rfl, by omega⟩ | exact rfl | (simp only []; omega)) (hsub310 _ _ (lc_)) (by omega) (fun u311 F311 z311 c311 k311 => ?_)
            refine g_vret rfl dX3_aboard_124 ?_
            have eL : abL E.t E.n P1 = sfP (35 + 4 * vl + 2) (nI vh + 1) S2 := by
              unfold abL abE
              rw [← qS1, ← qS2, evl, evh, ix_nI (by omega), ix_nI (by omega), if_pos hov3]
            have fr9 : ∀ q, (abL E.t E.n P1).fr q = if q = 35 + 4 * vl + 2 then nI vh + 1 else P1.fr q := fun q => by
              rw [eL]
              show (if q = 35 + 4 * vl + 2 then nI vh + 1 else S2.fr q) = _
              rw [hfS2]
            have same : ∀ q, q ≠ 35 + 4 * vl + 2 → (abL E.t E.n P1).fr q = P1.fr q := fun q h1 => by rw [fr9, if_neg h1]
            obtain ⟨c2, Y2, kp2, mx2⟩ := px_gen (⟨_, _, _, _, _, _, X310⟩ : PX Δ E L h309 c0 S2) (F311.le (by omega) (by omega) (fun _ _ q => q)) (fun b x q z => by
              exact tgW R5 q z (hsub310 _ _ lc_) ⟨by show 11 ≠ 2; omega, by show 11 ≠ 3; omega, by show 11 ≠ 5; omega, by show 11 ≠ 16; omega, by show 11 ≠ 102; omega⟩)
            refine lnq_mk (c1 := c2) (by rw [← hP1, eL]; exact px_sf (lnq_m 1 Y2)) (fun b x hb q => kp2 b x q (fun z => by have z : b = el 2 vl := z; have := (G.2.2.2.2.2.2.1 2 (by omega)).2.1 vl hvl; omega)) ?_
            rw [← hP1]
            refine ⟨EL, cp, cnt, el, gp_keep G1 kp2 (fun b x q z => tgW R4 q z (lc_) ⟨by show 11 ≠ 14; omega, by show 11 ≠ 103; omega, by show 11 ≠ 16; omega, by show 11 ≠ 102; omega⟩) ?_ ?_ ⟨same 5 (by omega), same 6 (by omega), same 7 (by omega), same 10 (by omega)⟩ (fun j i hj hi => ⟨fun z => ?_, fun nz q hq => same q (fun e => ?_)⟩) (fun l h1 h2 => by rw [same _ (by omega), same _ (by omega)]; exact G1.2.2.2.2.2.2.2 l h1 h2)⟩
            · unfold rgO
              rw [same 0 (by omega), same 1 (by omega), same 2 (by omega), same 3 (by omega), same 4 (by omega), same 8 (by omega), same 9 (by omega)]
              exact kp2 _ _ G1.1 (fun z => tg_ne G1.1 lc_ (by show 4 ≠ 11; omega) z)
            · obtain ⟨pf, np_, g1, g2, g3, g4⟩ := G1.2.1
              exact ⟨pf, np_, kp2 _ _ g1 (fun z => tg_ne g1 lc_ (by show 100 ≠ 11; omega) z), (same 9 (by omega)).trans g2, g3, fun i hi => (g4 i hi).trans (same _ (by omega)).symm⟩
            · have z : el j i = el 2 vl := z
              have hji : j = 2 ∧ i = vl := lod_in G1 hj hi hvl z
              obtain ⟨rfl, rfl⟩ := hji
              refine ⟨lt_, ?_, lnm_.mv (fun b x q z => kp2 b x q (fun y => tg_ne q lc_ (by show x.1 ≠ 11; omega) y)) (same _ (by omega)) (fun q hq => same _ (by omega))⟩
              have e9 := mx2 _ _ (c311) (by show 11 ≠ 2; omega) (by show 11 ≠ 3; omega) (by show 11 ≠ 16; omega)
              rw [evh] at e9
              rw [same (35 + 4 * i) (by omega), same (35 + 4 * i + 1) (by omega), same (35 + 4 * i + 3) (by omega), fr9 (35 + 4 * i + 2), if_pos rfl, lp_s hvh3]
              exact e9
            · have b4 := I1.1
              unfold uE at hq
              rcases j4 hj with rfl | rfl | rfl | rfl
              · omega
              · omega
              · exact nz (by rw [show i = vl by omega])
              · omega
        ·
          have hq3 := c_15
          have eB : abW (cnH P1.fr (nI (ix (ndV 0 3 S1)) + 1) (ix (P1.fr 7))) (ix (ndV 0 3 S1)) (ndP 0 3 S1) = wgP 7 (ndP 0 3 S1).a (ndP 0 3 S1) := by rw [evh, ix_nI (by omega), I1.2.1.2.2.1, ix_nI (by have := I.1; omega), ← cn_eq (bd_lod I1) hvh3 _ (by have := I.1; omega)]; exact ab_2 hov2 (by rw [fr_nd, ← hfS1]; rw [evh] at hq3; exact hq3)
          refine g_aload_n dX3_aboard_89 2 rfl ?_
          refine g_bipush (x := 7) dX3_aboard_90 rfl ?_
          refine g_callV (t_X3_wrong _ EK (⟨_, _, _, _, _, _, X305⟩) 7 (by decide)) (lw_V q678 q680 qs4 q129 q681) okX3_wrong (hrd305) rfl rfl rfl rfl (Nat.le_of_ble_eq_true rfl) dX3_aboard_92 (fun v1 h312 _ _ hq => ?_)
          obtain ⟨rfl, Y312⟩ := hq
          show wp Δ (d + 10) muX3_aboard 95 [(2, .int (ndV 0 3 S1)), (1, .int (ndV 8 12 P1)), (0, .ref E.rd)] [] h312 _
          obtain ⟨w312, now312, e312, ft312, fp312, Q312, X312⟩ := id Y312
          obtain ⟨hrd312, htk312, T312, ⟨he312, hQe312, hen312, hkk312⟩, hst312, hro312, hsub312, hcr312, hct312, hcp312, hcw312⟩ := id X312
          obtain ⟨num312, z312, le312, hnow312, S312, h3_312, h2_312⟩ := id T312
          obtain ⟨b312, sh312, sz312, B312⟩ := id S312
          refine g_aload_n dX3_aboard_95 2 rfl ?_
          refine g_callV (t_X3_on _ EK (⟨_, _, _, _, _, _, X312⟩)) (lw_V q686 q688 qs6 q129 q689) okX3_on (hrd312) rfl rfl rfl rfl (Nat.le_of_ble_eq_true rfl) dX3_aboard_96 (fun v1 h313 _ _ hq => ?_)
          obtain ⟨rfl, Y313⟩ := hq
          show wp Δ (d + 10) muX3_aboard 99 [(2, .int (ndV 0 3 S1)), (1, .int (ndV 8 12 P1)), (0, .ref E.rd)] [] h313 _
          obtain ⟨w313, now313, e313, ft313, fp313, Q313, X313⟩ := id Y313
          obtain ⟨hrd313, htk313, T313, ⟨he313, hQe313, hen313, hkk313⟩, hst313, hro313, hsub313, hcr313, hct313, hcp313, hcw313⟩ := id X313
          obtain ⟨num313, z313, le313, hnow313, S313, h3_313, h2_313⟩ := id T313
          obtain ⟨b313, sh313, sz313, B313⟩ := id S313
          obtain ⟨S2, qS2⟩ : ∃ S : Pk, S = paP E.t E.n (abW (cnH P1.fr (nI (ix (ndV 0 3 S1)) + 1) (ix (P1.fr 7))) (ix (ndV 0 3 S1)) (ndP 0 3 S1)) := ⟨_, rfl⟩
          have ZS2 : PX Δ E L h313 c0 S2 := by rw [qS2]; exact (by rw [eB]; exact Y313)
          have hfS2 : S2.fr = P1.fr := by rw [qS2, fr_pa, fr_abw, fr_nd, hfS1]
          have GS2 : GP Δ E c0 S2.fr EL cp cnt el := by rw [hfS2]; exact G1
          have IS2 : LIq (cnt 0) (cnt 1) (cnt 2) (cnt 3) np nf 13 S2.fr := by rw [hfS2]; exact I1
          have EOS2 : eOk E.n S2 := by rw [qS2]; exact eOk_pa EK.1 (eOk_aw (eOk_nd EOS1))
          obtain ⟨w314, now314, e314, ft314, fp314, Q314, X314⟩ := id ZS2
          obtain ⟨hrd314, htk314, T314, ⟨he314, hQe314, hen314, hkk314⟩, hst314, hro314, hsub314, hcr314, hct314, hcp314, hcw314⟩ := id X314
          obtain ⟨num314, z314, le314, hnow314, S314, h3_314, h2_314⟩ := id T314
          obtain ⟨b314, sh314, sz314, B314⟩ := id S314
          refine g_aload_n dX3_aboard_99 2 rfl ?_
          refine g_callV (t_X3_isOver _ (⟨_, _, _, _, _, _, X314⟩)) (lw_V q682 q684 qs5 q129 q685) okX3_isOver (hrd314) rfl rfl rfl rfl (Nat.le_of_ble_eq_true rfl) dX3_aboard_100 (fun v1 h1 _ _ hq => ?_)
          obtain ⟨rfl, hh⟩ := hq
          rw [hh]
          show wp Δ (d + 10) muX3_aboard 103 [(2, .int (ndV 0 3 S1)), (1, .int (ndV 8 12 P1)), (0, .ref E.rd)] [.int (bI (decide (¬ S2.f = 0)))] h313 _
          refine gb_ne (tgt := 124) dX3_aboard_103 (by decide) (fun c_17 => ?_) (fun c_17 => ?_)
          ·
            have hov3 := ov_t c_17
            refine g_vret rfl dX3_aboard_124 ?_
            have eL : abL E.t E.n P1 = abE (ix (ndV 8 12 P1)) (ix (ndV 0 3 S1)) S2 := by unfold abL; rw [← qS1, ← qS2]
            exact lnq_no (c1 := c0) (by rw [← hP1, eL]; exact px_abE (lnq_m 2 ⟨_, _, _, _, _, _, X314⟩)) (fun b x _ q => q) (by rw [← hP1, eL, abE_f]; exact hov3) ⟨_, _, _, _, _, G⟩
          ·
            have hov3 := ov_f c_17
            have hov2 : (ndP 0 3 S1).f = 0 := by
              have q := hov3
              rw [qS2, f_pa] at q
              exact (f_aw q).1
            have hov1 : (ndP 8 12 P1).f = 0 := by
              have q := f_nd hov2
              rw [qS1] at q
              exact f_abS q
            obtain ⟨vl, hvl, evl⟩ := nd_l I1 (hov1)
            obtain ⟨lt_, lc_, lnm_⟩ := gp_l G1 vl hvl
            have hvl5 : vl < 5 := by have := I.1; omega
            obtain ⟨vh, hvh, evh⟩ := nd_h IS1 hov2
            have hvh3 : vh < 4 := by have := I.1; omega
            have nrl : E.rd ≠ el 2 vl := tg_ne hrd0 (hsub0 _ _ lc_) (by show 2 ≠ 11; omega)
            have nrg2 : E.rg ≠ el 2 vl := tg_ne G.1 lc_ (by show 4 ≠ 11; omega)
            have nlo : n0 Δ ≤ el 2 vl := by have := (G.2.2.2.2.2.2.1 2 (by omega)).2.1 vl hvl; omega
            refine g_aload_n dX3_aboard_106 2 rfl ?_
            refine gh_get (x := .ref E.rg) f_2_1 q579 (hrd314) dX3_aboard_107 rfl ?_
            refine gh_get (x := .ref (E.rg + 4)) f_4_10 q327 (hsub314 _ _ (G.1)) dX3_aboard_110 rfl ?_
            refine g_iload_n dX3_aboard_113 1 rfl ?_
            refine wp_top (z := .int (nI vl)) (congrArg Value.int (evl)) ?_
            obtain ⟨lf_, hl_⟩ := AL_c ((LX.al (G.2.2.2.1 2 (by omega))).mono hsub314)
            refine g_callV (t_J2_get _ ((LX.al (G.2.2.2.1 2 (by omega))).mono hsub314) vl (by omega)) (lw_V q974 q750 q751 q127 q752) okJ2_get hl_ rfl rfl rfl rfl (Nat.le_of_ble_eq_true rfl) dX3_aboard_114 (fun v1 h1 _ _ hq => ?_)
            obtain ⟨rfl, hh⟩ := hq
            rw [hh]
            show wp Δ (d + 10) muX3_aboard 117 [(2, .int (ndV 0 3 S1)), (1, .int (ndV 8 12 P1)), (0, .ref E.rd)] [.ref (el 2 vl)] h313 _
            refine g_castS (hsub314 _ _ (lc_)) rfl q928 dX3_aboard_117 ?_
            refine g_iload_n dX3_aboard_120 0 rfl ?_
            refine gh_put (f2 := ob [.ref lt_, .int (P1.fr (35 + 4 * vl)), .int (P1.fr (35 + 4 * vl + 1)), .int (ndV 0 3 S1), .int (P1.fr (35 + 4 * vl + 3))]) f_11_3 q945 (hsub314 _ _ (lc_)) (by omega) dX3_aboard_121 rfl rfl (ob_u [.ref lt_, .int (P1.fr (35 + 4 * vl)), .int (P1.fr (35 + 4 * vl + 1)), .int (lpS (P1.fr (35 + 4 * vl + 2))), .int (P1.fr (35 + 4 * vl + 3))] 3 (.int (ndV 0 3 S1)) (Nat.le_of_ble_eq_true rfl)) ?_
            refine wp_put (Fr.refl (fun b => b = el 2 vl) _) (fun q => by first | exact absurd q (by omega) | exact Or.inl rfl | exact Or.inr rfl | exact Or.inr (Or.inl rfl) | exact Or.inr (Or.inr rfl) | exact Or.inr ⟨rfl, by omega⟩ | exact rfl | (simp only []; omega)) (hsub314 _ _ (lc_)) (by omega) (fun u315 F315 z315 c315 k315 => ?_)
            refine g_vret rfl dX3_aboard_124 ?_
            have eL : abL E.t E.n P1 = sfP (35 + 4 * vl + 2) (nI vh + 1) S2 := by
              unfold abL abE
              rw [← qS1, ← qS2, evl, evh, ix_nI (by omega), ix_nI (by omega), if_pos hov3]
            have fr9 : ∀ q, (abL E.t E.n P1).fr q = if q = 35 + 4 * vl + 2 then nI vh + 1 else P1.fr q := fun q => by
              rw [eL]
              show (if q = 35 + 4 * vl + 2 then nI vh + 1 else S2.fr q) = _
              rw [hfS2]
            have same : ∀ q, q ≠ 35 + 4 * vl + 2 → (abL E.t E.n P1).fr q = P1.fr q := fun q h1 => by rw [fr9, if_neg h1]
            obtain ⟨c2, Y2, kp2, mx2⟩ := px_gen (⟨_, _, _, _, _, _, X314⟩ : PX Δ E L h313 c0 S2) (F315.le (by omega) (by omega) (fun _ _ q => q)) (fun b x q z => by
              exact tgW R5 q z (hsub314 _ _ lc_) ⟨by show 11 ≠ 2; omega, by show 11 ≠ 3; omega, by show 11 ≠ 5; omega, by show 11 ≠ 16; omega, by show 11 ≠ 102; omega⟩)
            refine lnq_mk (c1 := c2) (by rw [← hP1, eL]; exact px_sf (lnq_m 1 Y2)) (fun b x hb q => kp2 b x q (fun z => by have z : b = el 2 vl := z; have := (G.2.2.2.2.2.2.1 2 (by omega)).2.1 vl hvl; omega)) ?_
            rw [← hP1]
            refine ⟨EL, cp, cnt, el, gp_keep G1 kp2 (fun b x q z => tgW R4 q z (lc_) ⟨by show 11 ≠ 14; omega, by show 11 ≠ 103; omega, by show 11 ≠ 16; omega, by show 11 ≠ 102; omega⟩) ?_ ?_ ⟨same 5 (by omega), same 6 (by omega), same 7 (by omega), same 10 (by omega)⟩ (fun j i hj hi => ⟨fun z => ?_, fun nz q hq => same q (fun e => ?_)⟩) (fun l h1 h2 => by rw [same _ (by omega), same _ (by omega)]; exact G1.2.2.2.2.2.2.2 l h1 h2)⟩
            · unfold rgO
              rw [same 0 (by omega), same 1 (by omega), same 2 (by omega), same 3 (by omega), same 4 (by omega), same 8 (by omega), same 9 (by omega)]
              exact kp2 _ _ G1.1 (fun z => tg_ne G1.1 lc_ (by show 4 ≠ 11; omega) z)
            · obtain ⟨pf, np_, g1, g2, g3, g4⟩ := G1.2.1
              exact ⟨pf, np_, kp2 _ _ g1 (fun z => tg_ne g1 lc_ (by show 100 ≠ 11; omega) z), (same 9 (by omega)).trans g2, g3, fun i hi => (g4 i hi).trans (same _ (by omega)).symm⟩
            · have z : el j i = el 2 vl := z
              have hji : j = 2 ∧ i = vl := lod_in G1 hj hi hvl z
              obtain ⟨rfl, rfl⟩ := hji
              refine ⟨lt_, ?_, lnm_.mv (fun b x q z => kp2 b x q (fun y => tg_ne q lc_ (by show x.1 ≠ 11; omega) y)) (same _ (by omega)) (fun q hq => same _ (by omega))⟩
              have e9 := mx2 _ _ (c315) (by show 11 ≠ 2; omega) (by show 11 ≠ 3; omega) (by show 11 ≠ 16; omega)
              rw [evh] at e9
              rw [same (35 + 4 * i) (by omega), same (35 + 4 * i + 1) (by omega), same (35 + 4 * i + 3) (by omega), fr9 (35 + 4 * i + 2), if_pos rfl, lp_s hvh3]
              exact e9
            · have b4 := I1.1
              unfold uE at hq
              rcases j4 hj with rfl | rfl | rfl | rfl
              · omega
              · omega
              · exact nz (by rw [show i = vl by omega])
              · omega
