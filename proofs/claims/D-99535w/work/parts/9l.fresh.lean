set_option maxRecDepth 100000 in
theorem t_X3_fresh {Δ : Cx} {h : Hp} (d : Nat) {E : Ev} {L : Nat} {c0 : Nat → Option Cel} {P : Pk} (EK : EOK Δ E) (X : PX Δ E L h c0 P) {EL cp cnt : Nat → Nat} {el : Nat → Nat → Nat} {np nf : Nat} (G : GP Δ E c0 P.fr EL cp cnt el) (I : LIq (cnt 0) (cnt 1) (cnt 2) (cnt 3) np nf 13 P.fr) (EO : eOk E.n P) (i : Nat) : mt Δ (d + 8) muX3_fresh [.ref E.rd] h (fun v h' => ∃ s, v = some (.ref s) ∧ ∃ c1, Sub c0 c1 ∧ PX Δ E L h' c1 (nnP E.t E.n i P) ∧ ((nnP E.t E.n i P).f = 0 → ∃ z le, ST Δ c1 s z le ∧ P.z = nI z ∧ ∀ j, j < z → le j = P.le j)) := by
  obtain ⟨w0, now0, e0, ft0, fp0, Q0, X0⟩ := id X
  obtain ⟨hrd0, htk0, T0, ⟨he0, hQe0, hen0, hkk0⟩, hst0, hro0, hsub0, hcr0, hct0, hcp0, hcw0⟩ := id X0
  obtain ⟨num0, z0, le0, hnow0, S0, h3_0, h2_0⟩ := id T0
  obtain ⟨b0, sh0, sz0, B0⟩ := id S0
  have hf_bend : P.f = 0 → (decide (P.k = 2) && !kwB P) = true → fdB (fun i => nmE P.fr (4 + i) le0 z0) (cnt 0) 0 = if inS (fnS P 13 0) 4 7 = true then fnS P 13 0 - 4 else -1 := fun hf hnm => by have q := st_q hst0 hf; obtain ⟨y1, y2⟩ := h2_0 (by rw [q]; exact nm_k hnm); rw [q] at y1 y2; exact (fd_P EO (nm_k hnm) B0.2.2.1 y1 y2).trans (fn_b I)
  have hf_house : P.f = 0 → (decide (P.k = 2) && !kwB P) = true → fdB (fun i => nmE P.fr (0 + i) le0 z0) (cnt 1) 0 = if inS (fnS P 13 0) 0 3 = true then fnS P 13 0 - 0 else -1 := fun hf hnm => by have q := st_q hst0 hf; obtain ⟨y1, y2⟩ := h2_0 (by rw [q]; exact nm_k hnm); rw [q] at y1 y2; exact (fd_P EO (nm_k hnm) B0.2.2.1 y1 y2).trans (fn_h I)
  have hf_lodger : P.f = 0 → (decide (P.k = 2) && !kwB P) = true → fdB (fun i => nmE P.fr (8 + i) le0 z0) (cnt 2) 0 = if inS (fnS P 13 0) 8 12 = true then fnS P 13 0 - 8 else -1 := fun hf hnm => by have q := st_q hst0 hf; obtain ⟨y1, y2⟩ := h2_0 (by rw [q]; exact nm_k hnm); rw [q] at y1 y2; exact (fd_P EO (nm_k hnm) B0.2.2.1 y1 y2).trans (fn_l I)
  refine mt_of (lv0 := [(0, .ref E.rd)]) rfl rfl (Nat.le_of_ble_eq_true rfl) rfl ?_
  refine g_aload_n dX3_fresh_0 0 rfl ?_
  refine gh_get (x := .ref now0) f_2_2 q580 (hrd0) dX3_fresh_1 rfl ?_
  refine g_astore_n (lv' := [(1, .ref now0), (0, .ref E.rd)]) dX3_fresh_4 (by decide) rfl ?_
  refine g_aload_n dX3_fresh_5 0 rfl ?_
  refine g_callV (t_X6_isName _ hnow0 S0 EK.2.2.2.2.1 (px_n0 EK (⟨_, _, _, _, _, _, X0⟩))) (lw_V q731 q732 q733 q132 q734) okX6_isName hnow0 rfl rfl rfl rfl (Nat.le_of_ble_eq_true rfl) dX3_fresh_6 (fun v1 h127 _ _ hq => ?_)
  obtain ⟨rfl, G127, SN127⟩ := hq
  have HN127 := G127.2 _ _ hnow0 (ce_ne hnow0 B0.1 (Or.inl (by show 5 ≠ 16; omega)))
  have XN127 := px_hash EK X0 G127 ⟨num0, z0, le0, HN127, SN127, h3_0, h2_0⟩
  have hNM : P.f = 0 → (decide (srt Q0.k = 2) && !kwE le0 z0) = (decide (P.k = 2) && !kwB P) := fun hf => by have q := st_q hst0 hf; rw [← q] at hf ⊢; exact kw_T hf hkk0 B0.2.2.1 h2_0
  show wp Δ (d + 8) muX3_fresh 9 [(1, .ref now0), (0, .ref E.rd)] [.int (bI (decide (srt Q0.k = 2) && !kwE le0 z0))] h127 _
  obtain ⟨w127, now127, e127, ft127, fp127, Q127, X127⟩ := id (⟨_, _, _, _, _, _, XN127⟩ : PX Δ E L h127 c0 P)
  obtain ⟨hrd127, htk127, T127, ⟨he127, hQe127, hen127, hkk127⟩, hst127, hro127, hsub127, hcr127, hct127, hcp127, hcw127⟩ := id X127
  obtain ⟨num127, z127, le127, hnow127, S127, h3_127, h2_127⟩ := id T127
  obtain ⟨b127, sh127, sz127, B127⟩ := id S127
  refine gb_ne (tgt := 17) dX3_fresh_9 (by decide) (fun c_1 => ?_) (fun c_1 => ?_)
  ·
    have hN : P.f = 0 → (decide (P.k = 2) && !kwB P) = true := fun hf => (hNM hf).symm.trans c_1
    refine g_aload_n dX3_fresh_17 1 rfl ?_
    refine gh_get (x := .ref E.rg) f_2_1 q579 (hrd127) dX3_fresh_18 rfl ?_
    refine g_aload_n dX3_fresh_21 0 rfl ?_
    refine gh_get (x := .ref w0) f_5_3 q378 (HN127) dX3_fresh_22 rfl ?_
    refine g_callV (t_X5_bend _ (hsub127 _ _ G.1) rfl ((LX.al (G.2.2.2.1 0 (by omega))).mono hsub127) (fun i hi => bd_ex hsub127 (gp_b G i hi)) SN127.tx SN127.z8) (lw_V q744 q745 q746 q131 q747) okX5_bend (hsub127 _ _ G.1) rfl rfl rfl rfl (Nat.le_of_ble_eq_true rfl) dX3_fresh_25 (fun v1 h1 _ _ hq => ?_)
    obtain ⟨rfl, hh⟩ := hq
    rw [hh]
    show wp Δ (d + 8) muX3_fresh 28 [(1, .ref now0), (0, .ref E.rd)] [.int (fdB (fun i => nmE P.fr (4 + i) le0 z0) (cnt 0) 0)] h127 _
    refine g_iconst (x := -1) dX3_fresh_28 rfl ?_
    refine g_icmp_ne (tgt := 62) dX3_fresh_29 (by decide) (fun c_2 => ?_) (fun c_2 => ?_)
    ·
      have hxbend : ¬ fdB (fun i => nmE P.fr (4 + i) le0 z0) (cnt 0) 0 = -1 := c_2
      have hyf : P.f = 0 → (decide (P.k = 2) && !kwB P) = true → 0 ≤ fnS P 13 0 := by
        intro hf hnm
        rw [hf_bend hf hnm] at hxbend
        by_cases q : inS (fnS P 13 0) 4 7 = true
        · exact (fn_pos (lo := 4) (hi := 7) (by omega) q).1
        · exact absurd (if_neg q) hxbend
      refine g_aload_n dX3_fresh_62 1 rfl ?_
      refine g_iconst (x := 3) dX3_fresh_63 rfl ?_
      refine g_callV (t_X3_wrongK _ EK (⟨_, _, _, _, _, _, X127⟩) 3 (by decide)) (lw_V q678 q680 qs4 q129 q681) okX3_wrong (hrd127) rfl rfl rfl rfl (Nat.le_of_ble_eq_true rfl) dX3_fresh_64 (fun v1 h128 _ _ hq => ?_)
      obtain ⟨rfl, Y128, K128⟩ := hq
      show wp Δ (d + 8) muX3_fresh 67 [(1, .ref now0), (0, .ref E.rd)] [] h128 _
      obtain ⟨w128, now128, e128, ft128, fp128, Q128, X128⟩ := id Y128
      obtain ⟨hrd128, htk128, T128, ⟨he128, hQe128, hen128, hkk128⟩, hst128, hro128, hsub128, hcr128, hct128, hcp128, hcw128⟩ := id X128
      obtain ⟨num128, z128, le128, hnow128, S128, h3_128, h2_128⟩ := id T128
      obtain ⟨b128, sh128, sz128, B128⟩ := id S128
      have HN128 := K128 _ _ HN127 (by show 5 ≠ 2; omega) (by show 5 ≠ 3; omega); have SN128 := SN127.kp K128
      refine g_aload_n dX3_fresh_67 1 rfl ?_
      refine g_callV (t_X3_onA _ EK (⟨_, _, _, _, _, _, X128⟩) (c1 := c0) (fun b x q => hsub128 b x q) hcr128 hct128 hcp128 (Or.inr ⟨_, _, _, _, _, _, X128⟩)) (lw_V q686 q688 qs6 q129 q689) okX3_on (hrd128) rfl rfl rfl rfl (Nat.le_of_ble_eq_true rfl) dX3_fresh_68 (fun v1 h129 _ _ hq => ?_)
      obtain ⟨rfl, Y129, K129⟩ := hq
      show wp Δ (d + 8) muX3_fresh 71 [(1, .ref now0), (0, .ref E.rd)] [] h129 _
      have HN129 := K129 _ _ HN128 (by show 5 ≠ 2; omega) (by show 5 ≠ 3; omega)
      refine g_aload_n dX3_fresh_71 0 rfl ?_
      refine gh_get (x := .ref w0) f_5_3 q378 (HN129) dX3_fresh_72 rfl ?_
      refine g_aret rfl (by first | exact Or.inl ⟨_, rfl⟩ | exact Or.inr ⟨_, rfl⟩) (by first | exact Or.inl rfl | exact Or.inr ⟨_, rfl⟩) dX3_fresh_75 ?_
      have en : nnP E.t E.n i P = wgP 3 P.a P := nn_3 hN (fun q => hyf q (hN q))
      refine ⟨_, rfl, c0, (fun _ _ q => q), ?_, fun hz => ?_⟩
      · rw [en, ← pa_wg]; exact Y129
      · rw [en] at hz; exact absurd hz f_wgN
    ·
      have hxbend : fdB (fun i => nmE P.fr (4 + i) le0 z0) (cnt 0) 0 = -1 := c_2
      refine g_aload_n dX3_fresh_32 1 rfl ?_
      refine gh_get (x := .ref E.rg) f_2_1 q579 (hrd127) dX3_fresh_33 rfl ?_
      refine g_aload_n dX3_fresh_36 0 rfl ?_
      refine gh_get (x := .ref w0) f_5_3 q378 (HN127) dX3_fresh_37 rfl ?_
      refine g_callV (t_X5_house _ (hsub127 _ _ G.1) rfl ((LX.al (G.2.2.2.1 1 (by omega))).mono hsub127) (fun i hi => ho_ex hsub127 (gp_h G i hi)) SN127.tx SN127.z8) (lw_V q763 q764 q765 q131 q766) okX5_house (hsub127 _ _ G.1) rfl rfl rfl rfl (Nat.le_of_ble_eq_true rfl) dX3_fresh_40 (fun v1 h1 _ _ hq => ?_)
      obtain ⟨rfl, hh⟩ := hq
      rw [hh]
      show wp Δ (d + 8) muX3_fresh 43 [(1, .ref now0), (0, .ref E.rd)] [.int (fdB (fun i => nmE P.fr (0 + i) le0 z0) (cnt 1) 0)] h127 _
      refine g_iconst (x := -1) dX3_fresh_43 rfl ?_
      refine g_icmp_ne (tgt := 62) dX3_fresh_44 (by decide) (fun c_3 => ?_) (fun c_3 => ?_)
      ·
        have hxhouse : ¬ fdB (fun i => nmE P.fr (0 + i) le0 z0) (cnt 1) 0 = -1 := c_3
        have hyf : P.f = 0 → (decide (P.k = 2) && !kwB P) = true → 0 ≤ fnS P 13 0 := by
          intro hf hnm
          rw [hf_house hf hnm] at hxhouse
          by_cases q : inS (fnS P 13 0) 0 3 = true
          · exact (fn_pos (lo := 0) (hi := 3) (by omega) q).1
          · exact absurd (if_neg q) hxhouse
        refine g_aload_n dX3_fresh_62 1 rfl ?_
        refine g_iconst (x := 3) dX3_fresh_63 rfl ?_
        refine g_callV (t_X3_wrongK _ EK (⟨_, _, _, _, _, _, X127⟩) 3 (by decide)) (lw_V q678 q680 qs4 q129 q681) okX3_wrong (hrd127) rfl rfl rfl rfl (Nat.le_of_ble_eq_true rfl) dX3_fresh_64 (fun v1 h130 _ _ hq => ?_)
        obtain ⟨rfl, Y130, K130⟩ := hq
        show wp Δ (d + 8) muX3_fresh 67 [(1, .ref now0), (0, .ref E.rd)] [] h130 _
        obtain ⟨w130, now130, e130, ft130, fp130, Q130, X130⟩ := id Y130
        obtain ⟨hrd130, htk130, T130, ⟨he130, hQe130, hen130, hkk130⟩, hst130, hro130, hsub130, hcr130, hct130, hcp130, hcw130⟩ := id X130
        obtain ⟨num130, z130, le130, hnow130, S130, h3_130, h2_130⟩ := id T130
        obtain ⟨b130, sh130, sz130, B130⟩ := id S130
        have HN130 := K130 _ _ HN127 (by show 5 ≠ 2; omega) (by show 5 ≠ 3; omega); have SN130 := SN127.kp K130
        refine g_aload_n dX3_fresh_67 1 rfl ?_
        refine g_callV (t_X3_onA _ EK (⟨_, _, _, _, _, _, X130⟩) (c1 := c0) (fun b x q => hsub130 b x q) hcr130 hct130 hcp130 (Or.inr ⟨_, _, _, _, _, _, X130⟩)) (lw_V q686 q688 qs6 q129 q689) okX3_on (hrd130) rfl rfl rfl rfl (Nat.le_of_ble_eq_true rfl) dX3_fresh_68 (fun v1 h131 _ _ hq => ?_)
        obtain ⟨rfl, Y131, K131⟩ := hq
        show wp Δ (d + 8) muX3_fresh 71 [(1, .ref now0), (0, .ref E.rd)] [] h131 _
        have HN131 := K131 _ _ HN130 (by show 5 ≠ 2; omega) (by show 5 ≠ 3; omega)
        refine g_aload_n dX3_fresh_71 0 rfl ?_
        refine gh_get (x := .ref w0) f_5_3 q378 (HN131) dX3_fresh_72 rfl ?_
        refine g_aret rfl (by first | exact Or.inl ⟨_, rfl⟩ | exact Or.inr ⟨_, rfl⟩) (by first | exact Or.inl rfl | exact Or.inr ⟨_, rfl⟩) dX3_fresh_75 ?_
        have en : nnP E.t E.n i P = wgP 3 P.a P := nn_3 hN (fun q => hyf q (hN q))
        refine ⟨_, rfl, c0, (fun _ _ q => q), ?_, fun hz => ?_⟩
        · rw [en, ← pa_wg]; exact Y131
        · rw [en] at hz; exact absurd hz f_wgN
      ·
        have hxhouse : fdB (fun i => nmE P.fr (0 + i) le0 z0) (cnt 1) 0 = -1 := c_3
        refine g_aload_n dX3_fresh_47 1 rfl ?_
        refine gh_get (x := .ref E.rg) f_2_1 q579 (hrd127) dX3_fresh_48 rfl ?_
        refine g_aload_n dX3_fresh_51 0 rfl ?_
        refine gh_get (x := .ref w0) f_5_3 q378 (HN127) dX3_fresh_52 rfl ?_
        refine g_callV (t_X5_lodger _ (hsub127 _ _ G.1) rfl ((LX.al (G.2.2.2.1 2 (by omega))).mono hsub127) (fun i hi => lo_ex hsub127 (gp_l G i hi)) SN127.tx SN127.z8) (lw_V q768 q769 q770 q131 q771) okX5_lodger (hsub127 _ _ G.1) rfl rfl rfl rfl (Nat.le_of_ble_eq_true rfl) dX3_fresh_55 (fun v1 h1 _ _ hq => ?_)
        obtain ⟨rfl, hh⟩ := hq
        rw [hh]
        show wp Δ (d + 8) muX3_fresh 58 [(1, .ref now0), (0, .ref E.rd)] [.int (fdB (fun i => nmE P.fr (8 + i) le0 z0) (cnt 2) 0)] h127 _
        refine g_iconst (x := -1) dX3_fresh_58 rfl ?_
        refine g_icmp_eq (tgt := 67) dX3_fresh_59 (by decide) (fun c_4 => ?_) (fun c_4 => ?_)
        ·
          have hxlodger : fdB (fun i => nmE P.fr (8 + i) le0 z0) (cnt 2) 0 = -1 := c_4
          have hnf : P.f = 0 → (decide (P.k = 2) && !kwB P) = true → ¬ 0 ≤ fnS P 13 0 := by
            intro hf hnm h0
            rcases fn_any h0 with q | q | q
            · have q : inS (fnS P 13 0) 4 7 = true := q
              have e := (hf_bend hf hnm).symm.trans hxbend
              rw [if_pos q] at e
              exact (fn_pos (lo := 4) (hi := 7) (by omega) q).2 e
            · have q : inS (fnS P 13 0) 0 3 = true := q
              have e := (hf_house hf hnm).symm.trans hxhouse
              rw [if_pos q] at e
              exact (fn_pos (lo := 0) (hi := 3) (by omega) q).2 e
            · have q : inS (fnS P 13 0) 8 12 = true := q
              have e := (hf_lodger hf hnm).symm.trans hxlodger
              rw [if_pos q] at e
              exact (fn_pos (lo := 8) (hi := 12) (by omega) q).2 e
          refine g_aload_n dX3_fresh_67 1 rfl ?_
          by_cases hf0 : P.f = 0
          ·
            refine g_callV (t_X3_onA _ EK (⟨_, _, _, _, _, _, X127⟩) (c1 := oldc Δ E h127) oc_sub oc_rd oc_tk (oc_tp X127) (Or.inl ⟨hf0, by rw [nm_k (hN hf0)]; decide⟩)) (lw_V q686 q688 qs6 q129 q689) okX3_on (hrd127) rfl rfl rfl rfl (Nat.le_of_ble_eq_true rfl) dX3_fresh_68 (fun v1 h132 _ _ hq => ?_)
            obtain ⟨rfl, Y132, K132⟩ := hq
            show wp Δ (d + 8) muX3_fresh 71 [(1, .ref now0), (0, .ref E.rd)] [] h132 _
            have HN132 := K132 _ _ HN127 (by show 5 ≠ 2; omega) (by show 5 ≠ 3; omega)
            refine g_aload_n dX3_fresh_71 0 rfl ?_
            refine gh_get (x := .ref w0) f_5_3 q378 (HN132) dX3_fresh_72 rfl ?_
            refine g_aret rfl (by first | exact Or.inl ⟨_, rfl⟩ | exact Or.inr ⟨_, rfl⟩) (by first | exact Or.inl rfl | exact Or.inr ⟨_, rfl⟩) dX3_fresh_75 ?_
            have hQP := st_q hst0 hf0
            obtain ⟨y1, y2⟩ := h2_0 (by rw [hQP]; exact nm_k (hN hf0))
            rw [hQP] at y1 y2
            obtain ⟨b_, sh_, sz_, q1, q2, q3⟩ := SN127
            refine ⟨_, rfl, oldc Δ E h127, oc_c X127, ?_, fun _ => ⟨z0, le0, ⟨b_, sh_, sz_, oc_at X127 q1 (by show 16 ≠ 2; omega) (by show 16 ≠ 3; omega), oc_at X127 q2 (by show 102 ≠ 2; omega) (by show 102 ≠ 3; omega), q3⟩, y1, y2⟩⟩
            have e9 := px_fr (g := (naP i P).fr) Y132
            rw [pa_y hf0, ← nx_fr] at e9
            rw [nn_ok hN (fun q => hnf q (hN q)), if_pos hf0]
            exact e9
          ·
            refine g_callV (t_X3_onA _ EK (⟨_, _, _, _, _, _, X127⟩) (c1 := c0) (fun b x q => hsub127 b x q) hcr127 hct127 hcp127 (Or.inr ⟨_, _, _, _, _, _, X127⟩)) (lw_V q686 q688 qs6 q129 q689) okX3_on (hrd127) rfl rfl rfl rfl (Nat.le_of_ble_eq_true rfl) dX3_fresh_68 (fun v1 h133 _ _ hq => ?_)
            obtain ⟨rfl, Y133, K133⟩ := hq
            show wp Δ (d + 8) muX3_fresh 71 [(1, .ref now0), (0, .ref E.rd)] [] h133 _
            have HN133 := K133 _ _ HN127 (by show 5 ≠ 2; omega) (by show 5 ≠ 3; omega)
            refine g_aload_n dX3_fresh_71 0 rfl ?_
            refine gh_get (x := .ref w0) f_5_3 q378 (HN133) dX3_fresh_72 rfl ?_
            refine g_aret rfl (by first | exact Or.inl ⟨_, rfl⟩ | exact Or.inr ⟨_, rfl⟩) (by first | exact Or.inl rfl | exact Or.inr ⟨_, rfl⟩) dX3_fresh_75 ?_
            refine ⟨_, rfl, c0, (fun _ _ q => q), ?_, fun hz => ?_⟩
            · rw [nn_ok hN (fun q => hnf q (hN q)), if_neg hf0, ← pa_n (t := E.t) (n := E.n) hf0]; exact Y133
            · rw [nn_ok hN (fun q => hnf q (hN q)), if_neg hf0] at hz; exact absurd hz hf0
        ·
          have hxlodger : ¬ fdB (fun i => nmE P.fr (8 + i) le0 z0) (cnt 2) 0 = -1 := c_4
          have hyf : P.f = 0 → (decide (P.k = 2) && !kwB P) = true → 0 ≤ fnS P 13 0 := by
            intro hf hnm
            rw [hf_lodger hf hnm] at hxlodger
            by_cases q : inS (fnS P 13 0) 8 12 = true
            · exact (fn_pos (lo := 8) (hi := 12) (by omega) q).1
            · exact absurd (if_neg q) hxlodger
          refine g_aload_n dX3_fresh_62 1 rfl ?_
          refine g_iconst (x := 3) dX3_fresh_63 rfl ?_
          refine g_callV (t_X3_wrongK _ EK (⟨_, _, _, _, _, _, X127⟩) 3 (by decide)) (lw_V q678 q680 qs4 q129 q681) okX3_wrong (hrd127) rfl rfl rfl rfl (Nat.le_of_ble_eq_true rfl) dX3_fresh_64 (fun v1 h134 _ _ hq => ?_)
          obtain ⟨rfl, Y134, K134⟩ := hq
          show wp Δ (d + 8) muX3_fresh 67 [(1, .ref now0), (0, .ref E.rd)] [] h134 _
          obtain ⟨w134, now134, e134, ft134, fp134, Q134, X134⟩ := id Y134
          obtain ⟨hrd134, htk134, T134, ⟨he134, hQe134, hen134, hkk134⟩, hst134, hro134, hsub134, hcr134, hct134, hcp134, hcw134⟩ := id X134
          obtain ⟨num134, z134, le134, hnow134, S134, h3_134, h2_134⟩ := id T134
          obtain ⟨b134, sh134, sz134, B134⟩ := id S134
          have HN134 := K134 _ _ HN127 (by show 5 ≠ 2; omega) (by show 5 ≠ 3; omega); have SN134 := SN127.kp K134
          refine g_aload_n dX3_fresh_67 1 rfl ?_
          refine g_callV (t_X3_onA _ EK (⟨_, _, _, _, _, _, X134⟩) (c1 := c0) (fun b x q => hsub134 b x q) hcr134 hct134 hcp134 (Or.inr ⟨_, _, _, _, _, _, X134⟩)) (lw_V q686 q688 qs6 q129 q689) okX3_on (hrd134) rfl rfl rfl rfl (Nat.le_of_ble_eq_true rfl) dX3_fresh_68 (fun v1 h135 _ _ hq => ?_)
          obtain ⟨rfl, Y135, K135⟩ := hq
          show wp Δ (d + 8) muX3_fresh 71 [(1, .ref now0), (0, .ref E.rd)] [] h135 _
          have HN135 := K135 _ _ HN134 (by show 5 ≠ 2; omega) (by show 5 ≠ 3; omega)
          refine g_aload_n dX3_fresh_71 0 rfl ?_
          refine gh_get (x := .ref w0) f_5_3 q378 (HN135) dX3_fresh_72 rfl ?_
          refine g_aret rfl (by first | exact Or.inl ⟨_, rfl⟩ | exact Or.inr ⟨_, rfl⟩) (by first | exact Or.inl rfl | exact Or.inr ⟨_, rfl⟩) dX3_fresh_75 ?_
          have en : nnP E.t E.n i P = wgP 3 P.a P := nn_3 hN (fun q => hyf q (hN q))
          refine ⟨_, rfl, c0, (fun _ _ q => q), ?_, fun hz => ?_⟩
          · rw [en, ← pa_wg]; exact Y135
          · rw [en] at hz; exact absurd hz f_wgN
  ·
    have hN : P.f = 0 → (decide (P.k = 2) && !kwB P) = false := fun hf => (hNM hf).symm.trans c_1
    refine g_aload_n dX3_fresh_12 1 rfl ?_
    refine g_iconst (x := 1) dX3_fresh_13 rfl ?_
    refine g_callV (t_X3_wrongK _ EK (⟨_, _, _, _, _, _, X127⟩) 1 (by decide)) (lw_V q678 q680 qs4 q129 q681) okX3_wrong (hrd127) rfl rfl rfl rfl (Nat.le_of_ble_eq_true rfl) dX3_fresh_14 (fun v1 h136 _ _ hq => ?_)
    obtain ⟨rfl, Y136, K136⟩ := hq
    show wp Δ (d + 8) muX3_fresh 17 [(1, .ref now0), (0, .ref E.rd)] [] h136 _
    obtain ⟨w136, now136, e136, ft136, fp136, Q136, X136⟩ := id Y136
    obtain ⟨hrd136, htk136, T136, ⟨he136, hQe136, hen136, hkk136⟩, hst136, hro136, hsub136, hcr136, hct136, hcp136, hcw136⟩ := id X136
    obtain ⟨num136, z136, le136, hnow136, S136, h3_136, h2_136⟩ := id T136
    obtain ⟨b136, sh136, sz136, B136⟩ := id S136
    have HN136 := K136 _ _ HN127 (by show 5 ≠ 2; omega) (by show 5 ≠ 3; omega); have SN136 := SN127.kp K136
    refine g_aload_n dX3_fresh_17 1 rfl ?_
    refine gh_get (x := .ref E.rg) f_2_1 q579 (hrd136) dX3_fresh_18 rfl ?_
    refine g_aload_n dX3_fresh_21 0 rfl ?_
    refine gh_get (x := .ref w0) f_5_3 q378 (HN136) dX3_fresh_22 rfl ?_
    refine g_callV (t_X5_bend _ (hsub136 _ _ G.1) rfl ((LX.al (G.2.2.2.1 0 (by omega))).mono hsub136) (fun i hi => bd_ex hsub136 (gp_b G i hi)) SN136.tx SN136.z8) (lw_V q744 q745 q746 q131 q747) okX5_bend (hsub136 _ _ G.1) rfl rfl rfl rfl (Nat.le_of_ble_eq_true rfl) dX3_fresh_25 (fun v1 h1 _ _ hq => ?_)
    obtain ⟨rfl, hh⟩ := hq
    rw [hh]
    show wp Δ (d + 8) muX3_fresh 28 [(1, .ref now0), (0, .ref E.rd)] [.int (fdB (fun i => nmE P.fr (4 + i) le0 z0) (cnt 0) 0)] h136 _
    refine g_iconst (x := -1) dX3_fresh_28 rfl ?_
    refine g_icmp_ne (tgt := 62) dX3_fresh_29 (by decide) (fun c_5 => ?_) (fun c_5 => ?_)
    ·
      have hxbend : ¬ fdB (fun i => nmE P.fr (4 + i) le0 z0) (cnt 0) 0 = -1 := c_5
      have hyf : P.f = 0 → (decide (P.k = 2) && !kwB P) = true → 0 ≤ fnS P 13 0 := by
        intro hf hnm
        rw [hf_bend hf hnm] at hxbend
        by_cases q : inS (fnS P 13 0) 4 7 = true
        · exact (fn_pos (lo := 4) (hi := 7) (by omega) q).1
        · exact absurd (if_neg q) hxbend
      refine g_aload_n dX3_fresh_62 1 rfl ?_
      refine g_iconst (x := 3) dX3_fresh_63 rfl ?_
      refine g_callV (t_X3_wrongK _ EK (⟨_, _, _, _, _, _, X136⟩) 3 (by decide)) (lw_V q678 q680 qs4 q129 q681) okX3_wrong (hrd136) rfl rfl rfl rfl (Nat.le_of_ble_eq_true rfl) dX3_fresh_64 (fun v1 h137 _ _ hq => ?_)
      obtain ⟨rfl, Y137, K137⟩ := hq
      show wp Δ (d + 8) muX3_fresh 67 [(1, .ref now0), (0, .ref E.rd)] [] h137 _
      obtain ⟨w137, now137, e137, ft137, fp137, Q137, X137⟩ := id Y137
      obtain ⟨hrd137, htk137, T137, ⟨he137, hQe137, hen137, hkk137⟩, hst137, hro137, hsub137, hcr137, hct137, hcp137, hcw137⟩ := id X137
      obtain ⟨num137, z137, le137, hnow137, S137, h3_137, h2_137⟩ := id T137
      obtain ⟨b137, sh137, sz137, B137⟩ := id S137
      have HN137 := K137 _ _ HN136 (by show 5 ≠ 2; omega) (by show 5 ≠ 3; omega); have SN137 := SN136.kp K137
      refine g_aload_n dX3_fresh_67 1 rfl ?_
      refine g_callV (t_X3_onA _ EK (⟨_, _, _, _, _, _, X137⟩) (c1 := c0) (fun b x q => hsub137 b x q) hcr137 hct137 hcp137 (Or.inr ⟨_, _, _, _, _, _, X137⟩)) (lw_V q686 q688 qs6 q129 q689) okX3_on (hrd137) rfl rfl rfl rfl (Nat.le_of_ble_eq_true rfl) dX3_fresh_68 (fun v1 h138 _ _ hq => ?_)
      obtain ⟨rfl, Y138, K138⟩ := hq
      show wp Δ (d + 8) muX3_fresh 71 [(1, .ref now0), (0, .ref E.rd)] [] h138 _
      have HN138 := K138 _ _ HN137 (by show 5 ≠ 2; omega) (by show 5 ≠ 3; omega)
      refine g_aload_n dX3_fresh_71 0 rfl ?_
      refine gh_get (x := .ref w0) f_5_3 q378 (HN138) dX3_fresh_72 rfl ?_
      refine g_aret rfl (by first | exact Or.inl ⟨_, rfl⟩ | exact Or.inr ⟨_, rfl⟩) (by first | exact Or.inl rfl | exact Or.inr ⟨_, rfl⟩) dX3_fresh_75 ?_
      have en : nnP E.t E.n i P = wgP 3 (wgP 1 P.a P).a (wgP 1 P.a P) := (nn_1 hN).trans (wg_n f_wgN).symm
      refine ⟨_, rfl, c0, (fun _ _ q => q), ?_, fun hz => ?_⟩
      · rw [en, ← pa_wg]; exact Y138
      · rw [en] at hz; exact absurd hz f_wgN
    ·
      have hxbend : fdB (fun i => nmE P.fr (4 + i) le0 z0) (cnt 0) 0 = -1 := c_5
      refine g_aload_n dX3_fresh_32 1 rfl ?_
      refine gh_get (x := .ref E.rg) f_2_1 q579 (hrd136) dX3_fresh_33 rfl ?_
      refine g_aload_n dX3_fresh_36 0 rfl ?_
      refine gh_get (x := .ref w0) f_5_3 q378 (HN136) dX3_fresh_37 rfl ?_
      refine g_callV (t_X5_house _ (hsub136 _ _ G.1) rfl ((LX.al (G.2.2.2.1 1 (by omega))).mono hsub136) (fun i hi => ho_ex hsub136 (gp_h G i hi)) SN136.tx SN136.z8) (lw_V q763 q764 q765 q131 q766) okX5_house (hsub136 _ _ G.1) rfl rfl rfl rfl (Nat.le_of_ble_eq_true rfl) dX3_fresh_40 (fun v1 h1 _ _ hq => ?_)
      obtain ⟨rfl, hh⟩ := hq
      rw [hh]
      show wp Δ (d + 8) muX3_fresh 43 [(1, .ref now0), (0, .ref E.rd)] [.int (fdB (fun i => nmE P.fr (0 + i) le0 z0) (cnt 1) 0)] h136 _
      refine g_iconst (x := -1) dX3_fresh_43 rfl ?_
      refine g_icmp_ne (tgt := 62) dX3_fresh_44 (by decide) (fun c_6 => ?_) (fun c_6 => ?_)
      ·
        have hxhouse : ¬ fdB (fun i => nmE P.fr (0 + i) le0 z0) (cnt 1) 0 = -1 := c_6
        have hyf : P.f = 0 → (decide (P.k = 2) && !kwB P) = true → 0 ≤ fnS P 13 0 := by
          intro hf hnm
          rw [hf_house hf hnm] at hxhouse
          by_cases q : inS (fnS P 13 0) 0 3 = true
          · exact (fn_pos (lo := 0) (hi := 3) (by omega) q).1
          · exact absurd (if_neg q) hxhouse
        refine g_aload_n dX3_fresh_62 1 rfl ?_
        refine g_iconst (x := 3) dX3_fresh_63 rfl ?_
        refine g_callV (t_X3_wrongK _ EK (⟨_, _, _, _, _, _, X136⟩) 3 (by decide)) (lw_V q678 q680 qs4 q129 q681) okX3_wrong (hrd136) rfl rfl rfl rfl (Nat.le_of_ble_eq_true rfl) dX3_fresh_64 (fun v1 h139 _ _ hq => ?_)
        obtain ⟨rfl, Y139, K139⟩ := hq
        show wp Δ (d + 8) muX3_fresh 67 [(1, .ref now0), (0, .ref E.rd)] [] h139 _
        obtain ⟨w139, now139, e139, ft139, fp139, Q139, X139⟩ := id Y139
        obtain ⟨hrd139, htk139, T139, ⟨he139, hQe139, hen139, hkk139⟩, hst139, hro139, hsub139, hcr139, hct139, hcp139, hcw139⟩ := id X139
        obtain ⟨num139, z139, le139, hnow139, S139, h3_139, h2_139⟩ := id T139
        obtain ⟨b139, sh139, sz139, B139⟩ := id S139
        have HN139 := K139 _ _ HN136 (by show 5 ≠ 2; omega) (by show 5 ≠ 3; omega); have SN139 := SN136.kp K139
        refine g_aload_n dX3_fresh_67 1 rfl ?_
        refine g_callV (t_X3_onA _ EK (⟨_, _, _, _, _, _, X139⟩) (c1 := c0) (fun b x q => hsub139 b x q) hcr139 hct139 hcp139 (Or.inr ⟨_, _, _, _, _, _, X139⟩)) (lw_V q686 q688 qs6 q129 q689) okX3_on (hrd139) rfl rfl rfl rfl (Nat.le_of_ble_eq_true rfl) dX3_fresh_68 (fun v1 h140 _ _ hq => ?_)
        obtain ⟨rfl, Y140, K140⟩ := hq
        show wp Δ (d + 8) muX3_fresh 71 [(1, .ref now0), (0, .ref E.rd)] [] h140 _
        have HN140 := K140 _ _ HN139 (by show 5 ≠ 2; omega) (by show 5 ≠ 3; omega)
        refine g_aload_n dX3_fresh_71 0 rfl ?_
        refine gh_get (x := .ref w0) f_5_3 q378 (HN140) dX3_fresh_72 rfl ?_
        refine g_aret rfl (by first | exact Or.inl ⟨_, rfl⟩ | exact Or.inr ⟨_, rfl⟩) (by first | exact Or.inl rfl | exact Or.inr ⟨_, rfl⟩) dX3_fresh_75 ?_
        have en : nnP E.t E.n i P = wgP 3 (wgP 1 P.a P).a (wgP 1 P.a P) := (nn_1 hN).trans (wg_n f_wgN).symm
        refine ⟨_, rfl, c0, (fun _ _ q => q), ?_, fun hz => ?_⟩
        · rw [en, ← pa_wg]; exact Y140
        · rw [en] at hz; exact absurd hz f_wgN
      ·
        have hxhouse : fdB (fun i => nmE P.fr (0 + i) le0 z0) (cnt 1) 0 = -1 := c_6
        refine g_aload_n dX3_fresh_47 1 rfl ?_
        refine gh_get (x := .ref E.rg) f_2_1 q579 (hrd136) dX3_fresh_48 rfl ?_
        refine g_aload_n dX3_fresh_51 0 rfl ?_
        refine gh_get (x := .ref w0) f_5_3 q378 (HN136) dX3_fresh_52 rfl ?_
        refine g_callV (t_X5_lodger _ (hsub136 _ _ G.1) rfl ((LX.al (G.2.2.2.1 2 (by omega))).mono hsub136) (fun i hi => lo_ex hsub136 (gp_l G i hi)) SN136.tx SN136.z8) (lw_V q768 q769 q770 q131 q771) okX5_lodger (hsub136 _ _ G.1) rfl rfl rfl rfl (Nat.le_of_ble_eq_true rfl) dX3_fresh_55 (fun v1 h1 _ _ hq => ?_)
        obtain ⟨rfl, hh⟩ := hq
        rw [hh]
        show wp Δ (d + 8) muX3_fresh 58 [(1, .ref now0), (0, .ref E.rd)] [.int (fdB (fun i => nmE P.fr (8 + i) le0 z0) (cnt 2) 0)] h136 _
        refine g_iconst (x := -1) dX3_fresh_58 rfl ?_
        refine g_icmp_eq (tgt := 67) dX3_fresh_59 (by decide) (fun c_7 => ?_) (fun c_7 => ?_)
        ·
          have hxlodger : fdB (fun i => nmE P.fr (8 + i) le0 z0) (cnt 2) 0 = -1 := c_7
          have hnf : P.f = 0 → (decide (P.k = 2) && !kwB P) = true → ¬ 0 ≤ fnS P 13 0 := by
            intro hf hnm h0
            rcases fn_any h0 with q | q | q
            · have q : inS (fnS P 13 0) 4 7 = true := q
              have e := (hf_bend hf hnm).symm.trans hxbend
              rw [if_pos q] at e
              exact (fn_pos (lo := 4) (hi := 7) (by omega) q).2 e
            · have q : inS (fnS P 13 0) 0 3 = true := q
              have e := (hf_house hf hnm).symm.trans hxhouse
              rw [if_pos q] at e
              exact (fn_pos (lo := 0) (hi := 3) (by omega) q).2 e
            · have q : inS (fnS P 13 0) 8 12 = true := q
              have e := (hf_lodger hf hnm).symm.trans hxlodger
              rw [if_pos q] at e
              exact (fn_pos (lo := 8) (hi := 12) (by omega) q).2 e
          refine g_aload_n dX3_fresh_67 1 rfl ?_
          refine g_callV (t_X3_onA _ EK (⟨_, _, _, _, _, _, X136⟩) (c1 := c0) (fun b x q => hsub136 b x q) hcr136 hct136 hcp136 (Or.inr ⟨_, _, _, _, _, _, X136⟩)) (lw_V q686 q688 qs6 q129 q689) okX3_on (hrd136) rfl rfl rfl rfl (Nat.le_of_ble_eq_true rfl) dX3_fresh_68 (fun v1 h141 _ _ hq => ?_)
          obtain ⟨rfl, Y141, K141⟩ := hq
          show wp Δ (d + 8) muX3_fresh 71 [(1, .ref now0), (0, .ref E.rd)] [] h141 _
          have HN141 := K141 _ _ HN136 (by show 5 ≠ 2; omega) (by show 5 ≠ 3; omega)
          refine g_aload_n dX3_fresh_71 0 rfl ?_
          refine gh_get (x := .ref w0) f_5_3 q378 (HN141) dX3_fresh_72 rfl ?_
          refine g_aret rfl (by first | exact Or.inl ⟨_, rfl⟩ | exact Or.inr ⟨_, rfl⟩) (by first | exact Or.inl rfl | exact Or.inr ⟨_, rfl⟩) dX3_fresh_75 ?_
          have en : nnP E.t E.n i P = wgP 1 P.a P := nn_1 hN
          refine ⟨_, rfl, c0, (fun _ _ q => q), ?_, fun hz => ?_⟩
          · rw [en, ← pa_wg]; exact Y141
          · rw [en] at hz; exact absurd hz f_wgN
        ·
          have hxlodger : ¬ fdB (fun i => nmE P.fr (8 + i) le0 z0) (cnt 2) 0 = -1 := c_7
          have hyf : P.f = 0 → (decide (P.k = 2) && !kwB P) = true → 0 ≤ fnS P 13 0 := by
            intro hf hnm
            rw [hf_lodger hf hnm] at hxlodger
            by_cases q : inS (fnS P 13 0) 8 12 = true
            · exact (fn_pos (lo := 8) (hi := 12) (by omega) q).1
            · exact absurd (if_neg q) hxlodger
          refine g_aload_n dX3_fresh_62 1 rfl ?_
          refine g_iconst (x := 3) dX3_fresh_63 rfl ?_
          refine g_callV (t_X3_wrongK _ EK (⟨_, _, _, _, _, _, X136⟩) 3 (by decide)) (lw_V q678 q680 qs4 q129 q681) okX3_wrong (hrd136) rfl rfl rfl rfl (Nat.le_of_ble_eq_true rfl) dX3_fresh_64 (fun v1 h142 _ _ hq => ?_)
          obtain ⟨rfl, Y142, K142⟩ := hq
          show wp Δ (d + 8) muX3_fresh 67 [(1, .ref now0), (0, .ref E.rd)] [] h142 _
          obtain ⟨w142, now142, e142, ft142, fp142, Q142, X142⟩ := id Y142
          obtain ⟨hrd142, htk142, T142, ⟨he142, hQe142, hen142, hkk142⟩, hst142, hro142, hsub142, hcr142, hct142, hcp142, hcw142⟩ := id X142
          obtain ⟨num142, z142, le142, hnow142, S142, h3_142, h2_142⟩ := id T142
          obtain ⟨b142, sh142, sz142, B142⟩ := id S142
          have HN142 := K142 _ _ HN136 (by show 5 ≠ 2; omega) (by show 5 ≠ 3; omega); have SN142 := SN136.kp K142
          refine g_aload_n dX3_fresh_67 1 rfl ?_
          refine g_callV (t_X3_onA _ EK (⟨_, _, _, _, _, _, X142⟩) (c1 := c0) (fun b x q => hsub142 b x q) hcr142 hct142 hcp142 (Or.inr ⟨_, _, _, _, _, _, X142⟩)) (lw_V q686 q688 qs6 q129 q689) okX3_on (hrd142) rfl rfl rfl rfl (Nat.le_of_ble_eq_true rfl) dX3_fresh_68 (fun v1 h143 _ _ hq => ?_)
          obtain ⟨rfl, Y143, K143⟩ := hq
          show wp Δ (d + 8) muX3_fresh 71 [(1, .ref now0), (0, .ref E.rd)] [] h143 _
          have HN143 := K143 _ _ HN142 (by show 5 ≠ 2; omega) (by show 5 ≠ 3; omega)
          refine g_aload_n dX3_fresh_71 0 rfl ?_
          refine gh_get (x := .ref w0) f_5_3 q378 (HN143) dX3_fresh_72 rfl ?_
          refine g_aret rfl (by first | exact Or.inl ⟨_, rfl⟩ | exact Or.inr ⟨_, rfl⟩) (by first | exact Or.inl rfl | exact Or.inr ⟨_, rfl⟩) dX3_fresh_75 ?_
          have en : nnP E.t E.n i P = wgP 3 (wgP 1 P.a P).a (wgP 1 P.a P) := (nn_1 hN).trans (wg_n f_wgN).symm
          refine ⟨_, rfl, c0, (fun _ _ q => q), ?_, fun hz => ?_⟩
          · rw [en, ← pa_wg]; exact Y143
          · rw [en] at hz; exact absurd hz f_wgN
