section RDS
variable {P : Pk}
theorem enA_0 (h : P.f = 0 → P.k = 0) : P = enA P := by
  unfold enA
  by_cases c : P.f = 0
  · rw [if_pos c, if_pos (h c)]
  · rw [if_neg c]
theorem enA_1 (h : P.f = 0 → ¬ P.k = 0) : wgP 1 P.a P = enA P := by
  unfold enA
  by_cases c : P.f = 0
  · rw [if_pos c, if_neg (h c)]
  · rw [if_neg c, wg_n c]
theorem enB_0 (h : P.f = 0 → ¬ (P.fr 0 = 0 ∨ P.fr 6 = 0)) : P = enB P := by
  unfold enB
  by_cases c : P.f = 0
  · rw [if_pos c, if_neg (h c)]
  · rw [if_neg c]
theorem enB_1 (h : P.f = 0 → P.fr 0 = 0 ∨ P.fr 6 = 0) : wgP 6 P.a P = enB P := by
  unfold enB
  by_cases c : P.f = 0
  · rw [if_pos c, if_pos (h c)]
  · rw [if_neg c, wg_n c]
theorem fr_enA : (enA P).fr = P.fr := by
  unfold enA
  split
  · split
    · rfl
    · exact fr_wg
  · rfl
theorem fr_enB : (enB P).fr = P.fr := by
  unfold enB
  split
  · split
    · exact fr_wg
    · rfl
  · rfl
theorem f_enA (h : (enA P).f = 0) : P.f = 0 := by
  by_cases c : P.f = 0
  · exact c
  · unfold enA at h; rw [if_neg c] at h; exact h
theorem f_enB (h : (enB P).f = 0) : P.f = 0 := by
  by_cases c : P.f = 0
  · exact c
  · unfold enB at h; rw [if_neg c] at h; exact h
theorem se_t {t : Nat → Int32} {n : Nat} (h : P.f = 0 ∧ P.k = 59) : seP t n P = nxP t n P := if_pos h
theorem se_f {t : Nat → Int32} {n : Nat} (h : ¬ (P.f = 0 ∧ P.k = 59)) : seP t n P = P := if_neg h
end RDS
theorem lnq_any {Δ : Cx} {E : Ev} {L : Nat} {h : Hp} {c0 : Nat → Option Cel} {P : Pk} {v : Option Value} (q : LNQ Δ E L c0 P v h) : ∃ c1, PX Δ E (L + 2) h c1 P ∧ (∀ b x, b < E.rg → c0 b = some x → c1 b = some x) ∧ ∃ g EL cp cnt el, GP Δ E c1 g EL cp cnt el ∧ (P.f = 0 → g = P.fr) := by
  obtain ⟨-, c1, X, F, G1, g, EL, cp, cnt, el, G⟩ := q
  refine ⟨c1, X, F, ?_⟩
  by_cases c : P.f = 0
  · obtain ⟨EL, cp, cnt, el, G⟩ := G1 c
    exact ⟨_, EL, cp, cnt, el, G, fun _ => rfl⟩
  · exact ⟨g, EL, cp, cnt, el, G, fun z => absurd z c⟩
theorem LXn {Δ : Cx} {E : Ev} {c : Nat → Option Cel} {fr : Nat → Int32} {EL cp cnt : Nat → Nat} {el : Nat → Nat → Nat} (G : GP Δ E c fr EL cp cnt el) : cnt 1 ≤ 8 := by
  obtain ⟨mc, g, q1, q2, q3, q4, -⟩ := G.2.2.2.1 1 (by omega)
  exact q4
theorem nI_inj0 {k : Nat} (h : k ≤ 8) (q : nI k = 0) : k = 0 := (nI_eq (b := 0) (by omega) (by omega)).mp q
set_option maxRecDepth 100000 in
theorem X3_read_tail {Δ : Cx} {h : Hp} (d : Nat) {E : Ev} {L : Nat} {c0 : Nat → Option Cel} {P : Pk} (EK : EOK Δ E) (X : PX Δ E L h c0 P) {gf : Nat → Int32} {EL cp cnt : Nat → Nat} {el : Nat → Nat → Nat} {Q : Option Value → Hp → Prop} (Gx : GP Δ E c0 gf EL cp cnt el) (hg : P.f = 0 → gf = P.fr) (KK : ∀ (v : Option Value) (h' : Hp), PX Δ E L h' c0 (enB (enA P)) → v = some (if (enB (enA P)).f = 0 then .ref E.rg else .null) → Q v h') : wp Δ (d + 12) muX3_read 11 [(0, .ref E.rd)] [] h Q := by
  obtain ⟨w0, now0, e0, ft0, fp0, Q0, X0⟩ := id X
  obtain ⟨hrd0, htk0, T0, ⟨he0, hQe0, hen0, hkk0⟩, hst0, hro0, hsub0, hcr0, hct0, hcp0, hcw0⟩ := id X0
  obtain ⟨num0, z0, le0, hnow0, S0, h3_0, h2_0⟩ := id T0
  obtain ⟨b0, sh0, sz0, B0⟩ := id S0
  have hL6 := LXn Gx
  refine g_aload_n dX3_read_11 0 rfl ?_
  refine gh_get (x := .ref now0) f_2_2 q580 (hrd0) dX3_read_12 rfl ?_
  refine gh_get (x := .int (srt Q0.k)) f_5_0 q372 (hnow0) dX3_read_15 rfl ?_
  refine g_iconst (x := 1) dX3_read_18 rfl ?_
  refine g_icmp_eq (tgt := 27) dX3_read_19 (by decide) (fun c_1 => ?_) (fun c_1 => ?_)
  ·
    have hk1 := c_1
    refine g_aload_n dX3_read_27 0 rfl ?_
    refine gh_get (x := .ref E.rg) f_2_1 q579 (hrd0) dX3_read_28 rfl ?_
    refine gh_get (x := .int (gf 0)) f_4_0 q296 (hsub0 _ _ (Gx.1)) dX3_read_31 rfl ?_
    refine g_if_eq (tgt := 50) dX3_read_34 (by decide) (fun c_2 => ?_) (fun c_2 => ?_)
    ·
      have hw0 := c_2
      refine g_aload_n dX3_read_50 0 rfl ?_
      refine g_bipush (x := 6) dX3_read_51 rfl ?_
      refine g_callV (t_X3_wrong _ EK (⟨_, _, _, _, _, _, X0⟩) 6 (by decide)) (lw_V q678 q680 qs4 q129 q681) okX3_wrong (hrd0) rfl rfl rfl rfl (Nat.le_of_ble_eq_true rfl) dX3_read_53 (fun v1 h358 _ _ hq => ?_)
      obtain ⟨rfl, Y358⟩ := hq
      show wp Δ (d + 12) muX3_read 56 [(0, .ref E.rd)] [] h358 _
      obtain ⟨w358, now358, e358, ft358, fp358, Q358, X358⟩ := id Y358
      obtain ⟨hrd358, htk358, T358, ⟨he358, hQe358, hen358, hkk358⟩, hst358, hro358, hsub358, hcr358, hct358, hcp358, hcw358⟩ := id X358
      obtain ⟨num358, z358, le358, hnow358, S358, h3_358, h2_358⟩ := id T358
      obtain ⟨b358, sh358, sz358, B358⟩ := id S358
      refine g_aload_n dX3_read_56 0 rfl ?_
      refine g_callV (t_X3_isOver _ (⟨_, _, _, _, _, _, X358⟩)) (lw_V q682 q684 qs5 q129 q685) okX3_isOver (hrd358) rfl rfl rfl rfl (Nat.le_of_ble_eq_true rfl) dX3_read_57 (fun v1 h1 _ _ hq => ?_)
      obtain ⟨rfl, hh⟩ := hq
      rw [hh]
      show wp Δ (d + 12) muX3_read 60 [(0, .ref E.rd)] [.int (bI (decide (¬ (wgP 6 P.a P).f = 0)))] h358 _
      refine gb_eq (tgt := 67) dX3_read_60 (by decide) (fun c_3 => ?_) (fun c_3 => ?_)
      ·
        have hov := ov_f c_3
        refine g_aload_n dX3_read_67 0 rfl ?_
        refine gh_get (x := .ref E.rg) f_2_1 q579 (hrd358) dX3_read_68 rfl ?_
        refine g_aret rfl (by first | exact Or.inl ⟨_, rfl⟩ | exact Or.inr ⟨_, rfl⟩) (by first | exact Or.inl rfl | exact Or.inr ⟨_, rfl⟩) dX3_read_71 ?_
        have eA : P = enA P := enA_0 (fun hf => by have q := st_q hst0 hf; rw [← q]; exact (srt_i hkk0).1 hk1)
        have eg : enA P = P := eA.symm
        have eB : wgP 6 P.a P = enB P := enB_1 (fun hf => by have hfr := hg (f_enA (by rw [eg]; exact hf)); have e2 : P.fr = P.fr := (congrArg (fun S : Pk => S.fr) eg.symm).trans fr_enA; rw [e2, ← hfr]; (first | exact Or.inl hw0 | (refine Or.inr ?_; rw [Gx.2.2.1.2.1, of_decide_eq_true hn6]; rfl)))
        have eE : enB (enA P) = wgP 6 P.a P := by rw [eg, ← eB]
        refine KK _ _ (by rw [eE]; exact ⟨_, _, _, _, _, _, X358⟩) ?_
        rw [eE, if_pos hov]
      ·
        have hov := ov_t c_3
        refine g_null dX3_read_63 ?_
        refine g_goto (tgt := 71) dX3_read_64 (by decide) ?_
        refine g_aret rfl (by first | exact Or.inl ⟨_, rfl⟩ | exact Or.inr ⟨_, rfl⟩) (by first | exact Or.inl rfl | exact Or.inr ⟨_, rfl⟩) dX3_read_71 ?_
        have eA : P = enA P := enA_0 (fun hf => by have q := st_q hst0 hf; rw [← q]; exact (srt_i hkk0).1 hk1)
        have eg : enA P = P := eA.symm
        have eB : wgP 6 P.a P = enB P := enB_1 (fun hf => by have hfr := hg (f_enA (by rw [eg]; exact hf)); have e2 : P.fr = P.fr := (congrArg (fun S : Pk => S.fr) eg.symm).trans fr_enA; rw [e2, ← hfr]; (first | exact Or.inl hw0 | (refine Or.inr ?_; rw [Gx.2.2.1.2.1, of_decide_eq_true hn6]; rfl)))
        have eE : enB (enA P) = wgP 6 P.a P := by rw [eg, ← eB]
        refine KK _ _ (by rw [eE]; exact ⟨_, _, _, _, _, _, X358⟩) ?_
        rw [eE, if_neg hov]
    ·
      have hw0 := c_2
      refine g_aload_n dX3_read_37 0 rfl ?_
      refine gh_get (x := .ref E.rg) f_2_1 q579 (hrd0) dX3_read_38 rfl ?_
      refine gh_get (x := .ref (E.rg + 3)) f_4_9 q322 (hsub0 _ _ (Gx.1)) dX3_read_41 rfl ?_
      obtain ⟨lf_, hl_⟩ := AL_c ((LX.al (Gx.2.2.2.1 1 (by omega))).mono hsub0)
      refine g_callV (t_J2_isEmpty _ ((LX.al (Gx.2.2.2.1 1 (by omega))).mono hsub0)) (lw_V q1025 q1026 q1027 q127 q1028) okJ2_isEmpty hl_ rfl rfl rfl rfl (Nat.le_of_ble_eq_true rfl) dX3_read_44 (fun v1 h1 _ _ hq => ?_)
      obtain ⟨rfl, hh⟩ := hq
      rw [hh]
      show wp Δ (d + 12) muX3_read 47 [(0, .ref E.rd)] [.int (bI (decide (cnt 1 = 0)))] h _
      refine gb_eq (tgt := 56) dX3_read_47 (by decide) (fun c_4 => ?_) (fun c_4 => ?_)
      ·
        have hn6 := c_4
        refine g_aload_n dX3_read_56 0 rfl ?_
        refine g_callV (t_X3_isOver _ (⟨_, _, _, _, _, _, X0⟩)) (lw_V q682 q684 qs5 q129 q685) okX3_isOver (hrd0) rfl rfl rfl rfl (Nat.le_of_ble_eq_true rfl) dX3_read_57 (fun v1 h1 _ _ hq => ?_)
        obtain ⟨rfl, hh⟩ := hq
        rw [hh]
        show wp Δ (d + 12) muX3_read 60 [(0, .ref E.rd)] [.int (bI (decide (¬ P.f = 0)))] h _
        refine gb_eq (tgt := 67) dX3_read_60 (by decide) (fun c_5 => ?_) (fun c_5 => ?_)
        ·
          have hov := ov_f c_5
          refine g_aload_n dX3_read_67 0 rfl ?_
          refine gh_get (x := .ref E.rg) f_2_1 q579 (hrd0) dX3_read_68 rfl ?_
          refine g_aret rfl (by first | exact Or.inl ⟨_, rfl⟩ | exact Or.inr ⟨_, rfl⟩) (by first | exact Or.inl rfl | exact Or.inr ⟨_, rfl⟩) dX3_read_71 ?_
          have eA : P = enA P := enA_0 (fun hf => by have q := st_q hst0 hf; rw [← q]; exact (srt_i hkk0).1 hk1)
          have eg : enA P = P := eA.symm
          have eB : P = enB P := enB_0 (fun hf => by have hfr := hg (f_enA (by rw [eg]; exact hf)); have e2 : P.fr = P.fr := (congrArg (fun S : Pk => S.fr) eg.symm).trans fr_enA; rw [e2, ← hfr]; rintro (q | q); exact hw0 q; rw [Gx.2.2.1.2.1] at q; exact of_decide_eq_false hn6 (nI_inj0 (LXn Gx) q))
          have eE : enB (enA P) = P := by rw [eg, ← eB]
          refine KK _ _ (by rw [eE]; exact ⟨_, _, _, _, _, _, X0⟩) ?_
          rw [eE, if_pos hov]
        ·
          have hov := ov_t c_5
          refine g_null dX3_read_63 ?_
          refine g_goto (tgt := 71) dX3_read_64 (by decide) ?_
          refine g_aret rfl (by first | exact Or.inl ⟨_, rfl⟩ | exact Or.inr ⟨_, rfl⟩) (by first | exact Or.inl rfl | exact Or.inr ⟨_, rfl⟩) dX3_read_71 ?_
          have eA : P = enA P := enA_0 (fun hf => by have q := st_q hst0 hf; rw [← q]; exact (srt_i hkk0).1 hk1)
          have eg : enA P = P := eA.symm
          have eB : P = enB P := enB_0 (fun hf => by have hfr := hg (f_enA (by rw [eg]; exact hf)); have e2 : P.fr = P.fr := (congrArg (fun S : Pk => S.fr) eg.symm).trans fr_enA; rw [e2, ← hfr]; rintro (q | q); exact hw0 q; rw [Gx.2.2.1.2.1] at q; exact of_decide_eq_false hn6 (nI_inj0 (LXn Gx) q))
          have eE : enB (enA P) = P := by rw [eg, ← eB]
          refine KK _ _ (by rw [eE]; exact ⟨_, _, _, _, _, _, X0⟩) ?_
          rw [eE, if_neg hov]
      ·
        have hn6 := c_4
        refine g_aload_n dX3_read_50 0 rfl ?_
        refine g_bipush (x := 6) dX3_read_51 rfl ?_
        refine g_callV (t_X3_wrong _ EK (⟨_, _, _, _, _, _, X0⟩) 6 (by decide)) (lw_V q678 q680 qs4 q129 q681) okX3_wrong (hrd0) rfl rfl rfl rfl (Nat.le_of_ble_eq_true rfl) dX3_read_53 (fun v1 h359 _ _ hq => ?_)
        obtain ⟨rfl, Y359⟩ := hq
        show wp Δ (d + 12) muX3_read 56 [(0, .ref E.rd)] [] h359 _
        obtain ⟨w359, now359, e359, ft359, fp359, Q359, X359⟩ := id Y359
        obtain ⟨hrd359, htk359, T359, ⟨he359, hQe359, hen359, hkk359⟩, hst359, hro359, hsub359, hcr359, hct359, hcp359, hcw359⟩ := id X359
        obtain ⟨num359, z359, le359, hnow359, S359, h3_359, h2_359⟩ := id T359
        obtain ⟨b359, sh359, sz359, B359⟩ := id S359
        refine g_aload_n dX3_read_56 0 rfl ?_
        refine g_callV (t_X3_isOver _ (⟨_, _, _, _, _, _, X359⟩)) (lw_V q682 q684 qs5 q129 q685) okX3_isOver (hrd359) rfl rfl rfl rfl (Nat.le_of_ble_eq_true rfl) dX3_read_57 (fun v1 h1 _ _ hq => ?_)
        obtain ⟨rfl, hh⟩ := hq
        rw [hh]
        show wp Δ (d + 12) muX3_read 60 [(0, .ref E.rd)] [.int (bI (decide (¬ (wgP 6 P.a P).f = 0)))] h359 _
        refine gb_eq (tgt := 67) dX3_read_60 (by decide) (fun c_6 => ?_) (fun c_6 => ?_)
        ·
          have hov := ov_f c_6
          refine g_aload_n dX3_read_67 0 rfl ?_
          refine gh_get (x := .ref E.rg) f_2_1 q579 (hrd359) dX3_read_68 rfl ?_
          refine g_aret rfl (by first | exact Or.inl ⟨_, rfl⟩ | exact Or.inr ⟨_, rfl⟩) (by first | exact Or.inl rfl | exact Or.inr ⟨_, rfl⟩) dX3_read_71 ?_
          have eA : P = enA P := enA_0 (fun hf => by have q := st_q hst0 hf; rw [← q]; exact (srt_i hkk0).1 hk1)
          have eg : enA P = P := eA.symm
          have eB : wgP 6 P.a P = enB P := enB_1 (fun hf => by have hfr := hg (f_enA (by rw [eg]; exact hf)); have e2 : P.fr = P.fr := (congrArg (fun S : Pk => S.fr) eg.symm).trans fr_enA; rw [e2, ← hfr]; (first | exact Or.inl hw0 | (refine Or.inr ?_; rw [Gx.2.2.1.2.1, of_decide_eq_true hn6]; rfl)))
          have eE : enB (enA P) = wgP 6 P.a P := by rw [eg, ← eB]
          refine KK _ _ (by rw [eE]; exact ⟨_, _, _, _, _, _, X359⟩) ?_
          rw [eE, if_pos hov]
        ·
          have hov := ov_t c_6
          refine g_null dX3_read_63 ?_
          refine g_goto (tgt := 71) dX3_read_64 (by decide) ?_
          refine g_aret rfl (by first | exact Or.inl ⟨_, rfl⟩ | exact Or.inr ⟨_, rfl⟩) (by first | exact Or.inl rfl | exact Or.inr ⟨_, rfl⟩) dX3_read_71 ?_
          have eA : P = enA P := enA_0 (fun hf => by have q := st_q hst0 hf; rw [← q]; exact (srt_i hkk0).1 hk1)
          have eg : enA P = P := eA.symm
          have eB : wgP 6 P.a P = enB P := enB_1 (fun hf => by have hfr := hg (f_enA (by rw [eg]; exact hf)); have e2 : P.fr = P.fr := (congrArg (fun S : Pk => S.fr) eg.symm).trans fr_enA; rw [e2, ← hfr]; (first | exact Or.inl hw0 | (refine Or.inr ?_; rw [Gx.2.2.1.2.1, of_decide_eq_true hn6]; rfl)))
          have eE : enB (enA P) = wgP 6 P.a P := by rw [eg, ← eB]
          refine KK _ _ (by rw [eE]; exact ⟨_, _, _, _, _, _, X359⟩) ?_
          rw [eE, if_neg hov]
  ·
    have hk1 := c_1
    refine g_aload_n dX3_read_22 0 rfl ?_
    refine g_iconst (x := 1) dX3_read_23 rfl ?_
    refine g_callV (t_X3_wrong _ EK (⟨_, _, _, _, _, _, X0⟩) 1 (by decide)) (lw_V q678 q680 qs4 q129 q681) okX3_wrong (hrd0) rfl rfl rfl rfl (Nat.le_of_ble_eq_true rfl) dX3_read_24 (fun v1 h360 _ _ hq => ?_)
    obtain ⟨rfl, Y360⟩ := hq
    show wp Δ (d + 12) muX3_read 27 [(0, .ref E.rd)] [] h360 _
    obtain ⟨w360, now360, e360, ft360, fp360, Q360, X360⟩ := id Y360
    obtain ⟨hrd360, htk360, T360, ⟨he360, hQe360, hen360, hkk360⟩, hst360, hro360, hsub360, hcr360, hct360, hcp360, hcw360⟩ := id X360
    obtain ⟨num360, z360, le360, hnow360, S360, h3_360, h2_360⟩ := id T360
    obtain ⟨b360, sh360, sz360, B360⟩ := id S360
    obtain ⟨S1, qS1⟩ : ∃ S : Pk, S = wgP 1 P.a P := ⟨_, rfl⟩
    have ZS1 : PX Δ E L h360 c0 S1 := by rw [qS1]; exact Y360
    obtain ⟨w361, now361, e361, ft361, fp361, Q361, X361⟩ := id ZS1
    obtain ⟨hrd361, htk361, T361, ⟨he361, hQe361, hen361, hkk361⟩, hst361, hro361, hsub361, hcr361, hct361, hcp361, hcw361⟩ := id X361
    obtain ⟨num361, z361, le361, hnow361, S361, h3_361, h2_361⟩ := id T361
    obtain ⟨b361, sh361, sz361, B361⟩ := id S361
    refine g_aload_n dX3_read_27 0 rfl ?_
    refine gh_get (x := .ref E.rg) f_2_1 q579 (hrd361) dX3_read_28 rfl ?_
    refine gh_get (x := .int (gf 0)) f_4_0 q296 (hsub361 _ _ (Gx.1)) dX3_read_31 rfl ?_
    refine g_if_eq (tgt := 50) dX3_read_34 (by decide) (fun c_7 => ?_) (fun c_7 => ?_)
    ·
      have hw0 := c_7
      refine g_aload_n dX3_read_50 0 rfl ?_
      refine g_bipush (x := 6) dX3_read_51 rfl ?_
      refine g_callV (t_X3_wrong _ EK (⟨_, _, _, _, _, _, X361⟩) 6 (by decide)) (lw_V q678 q680 qs4 q129 q681) okX3_wrong (hrd361) rfl rfl rfl rfl (Nat.le_of_ble_eq_true rfl) dX3_read_53 (fun v1 h362 _ _ hq => ?_)
      obtain ⟨rfl, Y362⟩ := hq
      show wp Δ (d + 12) muX3_read 56 [(0, .ref E.rd)] [] h362 _
      obtain ⟨w362, now362, e362, ft362, fp362, Q362, X362⟩ := id Y362
      obtain ⟨hrd362, htk362, T362, ⟨he362, hQe362, hen362, hkk362⟩, hst362, hro362, hsub362, hcr362, hct362, hcp362, hcw362⟩ := id X362
      obtain ⟨num362, z362, le362, hnow362, S362, h3_362, h2_362⟩ := id T362
      obtain ⟨b362, sh362, sz362, B362⟩ := id S362
      refine g_aload_n dX3_read_56 0 rfl ?_
      refine g_callV (t_X3_isOver _ (⟨_, _, _, _, _, _, X362⟩)) (lw_V q682 q684 qs5 q129 q685) okX3_isOver (hrd362) rfl rfl rfl rfl (Nat.le_of_ble_eq_true rfl) dX3_read_57 (fun v1 h1 _ _ hq => ?_)
      obtain ⟨rfl, hh⟩ := hq
      rw [hh]
      show wp Δ (d + 12) muX3_read 60 [(0, .ref E.rd)] [.int (bI (decide (¬ (wgP 6 S1.a S1).f = 0)))] h362 _
      refine gb_eq (tgt := 67) dX3_read_60 (by decide) (fun c_8 => ?_) (fun c_8 => ?_)
      ·
        have hov := ov_f c_8
        refine g_aload_n dX3_read_67 0 rfl ?_
        refine gh_get (x := .ref E.rg) f_2_1 q579 (hrd362) dX3_read_68 rfl ?_
        refine g_aret rfl (by first | exact Or.inl ⟨_, rfl⟩ | exact Or.inr ⟨_, rfl⟩) (by first | exact Or.inl rfl | exact Or.inr ⟨_, rfl⟩) dX3_read_71 ?_
        have eA : S1 = enA P := by rw [qS1]; exact enA_1 (fun hf z => hk1 (by have q := st_q hst0 hf; rw [q, z]; decide))
        have eg : enA P = S1 := eA.symm
        have eB : wgP 6 S1.a S1 = enB S1 := enB_1 (fun hf => by have hfr := hg (f_enA (by rw [eg]; exact hf)); have e2 : S1.fr = P.fr := (congrArg (fun S : Pk => S.fr) eg.symm).trans fr_enA; rw [e2, ← hfr]; (first | exact Or.inl hw0 | (refine Or.inr ?_; rw [Gx.2.2.1.2.1, of_decide_eq_true hn6]; rfl)))
        have eE : enB (enA P) = wgP 6 S1.a S1 := by rw [eg, ← eB]
        refine KK _ _ (by rw [eE]; exact ⟨_, _, _, _, _, _, X362⟩) ?_
        rw [eE, if_pos hov]
      ·
        have hov := ov_t c_8
        refine g_null dX3_read_63 ?_
        refine g_goto (tgt := 71) dX3_read_64 (by decide) ?_
        refine g_aret rfl (by first | exact Or.inl ⟨_, rfl⟩ | exact Or.inr ⟨_, rfl⟩) (by first | exact Or.inl rfl | exact Or.inr ⟨_, rfl⟩) dX3_read_71 ?_
        have eA : S1 = enA P := by rw [qS1]; exact enA_1 (fun hf z => hk1 (by have q := st_q hst0 hf; rw [q, z]; decide))
        have eg : enA P = S1 := eA.symm
        have eB : wgP 6 S1.a S1 = enB S1 := enB_1 (fun hf => by have hfr := hg (f_enA (by rw [eg]; exact hf)); have e2 : S1.fr = P.fr := (congrArg (fun S : Pk => S.fr) eg.symm).trans fr_enA; rw [e2, ← hfr]; (first | exact Or.inl hw0 | (refine Or.inr ?_; rw [Gx.2.2.1.2.1, of_decide_eq_true hn6]; rfl)))
        have eE : enB (enA P) = wgP 6 S1.a S1 := by rw [eg, ← eB]
        refine KK _ _ (by rw [eE]; exact ⟨_, _, _, _, _, _, X362⟩) ?_
        rw [eE, if_neg hov]
    ·
      have hw0 := c_7
      refine g_aload_n dX3_read_37 0 rfl ?_
      refine gh_get (x := .ref E.rg) f_2_1 q579 (hrd361) dX3_read_38 rfl ?_
      refine gh_get (x := .ref (E.rg + 3)) f_4_9 q322 (hsub361 _ _ (Gx.1)) dX3_read_41 rfl ?_
      obtain ⟨lf_, hl_⟩ := AL_c ((LX.al (Gx.2.2.2.1 1 (by omega))).mono hsub361)
      refine g_callV (t_J2_isEmpty _ ((LX.al (Gx.2.2.2.1 1 (by omega))).mono hsub361)) (lw_V q1025 q1026 q1027 q127 q1028) okJ2_isEmpty hl_ rfl rfl rfl rfl (Nat.le_of_ble_eq_true rfl) dX3_read_44 (fun v1 h1 _ _ hq => ?_)
      obtain ⟨rfl, hh⟩ := hq
      rw [hh]
      show wp Δ (d + 12) muX3_read 47 [(0, .ref E.rd)] [.int (bI (decide (cnt 1 = 0)))] h360 _
      refine gb_eq (tgt := 56) dX3_read_47 (by decide) (fun c_9 => ?_) (fun c_9 => ?_)
      ·
        have hn6 := c_9
        refine g_aload_n dX3_read_56 0 rfl ?_
        refine g_callV (t_X3_isOver _ (⟨_, _, _, _, _, _, X361⟩)) (lw_V q682 q684 qs5 q129 q685) okX3_isOver (hrd361) rfl rfl rfl rfl (Nat.le_of_ble_eq_true rfl) dX3_read_57 (fun v1 h1 _ _ hq => ?_)
        obtain ⟨rfl, hh⟩ := hq
        rw [hh]
        show wp Δ (d + 12) muX3_read 60 [(0, .ref E.rd)] [.int (bI (decide (¬ S1.f = 0)))] h360 _
        refine gb_eq (tgt := 67) dX3_read_60 (by decide) (fun c_10 => ?_) (fun c_10 => ?_)
        ·
          have hov := ov_f c_10
          refine g_aload_n dX3_read_67 0 rfl ?_
          refine gh_get (x := .ref E.rg) f_2_1 q579 (hrd361) dX3_read_68 rfl ?_
          refine g_aret rfl (by first | exact Or.inl ⟨_, rfl⟩ | exact Or.inr ⟨_, rfl⟩) (by first | exact Or.inl rfl | exact Or.inr ⟨_, rfl⟩) dX3_read_71 ?_
          have eA : S1 = enA P := by rw [qS1]; exact enA_1 (fun hf z => hk1 (by have q := st_q hst0 hf; rw [q, z]; decide))
          have eg : enA P = S1 := eA.symm
          have eB : S1 = enB S1 := enB_0 (fun hf => by have hfr := hg (f_enA (by rw [eg]; exact hf)); have e2 : S1.fr = P.fr := (congrArg (fun S : Pk => S.fr) eg.symm).trans fr_enA; rw [e2, ← hfr]; rintro (q | q); exact hw0 q; rw [Gx.2.2.1.2.1] at q; exact of_decide_eq_false hn6 (nI_inj0 (LXn Gx) q))
          have eE : enB (enA P) = S1 := by rw [eg, ← eB]
          refine KK _ _ (by rw [eE]; exact ⟨_, _, _, _, _, _, X361⟩) ?_
          rw [eE, if_pos hov]
        ·
          have hov := ov_t c_10
          refine g_null dX3_read_63 ?_
          refine g_goto (tgt := 71) dX3_read_64 (by decide) ?_
          refine g_aret rfl (by first | exact Or.inl ⟨_, rfl⟩ | exact Or.inr ⟨_, rfl⟩) (by first | exact Or.inl rfl | exact Or.inr ⟨_, rfl⟩) dX3_read_71 ?_
          have eA : S1 = enA P := by rw [qS1]; exact enA_1 (fun hf z => hk1 (by have q := st_q hst0 hf; rw [q, z]; decide))
          have eg : enA P = S1 := eA.symm
          have eB : S1 = enB S1 := enB_0 (fun hf => by have hfr := hg (f_enA (by rw [eg]; exact hf)); have e2 : S1.fr = P.fr := (congrArg (fun S : Pk => S.fr) eg.symm).trans fr_enA; rw [e2, ← hfr]; rintro (q | q); exact hw0 q; rw [Gx.2.2.1.2.1] at q; exact of_decide_eq_false hn6 (nI_inj0 (LXn Gx) q))
          have eE : enB (enA P) = S1 := by rw [eg, ← eB]
          refine KK _ _ (by rw [eE]; exact ⟨_, _, _, _, _, _, X361⟩) ?_
          rw [eE, if_neg hov]
      ·
        have hn6 := c_9
        refine g_aload_n dX3_read_50 0 rfl ?_
        refine g_bipush (x := 6) dX3_read_51 rfl ?_
        refine g_callV (t_X3_wrong _ EK (⟨_, _, _, _, _, _, X361⟩) 6 (by decide)) (lw_V q678 q680 qs4 q129 q681) okX3_wrong (hrd361) rfl rfl rfl rfl (Nat.le_of_ble_eq_true rfl) dX3_read_53 (fun v1 h363 _ _ hq => ?_)
        obtain ⟨rfl, Y363⟩ := hq
        show wp Δ (d + 12) muX3_read 56 [(0, .ref E.rd)] [] h363 _
        obtain ⟨w363, now363, e363, ft363, fp363, Q363, X363⟩ := id Y363
        obtain ⟨hrd363, htk363, T363, ⟨he363, hQe363, hen363, hkk363⟩, hst363, hro363, hsub363, hcr363, hct363, hcp363, hcw363⟩ := id X363
        obtain ⟨num363, z363, le363, hnow363, S363, h3_363, h2_363⟩ := id T363
        obtain ⟨b363, sh363, sz363, B363⟩ := id S363
        refine g_aload_n dX3_read_56 0 rfl ?_
        refine g_callV (t_X3_isOver _ (⟨_, _, _, _, _, _, X363⟩)) (lw_V q682 q684 qs5 q129 q685) okX3_isOver (hrd363) rfl rfl rfl rfl (Nat.le_of_ble_eq_true rfl) dX3_read_57 (fun v1 h1 _ _ hq => ?_)
        obtain ⟨rfl, hh⟩ := hq
        rw [hh]
        show wp Δ (d + 12) muX3_read 60 [(0, .ref E.rd)] [.int (bI (decide (¬ (wgP 6 S1.a S1).f = 0)))] h363 _
        refine gb_eq (tgt := 67) dX3_read_60 (by decide) (fun c_11 => ?_) (fun c_11 => ?_)
        ·
          have hov := ov_f c_11
          refine g_aload_n dX3_read_67 0 rfl ?_
          refine gh_get (x := .ref E.rg) f_2_1 q579 (hrd363) dX3_read_68 rfl ?_
          refine g_aret rfl (by first | exact Or.inl ⟨_, rfl⟩ | exact Or.inr ⟨_, rfl⟩) (by first | exact Or.inl rfl | exact Or.inr ⟨_, rfl⟩) dX3_read_71 ?_
          have eA : S1 = enA P := by rw [qS1]; exact enA_1 (fun hf z => hk1 (by have q := st_q hst0 hf; rw [q, z]; decide))
          have eg : enA P = S1 := eA.symm
          have eB : wgP 6 S1.a S1 = enB S1 := enB_1 (fun hf => by have hfr := hg (f_enA (by rw [eg]; exact hf)); have e2 : S1.fr = P.fr := (congrArg (fun S : Pk => S.fr) eg.symm).trans fr_enA; rw [e2, ← hfr]; (first | exact Or.inl hw0 | (refine Or.inr ?_; rw [Gx.2.2.1.2.1, of_decide_eq_true hn6]; rfl)))
          have eE : enB (enA P) = wgP 6 S1.a S1 := by rw [eg, ← eB]
          refine KK _ _ (by rw [eE]; exact ⟨_, _, _, _, _, _, X363⟩) ?_
          rw [eE, if_pos hov]
        ·
          have hov := ov_t c_11
          refine g_null dX3_read_63 ?_
          refine g_goto (tgt := 71) dX3_read_64 (by decide) ?_
          refine g_aret rfl (by first | exact Or.inl ⟨_, rfl⟩ | exact Or.inr ⟨_, rfl⟩) (by first | exact Or.inl rfl | exact Or.inr ⟨_, rfl⟩) dX3_read_71 ?_
          have eA : S1 = enA P := by rw [qS1]; exact enA_1 (fun hf z => hk1 (by have q := st_q hst0 hf; rw [q, z]; decide))
          have eg : enA P = S1 := eA.symm
          have eB : wgP 6 S1.a S1 = enB S1 := enB_1 (fun hf => by have hfr := hg (f_enA (by rw [eg]; exact hf)); have e2 : S1.fr = P.fr := (congrArg (fun S : Pk => S.fr) eg.symm).trans fr_enA; rw [e2, ← hfr]; (first | exact Or.inl hw0 | (refine Or.inr ?_; rw [Gx.2.2.1.2.1, of_decide_eq_true hn6]; rfl)))
          have eE : enB (enA P) = wgP 6 S1.a S1 := by rw [eg, ← eB]
          refine KK _ _ (by rw [eE]; exact ⟨_, _, _, _, _, _, X363⟩) ?_
          rw [eE, if_neg hov]
set_option maxRecDepth 100000 in
theorem t_X3_read {Δ : Cx} {h : Hp} (d : Nat) {E : Ev} {L : Nat} {c0 : Nat → Option Cel} {P : Pk} (EK : EOK Δ E) (X : PX Δ E L h c0 P) (hfP : P.f = 0) (hGP : ∃ EL cp cnt el, GP Δ E c0 P.fr EL cp cnt el) (hLP : LI P.fr) (EO : eOk E.n P) : mt Δ (d + 12) muX3_read [.ref E.rd] h (fun v h' => ∃ L2 c1, L2 ≤ L + 2 * (E.n + 2) ∧ PX Δ E L2 h' c1 (enB (enA (loF E.t E.n (E.n + 1) (rlL E.t E.n P)))) ∧ v = some (if (enB (enA (loF E.t E.n (E.n + 1) (rlL E.t E.n P)))).f = 0 then .ref E.rg else .null) ∧ (∀ b x, b < E.rg → c0 b = some x → c1 b = some x) ∧ ((enB (enA (loF E.t E.n (E.n + 1) (rlL E.t E.n P)))).f = 0 → LI (enB (enA (loF E.t E.n (E.n + 1) (rlL E.t E.n P)))).fr ∧ ∃ EL cp cnt el, GP Δ E c1 (enB (enA (loF E.t E.n (E.n + 1) (rlL E.t E.n P)))).fr EL cp cnt el)) := by
  obtain ⟨w0, now0, e0, ft0, fp0, Q0, X0⟩ := id X
  obtain ⟨hrd0, htk0, T0, ⟨he0, hQe0, hen0, hkk0⟩, hst0, hro0, hsub0, hcr0, hct0, hcp0, hcw0⟩ := id X0
  obtain ⟨num0, z0, le0, hnow0, S0, h3_0, h2_0⟩ := id T0
  obtain ⟨b0, sh0, sz0, B0⟩ := id S0
  refine mt_of (lv0 := [(0, .ref E.rd)]) rfl rfl (Nat.le_of_ble_eq_true rfl) rfl ?_
  have C0f : ∀ (fuel : Nat) (k LL : Nat) (u : Hp) (cc : Nat → Option Cel) (S : Pk), E.n + 1 - k < fuel → (PX Δ E LL u cc S) → (S.f = 0) → (∃ EL cp cnt el, GP Δ E cc S.fr EL cp cnt el) → (LI S.fr) → (eOk E.n S) → (eOk E.n (rlL E.t E.n S)) → ((rlL E.t E.n S).f = 0 → LI (rlL E.t E.n S).fr ∧ eG E.n k (rlL E.t E.n S)) → (loF E.t E.n (E.n + 1) (rlL E.t E.n P) = loF E.t E.n (E.n + 1 - k) (rlL E.t E.n S)) → (∀ b x, b < E.rg → c0 b = some x → cc b = some x) → (k ≤ E.n + 1) → (LL ≤ L + 2 * k) → wp Δ (d + 12) muX3_read 0 [(0, .ref E.rd)] [] u (fun v h' => ∃ L2 c1, L2 ≤ L + 2 * (E.n + 2) ∧ PX Δ E L2 h' c1 (enB (enA (loF E.t E.n (E.n + 1) (rlL E.t E.n P)))) ∧ v = some (if (enB (enA (loF E.t E.n (E.n + 1) (rlL E.t E.n P)))).f = 0 then .ref E.rg else .null) ∧ (∀ b x, b < E.rg → c0 b = some x → c1 b = some x) ∧ ((enB (enA (loF E.t E.n (E.n + 1) (rlL E.t E.n P)))).f = 0 → LI (enB (enA (loF E.t E.n (E.n + 1) (rlL E.t E.n P)))).fr ∧ ∃ EL cp cnt el, GP Δ E c1 (enB (enA (loF E.t E.n (E.n + 1) (rlL E.t E.n P)))).fr EL cp cnt el)) := by
    intro fuel
    induction fuel with
    | zero => intros; omega
    | succ fuel ih0 =>
      intro k LL u cc S hfuel0 h0_0 h0_1 h0_2 h0_3 h0_4 h0_5 h0_6 h0_7 h0_8 h0_9 h0_10
      have hf0 := h0_1; have hG := h0_2; have hLI := h0_3; have hEO := h0_4
      obtain ⟨w1, now1, e1, ft1, fp1, Q1, X1⟩ := id h0_0
      obtain ⟨hrd1, htk1, T1, ⟨he1, hQe1, hen1, hkk1⟩, hst1, hro1, hsub1, hcr1, hct1, hcp1, hcw1⟩ := id X1
      obtain ⟨num1, z1, le1, hnow1, S1, h3_1, h2_1⟩ := id T1
      obtain ⟨b1, sh1, sz1, B1⟩ := id S1
      refine g_aload_n dX3_read_0 0 rfl ?_
      obtain ⟨ELs, cps, cnts, els, Gs⟩ := hG
      obtain ⟨nps, nfs, Is⟩ := li_gp Gs hLI
      refine g_callV (t_X3_line _ EK (⟨_, _, _, _, _, _, X1⟩) Gs Is hEO hf0) (lw_V q600 q602 qs2 q129 q603) okX3_line (hrd1) rfl rfl rfl rfl (Nat.le_of_ble_eq_true rfl) dX3_read_1 (fun v1 h364 _ _ hq => ?_)
      obtain rfl : v1 = none := hq.1
      obtain ⟨c1, Y364, frm, gf, ELx, cpx, cntx, elx, Gx, hgx⟩ := lnq_any hq
      show wp Δ (d + 12) muX3_read 4 [(0, .ref E.rd)] [] h364 _
      obtain ⟨w364, now364, e364, ft364, fp364, Q364, X364⟩ := id Y364
      obtain ⟨hrd364, htk364, T364, ⟨he364, hQe364, hen364, hkk364⟩, hst364, hro364, hsub364, hcr364, hct364, hcp364, hcw364⟩ := id X364
      obtain ⟨num364, z364, le364, hnow364, S364, h3_364, h2_364⟩ := id T364
      obtain ⟨b364, sh364, sz364, B364⟩ := id S364
      refine g_aload_n dX3_read_4 0 rfl ?_
      refine g_callV (t_X3_eatsSemicolon _ EK (⟨_, _, _, _, _, _, X364⟩)) (lw_V q1021 q1023 qs28 q129 q1024) okX3_eatsSemicolon (hrd364) rfl rfl rfl rfl (Nat.le_of_ble_eq_true rfl) dX3_read_5 (fun v1 h365 _ _ hq => ?_)
      obtain ⟨rfl, Y365⟩ := hq
      show wp Δ (d + 12) muX3_read 8 [(0, .ref E.rd)] [.int (bI (decide ((rlL E.t E.n S).f = 0 ∧ (rlL E.t E.n S).k = 59)))] h365 _
      obtain ⟨w365, now365, e365, ft365, fp365, Q365, X365⟩ := id Y365
      obtain ⟨hrd365, htk365, T365, ⟨he365, hQe365, hen365, hkk365⟩, hst365, hro365, hsub365, hcr365, hct365, hcp365, hcw365⟩ := id X365
      obtain ⟨num365, z365, le365, hnow365, S365, h3_365, h2_365⟩ := id T365
      obtain ⟨b365, sh365, sz365, B365⟩ := id S365
      refine gb_ne (tgt := 0) dX3_read_8 (by decide) (fun c_1 => ?_) (fun c_1 => ?_)
      ·
        have hc := of_decide_eq_true c_1
        obtain ⟨hLI2, hG2⟩ := h0_6 hc.1
        have hkn : k ≤ E.n := by obtain ⟨e, q1, q2, -⟩ := hG2; omega
        have kp := lo_keep (t := E.t) EK.1 h0_5 hc.1 hLI2 hG2
        exact ih0 (k + 1) (LL + 2) h365 c1 (nxP E.t E.n (rlL E.t E.n S)) (by omega) (by rw [← se_t (t := E.t) (n := E.n) hc]; exact ⟨_, _, _, _, _, _, X365⟩) (f_nx.trans hc.1) ⟨ELx, cpx, cntx, elx, by rw [fr_nx, ← hgx hc.1]; exact Gx⟩ kp.2.1 kp.1 kp.2.2.1 kp.2.2.2 (h0_7.trans (loF_t hc.1 hc.2 hkn)) (fun b x hb q => frm b x hb (h0_8 b x hb q)) (by omega) (by omega)
      ·
        have hc := of_decide_eq_false c_1
        have eF : loF E.t E.n (E.n + 1) (rlL E.t E.n P) = rlL E.t E.n S := h0_7.trans (loF_f hc _)
        refine X3_read_tail _ EK (P := rlL E.t E.n S) (L := LL + 2) (c0 := c1) (by rw [← se_f (t := E.t) (n := E.n) hc]; exact ⟨_, _, _, _, _, _, X365⟩) Gx hgx (fun v2 h2 X2 e2 => ?_)
        refine ⟨LL + 2, c1, by omega, by rw [eF]; exact X2, by rw [eF]; exact e2, fun b x hb q => frm b x hb (h0_8 b x hb q), fun z => ?_⟩
        rw [eF] at z ⊢
        have z1 := f_enA (f_enB z)
        rw [fr_enB, fr_enA]
        exact ⟨(h0_6 z1).1, ELx, cpx, cntx, elx, by rw [← hgx z1]; exact Gx⟩
  have C0 : ∀ (k LL : Nat) (u : Hp) (cc : Nat → Option Cel) (S : Pk), (PX Δ E LL u cc S) → (S.f = 0) → (∃ EL cp cnt el, GP Δ E cc S.fr EL cp cnt el) → (LI S.fr) → (eOk E.n S) → (eOk E.n (rlL E.t E.n S)) → ((rlL E.t E.n S).f = 0 → LI (rlL E.t E.n S).fr ∧ eG E.n k (rlL E.t E.n S)) → (loF E.t E.n (E.n + 1) (rlL E.t E.n P) = loF E.t E.n (E.n + 1 - k) (rlL E.t E.n S)) → (∀ b x, b < E.rg → c0 b = some x → cc b = some x) → (k ≤ E.n + 1) → (LL ≤ L + 2 * k) → wp Δ (d + 12) muX3_read 0 [(0, .ref E.rd)] [] u (fun v h' => ∃ L2 c1, L2 ≤ L + 2 * (E.n + 2) ∧ PX Δ E L2 h' c1 (enB (enA (loF E.t E.n (E.n + 1) (rlL E.t E.n P)))) ∧ v = some (if (enB (enA (loF E.t E.n (E.n + 1) (rlL E.t E.n P)))).f = 0 then .ref E.rg else .null) ∧ (∀ b x, b < E.rg → c0 b = some x → c1 b = some x) ∧ ((enB (enA (loF E.t E.n (E.n + 1) (rlL E.t E.n P)))).f = 0 → LI (enB (enA (loF E.t E.n (E.n + 1) (rlL E.t E.n P)))).fr ∧ ∃ EL cp cnt el, GP Δ E c1 (enB (enA (loF E.t E.n (E.n + 1) (rlL E.t E.n P)))).fr EL cp cnt el)) := fun k LL u cc S h0_0 h0_1 h0_2 h0_3 h0_4 h0_5 h0_6 h0_7 h0_8 h0_9 h0_10 => C0f _ k LL u cc S (Nat.lt_succ_self _) h0_0 h0_1 h0_2 h0_3 h0_4 h0_5 h0_6 h0_7 h0_8 h0_9 h0_10
  exact C0 0 L h c0 P X hfP hGP hLP EO (eOk_rl EK.1 EO) (fun q => ⟨li_rl EK.1 hLP EO q, eG_0 (eOk_rl EK.1 EO)⟩) rfl (fun _ _ _ q => q) (Nat.zero_le _) (Nat.le_refl _)
