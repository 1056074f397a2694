theorem ov_f {P : Pk} (h : decide (¬ P.f = 0) = false) : P.f = 0 := Decidable.not_not.mp (of_decide_eq_false h)
theorem ov_t {P : Pk} (h : decide (¬ P.f = 0) = true) : ¬ P.f = 0 := of_decide_eq_true h
abbrev hSt (P Q : Pk) (ft fp : Int32) : Prop := (P.f = 0 ∧ ft = 0 ∧ Q = P) ∨ (¬ P.f = 0 ∧ 0 < ft ∧ ft = P.u ∧ fp = P.p)
theorem over_0 {P Q : Pk} {ft fp : Int32} (h : hSt P Q ft fp) (h0 : ft ≤ 0) : decide (¬ P.f = 0) = false := by
  rcases h with ⟨a, -⟩ | ⟨-, a, -⟩
  · exact decide_eq_false (fun q => q a)
  · exact absurd h0 (Int32.not_le.mpr a)
theorem over_1 {P Q : Pk} {ft fp : Int32} (h : hSt P Q ft fp) (h0 : ¬ ft ≤ 0) : decide (¬ P.f = 0) = true := by
  rcases h with ⟨-, a, -⟩ | ⟨a, -⟩
  · exact absurd (by rw [a]; decide) h0
  · exact decide_eq_true a
theorem st_q {P Q : Pk} {ft fp : Int32} (h : hSt P Q ft fp) (hf : P.f = 0) : Q = P := by
  rcases h with ⟨-, -, a⟩ | ⟨a, -⟩
  · exact a
  · exact absurd hf a
section BEC
variable {P : Pk} {c : Bool}
theorem bec_1 (hc : c = true) (h : ¬ P.fr 0 = 0) : beC c P = P := by unfold beC beW; rw [if_neg h, if_pos hc]
theorem bec_2 (hc : c = true) (h : P.fr 0 = 0) : beC c P = wgP 6 P.a P := by unfold beC beW; rw [if_pos h, if_pos hc]
theorem bec_3 (hc : c = false) (h : ¬ P.fr 0 = 0) : beC c P = wgP 5 P.a P := by unfold beC beW; rw [if_neg h, if_neg (bf hc)]
theorem bec_4 (hc : c = false) (h : P.fr 0 = 0) : beC c P = wgP 6 (wgP 5 P.a P).a (wgP 5 P.a P) := by unfold beC beW; rw [if_pos h, if_neg (bf hc)]
end BEC
theorem fr_wg0 {k p : Int32} {P : Pk} {i : Nat} : (wgP k p P).fr i = P.fr i := congrFun fr_wg i
/-- two that must be unlike -/
def unP (c : Bool) (P : Pk) : Pk := if P.f = 0 then (if c = true then wgP 3 P.a P else P) else P
theorem un_n {c : Bool} {P : Pk} (h : ¬ P.f = 0) : unP c P = P := if_neg h
theorem un_t {c : Bool} {P : Pk} (h : P.f = 0) (hc : c = true) : unP c P = wgP 3 P.a P := by unfold unP; rw [if_pos h, if_pos hc]
theorem un_f {c : Bool} {P : Pk} (hc : c = false) : unP c P = P := by
  unfold unP
  by_cases h : P.f = 0
  · rw [if_pos h, if_neg (bf hc)]
  · rw [if_neg h]
/-- a semicolon is gone over -/
def seP (t : Nat → Int32) (n : Nat) (P : Pk) : Pk := if P.f = 0 ∧ P.k = 59 then nxP t n P else P
set_option maxRecDepth 100000 in
theorem t_X3_isOver {Δ : Cx} {h : Hp} (d : Nat) {E : Ev} {L : Nat} {c0 : Nat → Option Cel} {P : Pk} (X : PX Δ E L h c0 P)  : mt Δ d muX3_isOver [.ref E.rd] h (fun v h' => v = some (.int (bI (decide (¬ P.f = 0)))) ∧ h' = h) := by
  obtain ⟨w0, now0, e0, ft0, fp0, Q0, X0⟩ := id X
  obtain ⟨hrd0, htk0, T0, ⟨he0, hQe0, hen0, hkk0⟩, hst0, hro0, hsub0, hcr0, hct0, hcp0, hcw0⟩ := id X0
  obtain ⟨num0, z0, le0, hnow0, S0, h3_0, h2_0⟩ := id T0
  obtain ⟨b0, sh0, sz0, B0⟩ := id S0
  refine mt_of (lv0 := [(0, .ref E.rd)]) rfl rfl (Nat.le_of_ble_eq_true rfl) rfl ?_
  refine g_aload_n dX3_isOver_0 0 rfl ?_
  refine gh_get (x := .int ft0) f_2_3 q581 (hrd0) dX3_isOver_1 rfl ?_
  refine g_if_le (tgt := 11) dX3_isOver_4 (by decide) (fun c_1 => ?_) (fun c_1 => ?_)
  ·
    have hov := c_1
    refine g_iconst (x := 0) dX3_isOver_11 rfl ?_
    refine g_zret rfl (by first | exact Or.inl rfl | exact Or.inr rfl | exact bI_01 _) dX3_isOver_12 ?_
    exact ⟨by rw [bI_f (over_0 hst0 hov)], rfl⟩
  ·
    have hov := c_1
    refine g_iconst (x := 1) dX3_isOver_7 rfl ?_
    refine g_goto (tgt := 12) dX3_isOver_8 (by decide) ?_
    refine g_zret rfl (by first | exact Or.inl rfl | exact Or.inr rfl | exact bI_01 _) dX3_isOver_12 ?_
    exact ⟨by rw [bI_t (over_1 hst0 hov)], rfl⟩
set_option maxRecDepth 100000 in
theorem t_X3_wrong {Δ : Cx} {h : Hp} (d : Nat) {E : Ev} {L : Nat} {c0 : Nat → Option Cel} {P : Pk} (EK : EOK Δ E) (X : PX Δ E L h c0 P) (kd : Int32) (hkd : 0 < kd) : mt Δ (d + 1) muX3_wrong [.ref E.rd, .int kd] h (fun v h' => v = none ∧ PX Δ E L h' c0 (wgP kd P.a P)) := by
  obtain ⟨w0, now0, e0, ft0, fp0, Q0, X0⟩ := id X
  obtain ⟨hrd0, htk0, T0, ⟨he0, hQe0, hen0, hkk0⟩, hst0, hro0, hsub0, hcr0, hct0, hcp0, hcw0⟩ := id X0
  obtain ⟨num0, z0, le0, hnow0, S0, h3_0, h2_0⟩ := id T0
  obtain ⟨b0, sh0, sz0, B0⟩ := id S0
  have lrd := ce_lt hrd0; have nrd := EK.2.1
  have ntk : E.tk ≠ E.rd := ce_ne htk0 hrd0 (Or.inl (by show 3 ≠ 2; omega)); have nnow : now0 ≠ E.rd := ce_ne hnow0 hrd0 (Or.inl (by show 5 ≠ 2; omega)); have nw : w0 ≠ E.rd := ce_ne B0.1 hrd0 (Or.inl (by show 16 ≠ 2; omega))
  refine mt_of (lv0 := [(0, .ref E.rd), (1, .int kd)]) rfl rfl (Nat.le_of_ble_eq_true rfl) rfl ?_
  refine g_aload_n dX3_wrong_0 0 rfl ?_
  refine g_callV (t_X3_isOver _ (⟨_, _, _, _, _, _, X0⟩)) (lw_V q682 q684 qs5 q129 q685) okX3_isOver (hrd0) rfl rfl rfl rfl (Nat.le_of_ble_eq_true rfl) dX3_wrong_1 (fun v1 h1 _ _ hq => ?_)
  obtain ⟨rfl, hh⟩ := hq
  rw [hh]
  show wp Δ (d + 1) muX3_wrong 4 [(0, .ref E.rd), (1, .int kd)] [.int (bI (decide (¬ P.f = 0)))] h _
  refine gb_eq (tgt := 8) dX3_wrong_4 (by decide) (fun c_1 => ?_) (fun c_1 => ?_)
  ·
    have hov := ov_f c_1
    refine g_aload_n dX3_wrong_8 0 rfl ?_
    refine g_iload_n dX3_wrong_9 1 rfl ?_
    refine gh_put (f2 := ob [.ref E.tk, .ref E.rg, .ref now0, .int kd, .int fp0]) f_2_3 q581 (hrd0) (by omega) dX3_wrong_10 rfl rfl (ob_u [.ref E.tk, .ref E.rg, .ref now0, .int ft0, .int fp0] 3 (.int kd) (Nat.le_of_ble_eq_true rfl)) ?_
    refine wp_put (Fr.refl (fun b => b = E.rd) _) (fun q => by first | exact absurd q (by omega) | exact Or.inl rfl | exact Or.inr rfl | exact Or.inr (Or.inl rfl) | exact Or.inr (Or.inr rfl) | exact Or.inr ⟨rfl, by omega⟩ | exact rfl | (simp only []; omega)) (hrd0) (by omega) (fun u87 F87 z87 c87 k87 => ?_)
    refine g_aload_n dX3_wrong_13 0 rfl ?_
    refine g_aload_n dX3_wrong_14 0 rfl ?_
    refine gh_get (x := .ref now0) f_2_2 q580 (c87) dX3_wrong_15 rfl ?_
    refine gh_get (x := .int Q0.a) f_5_1 q374 (k87 _ _ (hnow0) (by omega)) dX3_wrong_18 rfl ?_
    refine gh_put (f2 := ob [.ref E.tk, .ref E.rg, .ref now0, .int kd, .int Q0.a]) f_2_4 q583 (c87) (by omega) dX3_wrong_21 rfl rfl (ob_u [.ref E.tk, .ref E.rg, .ref now0, .int kd, .int fp0] 4 (.int Q0.a) (Nat.le_of_ble_eq_true rfl)) ?_
    refine wp_put F87 (fun q => by first | exact absurd q (by omega) | exact Or.inl rfl | exact Or.inr rfl | exact Or.inr (Or.inl rfl) | exact Or.inr (Or.inr rfl) | exact Or.inr ⟨rfl, by omega⟩ | exact rfl | (simp only []; omega)) (c87) (by omega) (fun u88 F88 z88 c88 k88 => ?_)
    refine g_vret rfl dX3_wrong_24 ?_
    exact ⟨rfl, px_wr X0 hov hkd F88 (c88)⟩
  ·
    have hov := ov_t c_1
    refine g_vret rfl dX3_wrong_7 ?_
    exact ⟨rfl, by rw [wg_n hov]; exact X⟩
set_option maxRecDepth 100000 in
theorem t_X3_on {Δ : Cx} {h : Hp} (d : Nat) {E : Ev} {L : Nat} {c0 : Nat → Option Cel} {P : Pk} (EK : EOK Δ E) (X : PX Δ E L h c0 P)  : mt Δ (d + 7) muX3_on [.ref E.rd] h (fun v h' => v = none ∧ PX Δ E L h' c0 (paP E.t E.n P)) := by
  obtain ⟨w0, now0, e0, ft0, fp0, Q0, X0⟩ := id X
  obtain ⟨hrd0, htk0, T0, ⟨he0, hQe0, hen0, hkk0⟩, hst0, hro0, hsub0, hcr0, hct0, hcp0, hcw0⟩ := id X0
  obtain ⟨num0, z0, le0, hnow0, S0, h3_0, h2_0⟩ := id T0
  obtain ⟨b0, sh0, sz0, B0⟩ := id S0
  have lrd := ce_lt hrd0; have nrd := EK.2.1; have lnow := ce_lt hnow0
  have ntk : E.tk ≠ E.rd := ce_ne htk0 hrd0 (Or.inl (by show 3 ≠ 2; omega))
  refine mt_of (lv0 := [(0, .ref E.rd)]) rfl rfl (Nat.le_of_ble_eq_true rfl) rfl ?_
  refine g_aload_n dX3_on_0 0 rfl ?_
  refine g_callV (t_X3_isOver _ (⟨_, _, _, _, _, _, X0⟩)) (lw_V q682 q684 qs5 q129 q685) okX3_isOver (hrd0) rfl rfl rfl rfl (Nat.le_of_ble_eq_true rfl) dX3_on_1 (fun v1 h1 _ _ hq => ?_)
  obtain ⟨rfl, hh⟩ := hq
  rw [hh]
  show wp Δ (d + 7) muX3_on 4 [(0, .ref E.rd)] [.int (bI (decide (¬ P.f = 0)))] h _
  refine gb_ne (tgt := 29) dX3_on_4 (by decide) (fun c_1 => ?_) (fun c_1 => ?_)
  ·
    have hov := ov_t c_1
    refine g_vret rfl dX3_on_29 ?_
    exact ⟨rfl, by rw [pa_n hov]; exact X⟩
  ·
    have hov := ov_f c_1
    have hQP := st_q hst0 hov
    have hPe : P.e = nI e0 := by rw [← hQP]; exact hQe0
    refine g_aload_n dX3_on_7 0 rfl ?_
    refine gh_get (x := .ref now0) f_2_2 q580 (hrd0) dX3_on_8 rfl ?_
    refine gh_get (x := .int (srt Q0.k)) f_5_0 q372 (hnow0) dX3_on_11 rfl ?_
    refine g_iconst (x := 1) dX3_on_14 rfl ?_
    refine g_icmp_eq (tgt := 29) dX3_on_15 (by decide) (fun c_2 => ?_) (fun c_2 => ?_)
    ·
      have hk0 : P.k = 0 := by rw [← hQP]; exact (srt_i hkk0).1 c_2
      refine g_vret rfl dX3_on_29 ?_
      exact ⟨rfl, by rw [pa_y hov]; exact px_end EK X0 hov hk0⟩
    ·
      have hk0 : ¬ P.k = 0 := fun q => c_2 (by rw [hQP, q]; decide)
      refine g_aload_n dX3_on_18 0 rfl ?_
      refine g_aload_n dX3_on_19 0 rfl ?_
      refine gh_get (x := .ref E.tk) f_2_0 q578 (hrd0) dX3_on_20 rfl ?_
      refine g_callV (t_X4_next _ (P := P) (htk0) (hsub0 _ _ hcp0) EK.2.2.2.1 EK.1 he0 hPe EK.2.2.1 EK.2.2.2.2.2.1) (lw_V q356 q357 q358 q130 q359) okX4_next (htk0) rfl rfl rfl rfl (Nat.le_of_ble_eq_true rfl) dX3_on_23 (fun v1 h89 _ _ hq => ?_)
      obtain ⟨na, nw2, rfl, hna, hnw, F89, ntk2, NT⟩ := hq
      have hrdN := F89.2 _ _ hrd0 ntk.symm
      have F7089 : Fr Δ (fun b => b = E.rd ∨ b = E.tk) _ _ h h89 := F89.le (Nat.le_refl _) (Nat.le_refl _) (fun _ _ q => Or.inr q)
      show wp Δ (d + 7) muX3_on 26 [(0, .ref E.rd)] [.ref na, .ref E.rd] h89 _
      refine gh_put (f2 := ob [.ref E.tk, .ref E.rg, .ref na, .int ft0, .int fp0]) f_2_2 q580 (hrdN) (by omega) dX3_on_26 rfl rfl (ob_u [.ref E.tk, .ref E.rg, .ref now0, .int ft0, .int fp0] 2 (.ref na) (Nat.le_of_ble_eq_true rfl)) ?_
      refine wp_put F7089 (fun q => by first | exact absurd q (by omega) | exact Or.inl rfl | exact Or.inr rfl | exact Or.inr (Or.inl rfl) | exact Or.inr (Or.inr rfl) | exact Or.inr ⟨rfl, by omega⟩ | exact rfl | (simp only []; omega)) (hrdN) (by omega) (fun u90 F90 z90 c90 k90 => ?_)
      refine g_vret rfl dX3_on_29 ?_
      exact ⟨rfl, by rw [pa_y hov]; exact px_mv EK X0 hov hk0 (fun _ q => q) hnw F90 (c90) (k90 _ _ (ntk2) (by omega)) (NT.kp (fun b x q n2 _ => k90 _ _ q (fun z => n2 (by rw [z, hrdN] at q; rw [← Option.some.inj q]))))⟩
set_option maxRecDepth 100000 in
theorem t_X3_needs {Δ : Cx} {h : Hp} (d : Nat) {E : Ev} {L : Nat} {c0 : Nat → Option Cel} {P : Pk} (EK : EOK Δ E) (X : PX Δ E L h c0 P) (i : Nat) (hi : i < 25) : mt Δ (d + 8) muX3_needs [.ref E.rd, .ref (cT Δ i)] h (fun v h' => v = none ∧ PX Δ E L h' c0 (muP E.t E.n i P)) := by
  obtain ⟨w0, now0, e0, ft0, fp0, Q0, X0⟩ := id X
  obtain ⟨hrd0, htk0, T0, ⟨he0, hQe0, hen0, hkk0⟩, hst0, hro0, hsub0, hcr0, hct0, hcp0, hcw0⟩ := id X0
  obtain ⟨num0, z0, le0, hnow0, S0, h3_0, h2_0⟩ := id T0
  obtain ⟨b0, sh0, sz0, B0⟩ := id S0
  refine mt_of (lv0 := [(0, .ref E.rd), (1, .ref (cT Δ i))]) rfl rfl (Nat.le_of_ble_eq_true rfl) rfl ?_
  refine g_aload_n dX3_needs_0 0 rfl ?_
  refine gh_get (x := .ref now0) f_2_2 q580 (hrd0) dX3_needs_1 rfl ?_
  refine g_aload_n dX3_needs_4 1 rfl ?_
  refine g_callV (t_X6_is _ hnow0 S0 EK.2.2.2.2.1 (px_n0 EK (⟨_, _, _, _, _, _, X0⟩)) i hi) (lw_V q699 q700 q701 q132 q702) okX6_is hnow0 rfl rfl rfl rfl (Nat.le_of_ble_eq_true rfl) dX3_needs_5 (fun v1 h1 _ _ hq => ?_)
  obtain ⟨rfl, hh⟩ := hq
  rw [hh]
  show wp Δ (d + 8) muX3_needs 8 [(0, .ref E.rd), (1, .ref (cT Δ i))] [.int (bI (decide (srt Q0.k = 2) && eqW le0 z0 (txF i) (txN i)))] h _
  have hI : P.f = 0 → (decide (srt Q0.k = 2) && eqW le0 z0 (txF i) (txN i)) = isT i P := fun hf => by have q := st_q hst0 hf; rw [← q] at hf ⊢; exact is_T hf hkk0 B0.2.2.1 (tx8 i hi) h2_0
  refine gb_ne (tgt := 16) dX3_needs_8 (by decide) (fun c_1 => ?_) (fun c_1 => ?_)
  ·
    have hb := c_1
    refine g_aload_n dX3_needs_16 0 rfl ?_
    refine g_callV (t_X3_on _ EK (⟨_, _, _, _, _, _, X0⟩)) (lw_V q686 q688 qs6 q129 q689) okX3_on (hrd0) rfl rfl rfl rfl (Nat.le_of_ble_eq_true rfl) dX3_needs_17 (fun v1 h91 _ _ hq => ?_)
    obtain ⟨rfl, Y91⟩ := hq
    show wp Δ (d + 8) muX3_needs 20 [(0, .ref E.rd), (1, .ref (cT Δ i))] [] h91 _
    obtain ⟨w91, now91, e91, ft91, fp91, Q91, X91⟩ := id Y91
    obtain ⟨hrd91, htk91, T91, ⟨he91, hQe91, hen91, hkk91⟩, hst91, hro91, hsub91, hcr91, hct91, hcp91, hcw91⟩ := id X91
    obtain ⟨num91, z91, le91, hnow91, S91, h3_91, h2_91⟩ := id T91
    obtain ⟨b91, sh91, sz91, B91⟩ := id S91
    refine g_vret rfl dX3_needs_20 ?_
    exact ⟨rfl, by rw [← mu_t (fun hf => (hI hf).symm.trans hb)]; exact Y91⟩
  ·
    have hb := c_1
    refine g_aload_n dX3_needs_11 0 rfl ?_
    refine g_iconst (x := 1) dX3_needs_12 rfl ?_
    refine g_callV (t_X3_wrong _ EK (⟨_, _, _, _, _, _, X0⟩) 1 (by decide)) (lw_V q678 q680 qs4 q129 q681) okX3_wrong (hrd0) rfl rfl rfl rfl (Nat.le_of_ble_eq_true rfl) dX3_needs_13 (fun v1 h92 _ _ hq => ?_)
    obtain ⟨rfl, Y92⟩ := hq
    show wp Δ (d + 8) muX3_needs 16 [(0, .ref E.rd), (1, .ref (cT Δ i))] [] h92 _
    obtain ⟨w92, now92, e92, ft92, fp92, Q92, X92⟩ := id Y92
    obtain ⟨hrd92, htk92, T92, ⟨he92, hQe92, hen92, hkk92⟩, hst92, hro92, hsub92, hcr92, hct92, hcp92, hcw92⟩ := id X92
    obtain ⟨num92, z92, le92, hnow92, S92, h3_92, h2_92⟩ := id T92
    obtain ⟨b92, sh92, sz92, B92⟩ := id S92
    refine g_aload_n dX3_needs_16 0 rfl ?_
    refine g_callV (t_X3_on _ EK (⟨_, _, _, _, _, _, X92⟩)) (lw_V q686 q688 qs6 q129 q689) okX3_on (hrd92) rfl rfl rfl rfl (Nat.le_of_ble_eq_true rfl) dX3_needs_17 (fun v1 h93 _ _ hq => ?_)
    obtain ⟨rfl, Y93⟩ := hq
    show wp Δ (d + 8) muX3_needs 20 [(0, .ref E.rd), (1, .ref (cT Δ i))] [] h93 _
    obtain ⟨w93, now93, e93, ft93, fp93, Q93, X93⟩ := id Y93
    obtain ⟨hrd93, htk93, T93, ⟨he93, hQe93, hen93, hkk93⟩, hst93, hro93, hsub93, hcr93, hct93, hcp93, hcw93⟩ := id X93
    obtain ⟨num93, z93, le93, hnow93, S93, h3_93, h2_93⟩ := id T93
    obtain ⟨b93, sh93, sz93, B93⟩ := id S93
    refine g_vret rfl dX3_needs_20 ?_
    exact ⟨rfl, by rw [← mu_f (fun hf => (hI hf).symm.trans hb)]; exact Y93⟩
set_option maxRecDepth 100000 in
theorem t_X3_whole {Δ : Cx} {h : Hp} (d : Nat) {E : Ev} {L : Nat} {c0 : Nat → Option Cel} {P : Pk} (EK : EOK Δ E) (X : PX Δ E L h c0 P) (lo hi : Int32) : mt Δ (d + 8) muX3_whole [.ref E.rd, .int lo, .int hi] h (fun v h' => ∃ r : Int32, v = some (.int r) ∧ ((nuP E.t E.n lo hi P).f = 0 → r = nuV lo hi P) ∧ PX Δ E L h' c0 (nuP E.t E.n lo hi P)) := by
  obtain ⟨w0, now0, e0, ft0, fp0, Q0, X0⟩ := id X
  obtain ⟨hrd0, htk0, T0, ⟨he0, hQe0, hen0, hkk0⟩, hst0, hro0, hsub0, hcr0, hct0, hcp0, hcw0⟩ := id X0
  obtain ⟨num0, z0, le0, hnow0, S0, h3_0, h2_0⟩ := id T0
  obtain ⟨b0, sh0, sz0, B0⟩ := id S0
  refine mt_of (lv0 := [(0, .ref E.rd), (1, .int lo), (2, .int hi)]) rfl rfl (Nat.le_of_ble_eq_true rfl) rfl ?_
  refine g_aload_n dX3_whole_0 0 rfl ?_
  refine gh_get (x := .ref now0) f_2_2 q580 (hrd0) dX3_whole_1 rfl ?_
  refine gh_get (x := .int (srt Q0.k)) f_5_0 q372 (hnow0) dX3_whole_4 rfl ?_
  refine g_iconst (x := 3) dX3_whole_7 rfl ?_
  refine g_icmp_eq (tgt := 19) dX3_whole_8 (by decide) (fun c_1 => ?_) (fun c_1 => ?_)
  ·
    have hs3 := c_1
    refine g_aload_n dX3_whole_19 0 rfl ?_
    refine gh_get (x := .ref now0) f_2_2 q580 (hrd0) dX3_whole_20 rfl ?_
    refine gh_get (x := .int num0) f_5_2 q376 (hnow0) dX3_whole_23 rfl ?_
    refine g_iload_n dX3_whole_26 1 rfl ?_
    refine g_iload_n dX3_whole_27 2 rfl ?_
    refine g_callSN (t_X1_in _ num0 lo hi) (lw_meth q260) q708 q124 q259 okX1_in rfl rfl (Nat.le_of_ble_eq_true rfl) dX3_whole_28 (fun v1 h1 _ _ hq => ?_)
    obtain ⟨rfl, hh⟩ := hq
    rw [hh]
    show wp Δ (d + 8) muX3_whole 31 [(0, .ref E.rd), (1, .int lo), (2, .int hi)] [.int (bI (inS num0 lo hi))] h _
    refine gb_ne (tgt := 39) dX3_whole_31 (by decide) (fun c_2 => ?_) (fun c_2 => ?_)
    ·
      have hT : P.f = 0 → P.k = 3 ∧ inS P.w lo hi = true := fun hf => by have q := st_q hst0 hf; rw [← q] at hf ⊢; exact ⟨(srt_i hkk0).2.2.1 hs3, by rw [← h3_0 ((srt_i hkk0).2.2.1 hs3)]; exact c_2⟩
      refine g_aload_n dX3_whole_39 0 rfl ?_
      refine gh_get (x := .ref now0) f_2_2 q580 (hrd0) dX3_whole_40 rfl ?_
      refine gh_get (x := .int num0) f_5_2 q376 (hnow0) dX3_whole_43 rfl ?_
      refine g_istore_n (lv' := [(3, .int num0), (0, .ref E.rd), (1, .int lo), (2, .int hi)]) dX3_whole_46 (by decide) rfl ?_
      refine g_aload_n dX3_whole_47 1 rfl ?_
      refine g_callV (t_X3_on _ EK (⟨_, _, _, _, _, _, X0⟩)) (lw_V q686 q688 qs6 q129 q689) okX3_on (hrd0) rfl rfl rfl rfl (Nat.le_of_ble_eq_true rfl) dX3_whole_48 (fun v1 h94 _ _ hq => ?_)
      obtain ⟨rfl, Y94⟩ := hq
      show wp Δ (d + 8) muX3_whole 51 [(3, .int num0), (0, .ref E.rd), (1, .int lo), (2, .int hi)] [] h94 _
      obtain ⟨w94, now94, e94, ft94, fp94, Q94, X94⟩ := id Y94
      obtain ⟨hrd94, htk94, T94, ⟨he94, hQe94, hen94, hkk94⟩, hst94, hro94, hsub94, hcr94, hct94, hcp94, hcw94⟩ := id X94
      obtain ⟨num94, z94, le94, hnow94, S94, h3_94, h2_94⟩ := id T94
      obtain ⟨b94, sh94, sz94, B94⟩ := id S94
      refine g_iload_n dX3_whole_51 0 rfl ?_
      refine g_iret rfl dX3_whole_52 ?_
      refine ⟨_, rfl, fun hz => ?_, by rw [← nu_t hT]; exact Y94⟩
      obtain ⟨z1, z2, z3⟩ := nuV_ok hz
      rw [z3]
      have q := st_q hst0 z1
      rw [← q] at z2 ⊢
      exact h3_0 z2
    ·
      have hT : P.f = 0 → P.k = 3 ∧ inS P.w lo hi = false := fun hf => by have q := st_q hst0 hf; rw [← q] at hf ⊢; exact ⟨(srt_i hkk0).2.2.1 hs3, by rw [← h3_0 ((srt_i hkk0).2.2.1 hs3)]; exact c_2⟩
      refine g_aload_n dX3_whole_34 0 rfl ?_
      refine g_iconst (x := 4) dX3_whole_35 rfl ?_
      refine g_callV (t_X3_wrong _ EK (⟨_, _, _, _, _, _, X0⟩) 4 (by decide)) (lw_V q678 q680 qs4 q129 q681) okX3_wrong (hrd0) rfl rfl rfl rfl (Nat.le_of_ble_eq_true rfl) dX3_whole_36 (fun v1 h95 _ _ hq => ?_)
      obtain ⟨rfl, Y95⟩ := hq
      show wp Δ (d + 8) muX3_whole 39 [(0, .ref E.rd), (1, .int lo), (2, .int hi)] [] h95 _
      obtain ⟨w95, now95, e95, ft95, fp95, Q95, X95⟩ := id Y95
      obtain ⟨hrd95, htk95, T95, ⟨he95, hQe95, hen95, hkk95⟩, hst95, hro95, hsub95, hcr95, hct95, hcp95, hcw95⟩ := id X95
      obtain ⟨num95, z95, le95, hnow95, S95, h3_95, h2_95⟩ := id T95
      obtain ⟨b95, sh95, sz95, B95⟩ := id S95
      refine g_aload_n dX3_whole_39 0 rfl ?_
      refine gh_get (x := .ref now95) f_2_2 q580 (hrd95) dX3_whole_40 rfl ?_
      refine gh_get (x := .int num95) f_5_2 q376 (hnow95) dX3_whole_43 rfl ?_
      refine g_istore_n (lv' := [(3, .int num95), (0, .ref E.rd), (1, .int lo), (2, .int hi)]) dX3_whole_46 (by decide) rfl ?_
      refine g_aload_n dX3_whole_47 1 rfl ?_
      refine g_callV (t_X3_on _ EK (⟨_, _, _, _, _, _, X95⟩)) (lw_V q686 q688 qs6 q129 q689) okX3_on (hrd95) rfl rfl rfl rfl (Nat.le_of_ble_eq_true rfl) dX3_whole_48 (fun v1 h96 _ _ hq => ?_)
      obtain ⟨rfl, Y96⟩ := hq
      show wp Δ (d + 8) muX3_whole 51 [(3, .int num95), (0, .ref E.rd), (1, .int lo), (2, .int hi)] [] h96 _
      obtain ⟨w96, now96, e96, ft96, fp96, Q96, X96⟩ := id Y96
      obtain ⟨hrd96, htk96, T96, ⟨he96, hQe96, hen96, hkk96⟩, hst96, hro96, hsub96, hcr96, hct96, hcp96, hcw96⟩ := id X96
      obtain ⟨num96, z96, le96, hnow96, S96, h3_96, h2_96⟩ := id T96
      obtain ⟨b96, sh96, sz96, B96⟩ := id S96
      refine g_iload_n dX3_whole_51 0 rfl ?_
      refine g_iret rfl dX3_whole_52 ?_
      exact ⟨_, rfl, fun hz => absurd hz (by rw [← nu_4 hT, pa_wg]; exact f_wgN), by rw [← nu_4 hT]; exact Y96⟩
  ·
    have hs3 := c_1
    have hT : P.f = 0 → ¬ P.k = 3 := fun hf z => by have q := st_q hst0 hf; rw [← q] at z; exact hs3 (by rw [z]; decide)
    refine g_aload_n dX3_whole_11 0 rfl ?_
    refine g_iconst (x := 1) dX3_whole_12 rfl ?_
    refine g_callV (t_X3_wrong _ EK (⟨_, _, _, _, _, _, X0⟩) 1 (by decide)) (lw_V q678 q680 qs4 q129 q681) okX3_wrong (hrd0) rfl rfl rfl rfl (Nat.le_of_ble_eq_true rfl) dX3_whole_13 (fun v1 h97 _ _ hq => ?_)
    obtain ⟨rfl, Y97⟩ := hq
    show wp Δ (d + 8) muX3_whole 16 [(0, .ref E.rd), (1, .int lo), (2, .int hi)] [] h97 _
    obtain ⟨w97, now97, e97, ft97, fp97, Q97, X97⟩ := id Y97
    obtain ⟨hrd97, htk97, T97, ⟨he97, hQe97, hen97, hkk97⟩, hst97, hro97, hsub97, hcr97, hct97, hcp97, hcw97⟩ := id X97
    obtain ⟨num97, z97, le97, hnow97, S97, h3_97, h2_97⟩ := id T97
    obtain ⟨b97, sh97, sz97, B97⟩ := id S97
    refine g_goto (tgt := 39) dX3_whole_16 (by decide) ?_
    refine g_aload_n dX3_whole_39 0 rfl ?_
    refine gh_get (x := .ref now97) f_2_2 q580 (hrd97) dX3_whole_40 rfl ?_
    refine gh_get (x := .int num97) f_5_2 q376 (hnow97) dX3_whole_43 rfl ?_
    refine g_istore_n (lv' := [(3, .int num97), (0, .ref E.rd), (1, .int lo), (2, .int hi)]) dX3_whole_46 (by decide) rfl ?_
    refine g_aload_n dX3_whole_47 1 rfl ?_
    refine g_callV (t_X3_on _ EK (⟨_, _, _, _, _, _, X97⟩)) (lw_V q686 q688 qs6 q129 q689) okX3_on (hrd97) rfl rfl rfl rfl (Nat.le_of_ble_eq_true rfl) dX3_whole_48 (fun v1 h98 _ _ hq => ?_)
    obtain ⟨rfl, Y98⟩ := hq
    show wp Δ (d + 8) muX3_whole 51 [(3, .int num97), (0, .ref E.rd), (1, .int lo), (2, .int hi)] [] h98 _
    obtain ⟨w98, now98, e98, ft98, fp98, Q98, X98⟩ := id Y98
    obtain ⟨hrd98, htk98, T98, ⟨he98, hQe98, hen98, hkk98⟩, hst98, hro98, hsub98, hcr98, hct98, hcp98, hcw98⟩ := id X98
    obtain ⟨num98, z98, le98, hnow98, S98, h3_98, h2_98⟩ := id T98
    obtain ⟨b98, sh98, sz98, B98⟩ := id S98
    refine g_iload_n dX3_whole_51 0 rfl ?_
    refine g_iret rfl dX3_whole_52 ?_
    exact ⟨_, rfl, fun hz => absurd hz (by rw [← nu_1 hT, pa_wg]; exact f_wgN), by rw [← nu_1 hT]; exact Y98⟩
set_option maxRecDepth 100000 in
theorem t_X3_part {Δ : Cx} {h : Hp} (d : Nat) {E : Ev} {L : Nat} {c0 : Nat → Option Cel} {P : Pk} (EK : EOK Δ E) (X : PX Δ E L h c0 P) (i : Nat) (hi : i < 25) (lo hi2 : Int32) : mt Δ (d + 9) muX3_part [.ref E.rd, .ref (cT Δ i), .int lo, .int hi2] h (fun v h' => ∃ r : Int32, v = some (.int r) ∧ ((afP E.t E.n i lo hi2 P).f = 0 → r = afV E.t E.n i lo hi2 P) ∧ PX Δ E L h' c0 (afP E.t E.n i lo hi2 P)) := by
  obtain ⟨w0, now0, e0, ft0, fp0, Q0, X0⟩ := id X
  obtain ⟨hrd0, htk0, T0, ⟨he0, hQe0, hen0, hkk0⟩, hst0, hro0, hsub0, hcr0, hct0, hcp0, hcw0⟩ := id X0
  obtain ⟨num0, z0, le0, hnow0, S0, h3_0, h2_0⟩ := id T0
  obtain ⟨b0, sh0, sz0, B0⟩ := id S0
  refine mt_of (lv0 := [(0, .ref E.rd), (1, .ref (cT Δ i)), (2, .int lo), (3, .int hi2)]) rfl rfl (Nat.le_of_ble_eq_true rfl) rfl ?_
  refine g_aload_n dX3_part_0 0 rfl ?_
  refine g_aload_n dX3_part_1 1 rfl ?_
  refine g_callV (t_X3_needs _ EK (⟨_, _, _, _, _, _, X0⟩) i hi) (lw_V q695 q697 qs8 q129 q698) okX3_needs (hrd0) rfl rfl rfl rfl (Nat.le_of_ble_eq_true rfl) dX3_part_2 (fun v1 h99 _ _ hq => ?_)
  obtain ⟨rfl, Y99⟩ := hq
  show wp Δ (d + 9) muX3_part 5 [(0, .ref E.rd), (1, .ref (cT Δ i)), (2, .int lo), (3, .int hi2)] [] h99 _
  obtain ⟨w99, now99, e99, ft99, fp99, Q99, X99⟩ := id Y99
  obtain ⟨hrd99, htk99, T99, ⟨he99, hQe99, hen99, hkk99⟩, hst99, hro99, hsub99, hcr99, hct99, hcp99, hcw99⟩ := id X99
  obtain ⟨num99, z99, le99, hnow99, S99, h3_99, h2_99⟩ := id T99
  obtain ⟨b99, sh99, sz99, B99⟩ := id S99
  refine g_aload_n dX3_part_5 0 rfl ?_
  refine g_iload_n dX3_part_6 2 rfl ?_
  refine g_iload_n dX3_part_7 3 rfl ?_
  refine g_callV (t_X3_whole _ EK (⟨_, _, _, _, _, _, X99⟩) lo hi2) (lw_V q704 q706 qs9 q129 q707) okX3_whole (hrd99) rfl rfl rfl rfl (Nat.le_of_ble_eq_true rfl) dX3_part_8 (fun v1 h100 _ _ hq => ?_)
  obtain ⟨r100, rfl, hr100, Y100⟩ := hq
  show wp Δ (d + 9) muX3_part 11 [(0, .ref E.rd), (1, .ref (cT Δ i)), (2, .int lo), (3, .int hi2)] [.int r100] h100 _
  obtain ⟨w100, now100, e100, ft100, fp100, Q100, X100⟩ := id Y100
  obtain ⟨hrd100, htk100, T100, ⟨he100, hQe100, hen100, hkk100⟩, hst100, hro100, hsub100, hcr100, hct100, hcp100, hcw100⟩ := id X100
  obtain ⟨num100, z100, le100, hnow100, S100, h3_100, h2_100⟩ := id T100
  obtain ⟨b100, sh100, sz100, B100⟩ := id S100
  refine g_iret rfl dX3_part_11 ?_
  exact ⟨_, rfl, hr100, Y100⟩
set_option maxRecDepth 100000 in
theorem t_X3_side {Δ : Cx} {h : Hp} (d : Nat) {E : Ev} {L : Nat} {c0 : Nat → Option Cel} {P : Pk} (EK : EOK Δ E) (X : PX Δ E L h c0 P)  : mt Δ (d + 8) muX3_side [.ref E.rd] h (fun v h' => ∃ r : Int32, v = some (.int r) ∧ ((siP E.t E.n P).f = 0 → r = siV P) ∧ PX Δ E L h' c0 (siP E.t E.n P)) := by
  obtain ⟨w0, now0, e0, ft0, fp0, Q0, X0⟩ := id X
  obtain ⟨hrd0, htk0, T0, ⟨he0, hQe0, hen0, hkk0⟩, hst0, hro0, hsub0, hcr0, hct0, hcp0, hcw0⟩ := id X0
  obtain ⟨num0, z0, le0, hnow0, S0, h3_0, h2_0⟩ := id T0
  obtain ⟨b0, sh0, sz0, B0⟩ := id S0
  refine mt_of (lv0 := [(0, .ref E.rd)]) rfl rfl (Nat.le_of_ble_eq_true rfl) rfl ?_
  refine g_aload_n dX3_side_0 0 rfl ?_
  refine gh_get (x := .ref now0) f_2_2 q580 (hrd0) dX3_side_1 rfl ?_
  refine g_ldcS (tx := "left") (i := 8) (by decide +kernel) dX3_side_4 ?_
  refine g_callV (t_X6_is _ hnow0 S0 EK.2.2.2.2.1 (px_n0 EK (⟨_, _, _, _, _, _, X0⟩)) 8 (by decide)) (lw_V q699 q700 q701 q132 q702) okX6_is hnow0 rfl rfl rfl rfl (Nat.le_of_ble_eq_true rfl) dX3_side_6 (fun v1 h1 _ _ hq => ?_)
  obtain ⟨rfl, hh⟩ := hq
  rw [hh]
  show wp Δ (d + 8) muX3_side 9 [(0, .ref E.rd)] [.int (bI (decide (srt Q0.k = 2) && eqW le0 z0 (txF 8) (txN 8)))] h _
  have hI8 : P.f = 0 → (decide (srt Q0.k = 2) && eqW le0 z0 (txF 8) (txN 8)) = isT 8 P := fun hf => by have q := st_q hst0 hf; rw [← q] at hf ⊢; exact is_T hf hkk0 B0.2.2.1 (tx8 8 (by decide)) h2_0
  refine gb_eq (tgt := 16) dX3_side_9 (by decide) (fun c_1 => ?_) (fun c_1 => ?_)
  ·
    have hb1 := c_1
    refine g_aload_n dX3_side_16 0 rfl ?_
    refine gh_get (x := .ref now0) f_2_2 q580 (hrd0) dX3_side_17 rfl ?_
    refine g_ldcS (tx := "right") (i := 15) (by decide +kernel) dX3_side_20 ?_
    refine g_callV (t_X6_is _ hnow0 S0 EK.2.2.2.2.1 (px_n0 EK (⟨_, _, _, _, _, _, X0⟩)) 15 (by decide)) (lw_V q699 q700 q701 q132 q702) okX6_is hnow0 rfl rfl rfl rfl (Nat.le_of_ble_eq_true rfl) dX3_side_22 (fun v1 h1 _ _ hq => ?_)
    obtain ⟨rfl, hh⟩ := hq
    rw [hh]
    show wp Δ (d + 8) muX3_side 25 [(0, .ref E.rd)] [.int (bI (decide (srt Q0.k = 2) && eqW le0 z0 (txF 15) (txN 15)))] h _
    have hI15 : P.f = 0 → (decide (srt Q0.k = 2) && eqW le0 z0 (txF 15) (txN 15)) = isT 15 P := fun hf => by have q := st_q hst0 hf; rw [← q] at hf ⊢; exact is_T hf hkk0 B0.2.2.1 (tx8 15 (by decide)) h2_0
    refine gb_eq (tgt := 32) dX3_side_25 (by decide) (fun c_2 => ?_) (fun c_2 => ?_)
    ·
      have hb2 := c_2
      refine g_iconst (x := -1) dX3_side_32 rfl ?_
      refine g_istore_n (lv' := [(1, .int (-1)), (0, .ref E.rd)]) dX3_side_33 (by decide) rfl ?_
      refine g_iload_n dX3_side_34 0 rfl ?_
      refine g_iconst (x := -1) dX3_side_35 rfl ?_
      refine g_icmp_ne (tgt := 44) dX3_side_36 (by decide) (fun c_3 => ?_) (fun c_3 => ?_)
      · exact absurd (by decide) c_3
      ·
        refine g_aload_n dX3_side_39 1 rfl ?_
        refine g_iconst (x := 1) dX3_side_40 rfl ?_
        refine g_callV (t_X3_wrong _ EK (⟨_, _, _, _, _, _, X0⟩) 1 (by decide)) (lw_V q678 q680 qs4 q129 q681) okX3_wrong (hrd0) rfl rfl rfl rfl (Nat.le_of_ble_eq_true rfl) dX3_side_41 (fun v1 h101 _ _ hq => ?_)
        obtain ⟨rfl, Y101⟩ := hq
        show wp Δ (d + 8) muX3_side 44 [(1, .int (-1)), (0, .ref E.rd)] [] h101 _
        obtain ⟨w101, now101, e101, ft101, fp101, Q101, X101⟩ := id Y101
        obtain ⟨hrd101, htk101, T101, ⟨he101, hQe101, hen101, hkk101⟩, hst101, hro101, hsub101, hcr101, hct101, hcp101, hcw101⟩ := id X101
        obtain ⟨num101, z101, le101, hnow101, S101, h3_101, h2_101⟩ := id T101
        obtain ⟨b101, sh101, sz101, B101⟩ := id S101
        refine g_aload_n dX3_side_44 1 rfl ?_
        refine g_callV (t_X3_on _ EK (⟨_, _, _, _, _, _, X101⟩)) (lw_V q686 q688 qs6 q129 q689) okX3_on (hrd101) rfl rfl rfl rfl (Nat.le_of_ble_eq_true rfl) dX3_side_45 (fun v1 h102 _ _ hq => ?_)
        obtain ⟨rfl, Y102⟩ := hq
        show wp Δ (d + 8) muX3_side 48 [(1, .int (-1)), (0, .ref E.rd)] [] h102 _
        obtain ⟨w102, now102, e102, ft102, fp102, Q102, X102⟩ := id Y102
        obtain ⟨hrd102, htk102, T102, ⟨he102, hQe102, hen102, hkk102⟩, hst102, hro102, hsub102, hcr102, hct102, hcp102, hcw102⟩ := id X102
        obtain ⟨num102, z102, le102, hnow102, S102, h3_102, h2_102⟩ := id T102
        obtain ⟨b102, sh102, sz102, B102⟩ := id S102
        refine g_iload_n dX3_side_48 0 rfl ?_
        refine g_iret rfl dX3_side_49 ?_
        have en := si_n (t := E.t) (n := E.n) (P := P) (fun hf => (hI8 hf).symm.trans hb1) (fun hf => (hI15 hf).symm.trans hb2)
        exact ⟨_, rfl, fun hz => absurd hz (by rw [← en, pa_wg]; exact f_wgN), by rw [← en]; exact Y102⟩
    ·
      have hb2 := c_2
      refine g_iconst (x := 1) dX3_side_28 rfl ?_
      refine g_goto (tgt := 33) dX3_side_29 (by decide) ?_
      refine g_istore_n (lv' := [(1, .int 1), (0, .ref E.rd)]) dX3_side_33 (by decide) rfl ?_
      refine g_iload_n dX3_side_34 0 rfl ?_
      refine g_iconst (x := -1) dX3_side_35 rfl ?_
      refine g_icmp_ne (tgt := 44) dX3_side_36 (by decide) (fun c_4 => ?_) (fun c_4 => ?_)
      ·
        refine g_aload_n dX3_side_44 1 rfl ?_
        refine g_callV (t_X3_on _ EK (⟨_, _, _, _, _, _, X0⟩)) (lw_V q686 q688 qs6 q129 q689) okX3_on (hrd0) rfl rfl rfl rfl (Nat.le_of_ble_eq_true rfl) dX3_side_45 (fun v1 h103 _ _ hq => ?_)
        obtain ⟨rfl, Y103⟩ := hq
        show wp Δ (d + 8) muX3_side 48 [(1, .int 1), (0, .ref E.rd)] [] h103 _
        obtain ⟨w103, now103, e103, ft103, fp103, Q103, X103⟩ := id Y103
        obtain ⟨hrd103, htk103, T103, ⟨he103, hQe103, hen103, hkk103⟩, hst103, hro103, hsub103, hcr103, hct103, hcp103, hcw103⟩ := id X103
        obtain ⟨num103, z103, le103, hnow103, S103, h3_103, h2_103⟩ := id T103
        obtain ⟨b103, sh103, sz103, B103⟩ := id S103
        refine g_iload_n dX3_side_48 0 rfl ?_
        refine g_iret rfl dX3_side_49 ?_
        exact ⟨_, rfl, fun hz => by rw [siV_r hz (fun hf => (hI8 hf).symm.trans hb1)], by rw [← si_r (fun hf => (hI8 hf).symm.trans hb1) (fun hf => (hI15 hf).symm.trans hb2)]; exact Y103⟩
      · exact absurd c_4 (by decide)
  ·
    have hb1 := c_1
    refine g_iconst (x := 0) dX3_side_12 rfl ?_
    refine g_goto (tgt := 33) dX3_side_13 (by decide) ?_
    refine g_istore_n (lv' := [(1, .int 0), (0, .ref E.rd)]) dX3_side_33 (by decide) rfl ?_
    refine g_iload_n dX3_side_34 0 rfl ?_
    refine g_iconst (x := -1) dX3_side_35 rfl ?_
    refine g_icmp_ne (tgt := 44) dX3_side_36 (by decide) (fun c_5 => ?_) (fun c_5 => ?_)
    ·
      refine g_aload_n dX3_side_44 1 rfl ?_
      refine g_callV (t_X3_on _ EK (⟨_, _, _, _, _, _, X0⟩)) (lw_V q686 q688 qs6 q129 q689) okX3_on (hrd0) rfl rfl rfl rfl (Nat.le_of_ble_eq_true rfl) dX3_side_45 (fun v1 h104 _ _ hq => ?_)
      obtain ⟨rfl, Y104⟩ := hq
      show wp Δ (d + 8) muX3_side 48 [(1, .int 0), (0, .ref E.rd)] [] h104 _
      obtain ⟨w104, now104, e104, ft104, fp104, Q104, X104⟩ := id Y104
      obtain ⟨hrd104, htk104, T104, ⟨he104, hQe104, hen104, hkk104⟩, hst104, hro104, hsub104, hcr104, hct104, hcp104, hcw104⟩ := id X104
      obtain ⟨num104, z104, le104, hnow104, S104, h3_104, h2_104⟩ := id T104
      obtain ⟨b104, sh104, sz104, B104⟩ := id S104
      refine g_iload_n dX3_side_48 0 rfl ?_
      refine g_iret rfl dX3_side_49 ?_
      exact ⟨_, rfl, fun hz => by rw [siV_l hz (fun hf => (hI8 hf).symm.trans hb1)], by rw [← si_l (fun hf => (hI8 hf).symm.trans hb1)]; exact Y104⟩
    · exact absurd c_5 (by decide)
set_option maxRecDepth 100000 in
theorem t_X3_begins {Δ : Cx} {h : Hp} (d : Nat) {E : Ev} {L : Nat} {c0 : Nat → Option Cel} {P : Pk} (EK : EOK Δ E) (X : PX Δ E L h c0 P) {rgl : Nat → Value} (hrg : c0 E.rg = some (4, 0, rgl)) (hrw : rgl 0 = .int (P.fr 0)) (many most : Int32) : mt Δ (d + 8) muX3_begins [.ref E.rd, .int many, .int most] h (fun v h' => v = none ∧ PX Δ E L h' c0 (paP E.t E.n (beC (decide (¬ many = most)) P))) := by
  obtain ⟨w0, now0, e0, ft0, fp0, Q0, X0⟩ := id X
  obtain ⟨hrd0, htk0, T0, ⟨he0, hQe0, hen0, hkk0⟩, hst0, hro0, hsub0, hcr0, hct0, hcp0, hcw0⟩ := id X0
  obtain ⟨num0, z0, le0, hnow0, S0, h3_0, h2_0⟩ := id T0
  obtain ⟨b0, sh0, sz0, B0⟩ := id S0
  refine mt_of (lv0 := [(0, .ref E.rd), (1, .int many), (2, .int most)]) rfl rfl (Nat.le_of_ble_eq_true rfl) rfl ?_
  refine g_iload_n dX3_begins_0 1 rfl ?_
  refine g_iload_n dX3_begins_1 2 rfl ?_
  refine g_icmp_ne (tgt := 10) dX3_begins_2 (by decide) (fun c_1 => ?_) (fun c_1 => ?_)
  ·
    have hc1 : decide (¬ many = most) = true := decide_eq_true c_1
    refine g_aload_n dX3_begins_10 0 rfl ?_
    refine gh_get (x := .ref E.rg) f_2_1 q579 (hrd0) dX3_begins_11 rfl ?_
    refine gh_get (x := .int (P.fr 0)) f_4_0 q296 (hsub0 _ _ (hrg)) dX3_begins_14 hrw ?_
    refine g_if_ne (tgt := 26) dX3_begins_17 (by decide) (fun c_2 => ?_) (fun c_2 => ?_)
    ·
      have hw0 : ¬ P.fr 0 = 0 := c_2
      refine g_aload_n dX3_begins_26 0 rfl ?_
      refine g_callV (t_X3_on _ EK (⟨_, _, _, _, _, _, X0⟩)) (lw_V q686 q688 qs6 q129 q689) okX3_on (hrd0) rfl rfl rfl rfl (Nat.le_of_ble_eq_true rfl) dX3_begins_27 (fun v1 h105 _ _ hq => ?_)
      obtain ⟨rfl, Y105⟩ := hq
      show wp Δ (d + 8) muX3_begins 30 [(0, .ref E.rd), (1, .int many), (2, .int most)] [] h105 _
      obtain ⟨w105, now105, e105, ft105, fp105, Q105, X105⟩ := id Y105
      obtain ⟨hrd105, htk105, T105, ⟨he105, hQe105, hen105, hkk105⟩, hst105, hro105, hsub105, hcr105, hct105, hcp105, hcw105⟩ := id X105
      obtain ⟨num105, z105, le105, hnow105, S105, h3_105, h2_105⟩ := id T105
      obtain ⟨b105, sh105, sz105, B105⟩ := id S105
      refine g_vret rfl dX3_begins_30 ?_
      exact ⟨rfl, by rw [bec_1 hc1 hw0]; exact Y105⟩
    ·
      have hw0 : P.fr 0 = 0 := c_2
      refine g_aload_n dX3_begins_20 0 rfl ?_
      refine g_bipush (x := 6) dX3_begins_21 rfl ?_
      refine g_callV (t_X3_wrong _ EK (⟨_, _, _, _, _, _, X0⟩) 6 (by decide)) (lw_V q678 q680 qs4 q129 q681) okX3_wrong (hrd0) rfl rfl rfl rfl (Nat.le_of_ble_eq_true rfl) dX3_begins_23 (fun v1 h106 _ _ hq => ?_)
      obtain ⟨rfl, Y106⟩ := hq
      show wp Δ (d + 8) muX3_begins 26 [(0, .ref E.rd), (1, .int many), (2, .int most)] [] h106 _
      obtain ⟨w106, now106, e106, ft106, fp106, Q106, X106⟩ := id Y106
      obtain ⟨hrd106, htk106, T106, ⟨he106, hQe106, hen106, hkk106⟩, hst106, hro106, hsub106, hcr106, hct106, hcp106, hcw106⟩ := id X106
      obtain ⟨num106, z106, le106, hnow106, S106, h3_106, h2_106⟩ := id T106
      obtain ⟨b106, sh106, sz106, B106⟩ := id S106
      refine g_aload_n dX3_begins_26 0 rfl ?_
      refine g_callV (t_X3_on _ EK (⟨_, _, _, _, _, _, X106⟩)) (lw_V q686 q688 qs6 q129 q689) okX3_on (hrd106) rfl rfl rfl rfl (Nat.le_of_ble_eq_true rfl) dX3_begins_27 (fun v1 h107 _ _ hq => ?_)
      obtain ⟨rfl, Y107⟩ := hq
      show wp Δ (d + 8) muX3_begins 30 [(0, .ref E.rd), (1, .int many), (2, .int most)] [] h107 _
      obtain ⟨w107, now107, e107, ft107, fp107, Q107, X107⟩ := id Y107
      obtain ⟨hrd107, htk107, T107, ⟨he107, hQe107, hen107, hkk107⟩, hst107, hro107, hsub107, hcr107, hct107, hcp107, hcw107⟩ := id X107
      obtain ⟨num107, z107, le107, hnow107, S107, h3_107, h2_107⟩ := id T107
      obtain ⟨b107, sh107, sz107, B107⟩ := id S107
      refine g_vret rfl dX3_begins_30 ?_
      exact ⟨rfl, by rw [bec_2 hc1 hw0]; exact Y107⟩
  ·
    have hc1 : decide (¬ many = most) = false := decide_eq_false (fun q => q c_1)
    refine g_aload_n dX3_begins_5 0 rfl ?_
    refine g_iconst (x := 5) dX3_begins_6 rfl ?_
    refine g_callV (t_X3_wrong _ EK (⟨_, _, _, _, _, _, X0⟩) 5 (by decide)) (lw_V q678 q680 qs4 q129 q681) okX3_wrong (hrd0) rfl rfl rfl rfl (Nat.le_of_ble_eq_true rfl) dX3_begins_7 (fun v1 h108 _ _ hq => ?_)
    obtain ⟨rfl, Y108⟩ := hq
    show wp Δ (d + 8) muX3_begins 10 [(0, .ref E.rd), (1, .int many), (2, .int most)] [] h108 _
    obtain ⟨w108, now108, e108, ft108, fp108, Q108, X108⟩ := id Y108
    obtain ⟨hrd108, htk108, T108, ⟨he108, hQe108, hen108, hkk108⟩, hst108, hro108, hsub108, hcr108, hct108, hcp108, hcw108⟩ := id X108
    obtain ⟨num108, z108, le108, hnow108, S108, h3_108, h2_108⟩ := id T108
    obtain ⟨b108, sh108, sz108, B108⟩ := id S108
    refine g_aload_n dX3_begins_10 0 rfl ?_
    refine gh_get (x := .ref E.rg) f_2_1 q579 (hrd108) dX3_begins_11 rfl ?_
    refine gh_get (x := .int (P.fr 0)) f_4_0 q296 (hsub108 _ _ (hrg)) dX3_begins_14 hrw ?_
    refine g_if_ne (tgt := 26) dX3_begins_17 (by decide) (fun c_3 => ?_) (fun c_3 => ?_)
    ·
      have hw0 : ¬ P.fr 0 = 0 := c_3
      refine g_aload_n dX3_begins_26 0 rfl ?_
      refine g_callV (t_X3_on _ EK (⟨_, _, _, _, _, _, X108⟩)) (lw_V q686 q688 qs6 q129 q689) okX3_on (hrd108) rfl rfl rfl rfl (Nat.le_of_ble_eq_true rfl) dX3_begins_27 (fun v1 h109 _ _ hq => ?_)
      obtain ⟨rfl, Y109⟩ := hq
      show wp Δ (d + 8) muX3_begins 30 [(0, .ref E.rd), (1, .int many), (2, .int most)] [] h109 _
      obtain ⟨w109, now109, e109, ft109, fp109, Q109, X109⟩ := id Y109
      obtain ⟨hrd109, htk109, T109, ⟨he109, hQe109, hen109, hkk109⟩, hst109, hro109, hsub109, hcr109, hct109, hcp109, hcw109⟩ := id X109
      obtain ⟨num109, z109, le109, hnow109, S109, h3_109, h2_109⟩ := id T109
      obtain ⟨b109, sh109, sz109, B109⟩ := id S109
      refine g_vret rfl dX3_begins_30 ?_
      exact ⟨rfl, by rw [bec_3 hc1 hw0]; exact Y109⟩
    ·
      have hw0 : P.fr 0 = 0 := c_3
      refine g_aload_n dX3_begins_20 0 rfl ?_
      refine g_bipush (x := 6) dX3_begins_21 rfl ?_
      refine g_callV (t_X3_wrong _ EK (⟨_, _, _, _, _, _, X108⟩) 6 (by decide)) (lw_V q678 q680 qs4 q129 q681) okX3_wrong (hrd108) rfl rfl rfl rfl (Nat.le_of_ble_eq_true rfl) dX3_begins_23 (fun v1 h110 _ _ hq => ?_)
      obtain ⟨rfl, Y110⟩ := hq
      show wp Δ (d + 8) muX3_begins 26 [(0, .ref E.rd), (1, .int many), (2, .int most)] [] h110 _
      obtain ⟨w110, now110, e110, ft110, fp110, Q110, X110⟩ := id Y110
      obtain ⟨hrd110, htk110, T110, ⟨he110, hQe110, hen110, hkk110⟩, hst110, hro110, hsub110, hcr110, hct110, hcp110, hcw110⟩ := id X110
      obtain ⟨num110, z110, le110, hnow110, S110, h3_110, h2_110⟩ := id T110
      obtain ⟨b110, sh110, sz110, B110⟩ := id S110
      refine g_aload_n dX3_begins_26 0 rfl ?_
      refine g_callV (t_X3_on _ EK (⟨_, _, _, _, _, _, X110⟩)) (lw_V q686 q688 qs6 q129 q689) okX3_on (hrd110) rfl rfl rfl rfl (Nat.le_of_ble_eq_true rfl) dX3_begins_27 (fun v1 h111 _ _ hq => ?_)
      obtain ⟨rfl, Y111⟩ := hq
      show wp Δ (d + 8) muX3_begins 30 [(0, .ref E.rd), (1, .int many), (2, .int most)] [] h111 _
      obtain ⟨w111, now111, e111, ft111, fp111, Q111, X111⟩ := id Y111
      obtain ⟨hrd111, htk111, T111, ⟨he111, hQe111, hen111, hkk111⟩, hst111, hro111, hsub111, hcr111, hct111, hcp111, hcw111⟩ := id X111
      obtain ⟨num111, z111, le111, hnow111, S111, h3_111, h2_111⟩ := id T111
      obtain ⟨b111, sh111, sz111, B111⟩ := id S111
      refine g_vret rfl dX3_begins_30 ?_
      exact ⟨rfl, by rw [bec_4 hc1 hw0]; exact Y111⟩
set_option maxRecDepth 100000 in
theorem t_X3_eatsSemicolon {Δ : Cx} {h : Hp} (d : Nat) {E : Ev} {L : Nat} {c0 : Nat → Option Cel} {P : Pk} (EK : EOK Δ E) (X : PX Δ E L h c0 P)  : mt Δ (d + 8) muX3_eatsSemicolon [.ref E.rd] h (fun v h' => v = some (.int (bI (decide (P.f = 0 ∧ P.k = 59)))) ∧ PX Δ E L h' c0 (seP E.t E.n P)) := by
  obtain ⟨w0, now0, e0, ft0, fp0, Q0, X0⟩ := id X
  obtain ⟨hrd0, htk0, T0, ⟨he0, hQe0, hen0, hkk0⟩, hst0, hro0, hsub0, hcr0, hct0, hcp0, hcw0⟩ := id X0
  obtain ⟨num0, z0, le0, hnow0, S0, h3_0, h2_0⟩ := id T0
  obtain ⟨b0, sh0, sz0, B0⟩ := id S0
  refine mt_of (lv0 := [(0, .ref E.rd)]) rfl rfl (Nat.le_of_ble_eq_true rfl) rfl ?_
  refine g_aload_n dX3_eatsSemicolon_0 0 rfl ?_
  refine g_callV (t_X3_isOver _ (⟨_, _, _, _, _, _, X0⟩)) (lw_V q682 q684 qs5 q129 q685) okX3_isOver (hrd0) rfl rfl rfl rfl (Nat.le_of_ble_eq_true rfl) dX3_eatsSemicolon_1 (fun v1 h1 _ _ hq => ?_)
  obtain ⟨rfl, hh⟩ := hq
  rw [hh]
  show wp Δ (d + 8) muX3_eatsSemicolon 4 [(0, .ref E.rd)] [.int (bI (decide (¬ P.f = 0)))] h _
  refine gb_ne (tgt := 18) dX3_eatsSemicolon_4 (by decide) (fun c_1 => ?_) (fun c_1 => ?_)
  ·
    have hov := ov_t c_1
    refine g_iconst (x := 0) dX3_eatsSemicolon_18 rfl ?_
    refine g_zret rfl (by first | exact Or.inl rfl | exact Or.inr rfl | exact bI_01 _) dX3_eatsSemicolon_19 ?_
    exact ⟨by rw [bI_f (decide_eq_false (fun q => hov q.1))], by unfold seP; rw [if_neg (fun q => hov q.1)]; exact X⟩
  ·
    have hov := ov_f c_1
    refine g_aload_n dX3_eatsSemicolon_7 0 rfl ?_
    refine gh_get (x := .ref now0) f_2_2 q580 (hrd0) dX3_eatsSemicolon_8 rfl ?_
    refine gh_get (x := .int (srt Q0.k)) f_5_0 q372 (hnow0) dX3_eatsSemicolon_11 rfl ?_
    refine g_iconst (x := 4) dX3_eatsSemicolon_14 rfl ?_
    refine g_icmp_eq (tgt := 20) dX3_eatsSemicolon_15 (by decide) (fun c_2 => ?_) (fun c_2 => ?_)
    ·
      have hQP := st_q hst0 hov
      have hk4 : P.k = 59 := by rw [← hQP]; exact (srt_i hkk0).2.2.2 c_2
      refine g_aload_n dX3_eatsSemicolon_20 0 rfl ?_
      refine g_callV (t_X3_on _ EK (⟨_, _, _, _, _, _, X0⟩)) (lw_V q686 q688 qs6 q129 q689) okX3_on (hrd0) rfl rfl rfl rfl (Nat.le_of_ble_eq_true rfl) dX3_eatsSemicolon_21 (fun v1 h112 _ _ hq => ?_)
      obtain ⟨rfl, Y112⟩ := hq
      show wp Δ (d + 8) muX3_eatsSemicolon 24 [(0, .ref E.rd)] [] h112 _
      obtain ⟨w112, now112, e112, ft112, fp112, Q112, X112⟩ := id Y112
      obtain ⟨hrd112, htk112, T112, ⟨he112, hQe112, hen112, hkk112⟩, hst112, hro112, hsub112, hcr112, hct112, hcp112, hcw112⟩ := id X112
      obtain ⟨num112, z112, le112, hnow112, S112, h3_112, h2_112⟩ := id T112
      obtain ⟨b112, sh112, sz112, B112⟩ := id S112
      refine g_iconst (x := 1) dX3_eatsSemicolon_24 rfl ?_
      refine g_zret rfl (by first | exact Or.inl rfl | exact Or.inr rfl | exact bI_01 _) dX3_eatsSemicolon_25 ?_
      exact ⟨by rw [bI_t (decide_eq_true ⟨hov, hk4⟩)], by unfold seP; rw [if_pos ⟨hov, hk4⟩, ← pa_y hov]; exact Y112⟩
    ·
      have hQP := st_q hst0 hov
      have hk4 : ¬ P.k = 59 := fun q => c_2 (by rw [hQP, q]; decide)
      refine g_iconst (x := 0) dX3_eatsSemicolon_18 rfl ?_
      refine g_zret rfl (by first | exact Or.inl rfl | exact Or.inr rfl | exact bI_01 _) dX3_eatsSemicolon_19 ?_
      exact ⟨by rw [bI_f (decide_eq_false (fun q => hk4 q.2))], by unfold seP; rw [if_neg (fun q => hk4 q.2)]; exact X⟩
set_option maxRecDepth 100000 in
theorem t_X3_unlike {Δ : Cx} {h : Hp} (d : Nat) {E : Ev} {L : Nat} {c0 : Nat → Option Cel} {P : Pk} (EK : EOK Δ E) (X : PX Δ E L h c0 P) (one two : Int32) : mt Δ (d + 8) muX3_unlike [.ref E.rd, .int one, .int two] h (fun v h' => v = some (.int two) ∧ PX Δ E L h' c0 (paP E.t E.n (unP (decide (one = two)) P))) := by
  obtain ⟨w0, now0, e0, ft0, fp0, Q0, X0⟩ := id X
  obtain ⟨hrd0, htk0, T0, ⟨he0, hQe0, hen0, hkk0⟩, hst0, hro0, hsub0, hcr0, hct0, hcp0, hcw0⟩ := id X0
  obtain ⟨num0, z0, le0, hnow0, S0, h3_0, h2_0⟩ := id T0
  obtain ⟨b0, sh0, sz0, B0⟩ := id S0
  refine mt_of (lv0 := [(0, .ref E.rd), (1, .int one), (2, .int two)]) rfl rfl (Nat.le_of_ble_eq_true rfl) rfl ?_
  refine g_aload_n dX3_unlike_0 0 rfl ?_
  refine g_callV (t_X3_isOver _ (⟨_, _, _, _, _, _, X0⟩)) (lw_V q682 q684 qs5 q129 q685) okX3_isOver (hrd0) rfl rfl rfl rfl (Nat.le_of_ble_eq_true rfl) dX3_unlike_1 (fun v1 h1 _ _ hq => ?_)
  obtain ⟨rfl, hh⟩ := hq
  rw [hh]
  show wp Δ (d + 8) muX3_unlike 4 [(0, .ref E.rd), (1, .int one), (2, .int two)] [.int (bI (decide (¬ P.f = 0)))] h _
  refine gb_ne (tgt := 17) dX3_unlike_4 (by decide) (fun c_1 => ?_) (fun c_1 => ?_)
  ·
    have hov := ov_t c_1
    refine g_aload_n dX3_unlike_17 0 rfl ?_
    refine g_callV (t_X3_on _ EK (⟨_, _, _, _, _, _, X0⟩)) (lw_V q686 q688 qs6 q129 q689) okX3_on (hrd0) rfl rfl rfl rfl (Nat.le_of_ble_eq_true rfl) dX3_unlike_18 (fun v1 h113 _ _ hq => ?_)
    obtain ⟨rfl, Y113⟩ := hq
    show wp Δ (d + 8) muX3_unlike 21 [(0, .ref E.rd), (1, .int one), (2, .int two)] [] h113 _
    obtain ⟨w113, now113, e113, ft113, fp113, Q113, X113⟩ := id Y113
    obtain ⟨hrd113, htk113, T113, ⟨he113, hQe113, hen113, hkk113⟩, hst113, hro113, hsub113, hcr113, hct113, hcp113, hcw113⟩ := id X113
    obtain ⟨num113, z113, le113, hnow113, S113, h3_113, h2_113⟩ := id T113
    obtain ⟨b113, sh113, sz113, B113⟩ := id S113
    refine g_iload_n dX3_unlike_21 2 rfl ?_
    refine g_iret rfl dX3_unlike_22 ?_
    exact ⟨rfl, by rw [un_n hov]; exact Y113⟩
  ·
    have hov := ov_f c_1
    refine g_iload_n dX3_unlike_7 1 rfl ?_
    refine g_iload_n dX3_unlike_8 2 rfl ?_
    refine g_icmp_ne (tgt := 17) dX3_unlike_9 (by decide) (fun c_2 => ?_) (fun c_2 => ?_)
    ·
      have hne := c_2
      refine g_aload_n dX3_unlike_17 0 rfl ?_
      refine g_callV (t_X3_on _ EK (⟨_, _, _, _, _, _, X0⟩)) (lw_V q686 q688 qs6 q129 q689) okX3_on (hrd0) rfl rfl rfl rfl (Nat.le_of_ble_eq_true rfl) dX3_unlike_18 (fun v1 h114 _ _ hq => ?_)
      obtain ⟨rfl, Y114⟩ := hq
      show wp Δ (d + 8) muX3_unlike 21 [(0, .ref E.rd), (1, .int one), (2, .int two)] [] h114 _
      obtain ⟨w114, now114, e114, ft114, fp114, Q114, X114⟩ := id Y114
      obtain ⟨hrd114, htk114, T114, ⟨he114, hQe114, hen114, hkk114⟩, hst114, hro114, hsub114, hcr114, hct114, hcp114, hcw114⟩ := id X114
      obtain ⟨num114, z114, le114, hnow114, S114, h3_114, h2_114⟩ := id T114
      obtain ⟨b114, sh114, sz114, B114⟩ := id S114
      refine g_iload_n dX3_unlike_21 2 rfl ?_
      refine g_iret rfl dX3_unlike_22 ?_
      exact ⟨rfl, by rw [un_f (decide_eq_false hne)]; exact Y114⟩
    ·
      have hne := c_2
      refine g_aload_n dX3_unlike_12 0 rfl ?_
      refine g_iconst (x := 3) dX3_unlike_13 rfl ?_
      refine g_callV (t_X3_wrong _ EK (⟨_, _, _, _, _, _, X0⟩) 3 (by decide)) (lw_V q678 q680 qs4 q129 q681) okX3_wrong (hrd0) rfl rfl rfl rfl (Nat.le_of_ble_eq_true rfl) dX3_unlike_14 (fun v1 h115 _ _ hq => ?_)
      obtain ⟨rfl, Y115⟩ := hq
      show wp Δ (d + 8) muX3_unlike 17 [(0, .ref E.rd), (1, .int one), (2, .int two)] [] h115 _
      obtain ⟨w115, now115, e115, ft115, fp115, Q115, X115⟩ := id Y115
      obtain ⟨hrd115, htk115, T115, ⟨he115, hQe115, hen115, hkk115⟩, hst115, hro115, hsub115, hcr115, hct115, hcp115, hcw115⟩ := id X115
      obtain ⟨num115, z115, le115, hnow115, S115, h3_115, h2_115⟩ := id T115
      obtain ⟨b115, sh115, sz115, B115⟩ := id S115
      refine g_aload_n dX3_unlike_17 0 rfl ?_
      refine g_callV (t_X3_on _ EK (⟨_, _, _, _, _, _, X115⟩)) (lw_V q686 q688 qs6 q129 q689) okX3_on (hrd115) rfl rfl rfl rfl (Nat.le_of_ble_eq_true rfl) dX3_unlike_18 (fun v1 h116 _ _ hq => ?_)
      obtain ⟨rfl, Y116⟩ := hq
      show wp Δ (d + 8) muX3_unlike 21 [(0, .ref E.rd), (1, .int one), (2, .int two)] [] h116 _
      obtain ⟨w116, now116, e116, ft116, fp116, Q116, X116⟩ := id Y116
      obtain ⟨hrd116, htk116, T116, ⟨he116, hQe116, hen116, hkk116⟩, hst116, hro116, hsub116, hcr116, hct116, hcp116, hcw116⟩ := id X116
      obtain ⟨num116, z116, le116, hnow116, S116, h3_116, h2_116⟩ := id T116
      obtain ⟨b116, sh116, sz116, B116⟩ := id S116
      refine g_iload_n dX3_unlike_21 2 rfl ?_
      refine g_iret rfl dX3_unlike_22 ?_
      exact ⟨rfl, by rw [un_t hov (decide_eq_true hne)]; exact Y116⟩
