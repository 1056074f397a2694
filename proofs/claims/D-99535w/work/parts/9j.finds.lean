theorem kp_rd {Δ : Cx} {h h2 : Hp} {a : Nat} {f : Nat → Value} {k s : Nat} (ha : ce Δ h a = some (2, 0, f)) (F : Fr Δ (fun b => b = a) k s h h2) : KP Δ h h2 := fun b x q n2 _ => F.2 b x q (fun z => n2 (by rw [z, ha] at q; rw [← Option.some.inj q]))
theorem kp_rt {Δ : Cx} {h h2 : Hp} {a t k s : Nat} {f g : Nat → Value} (ha : ce Δ h a = some (2, 0, f)) (ht : ce Δ h t = some (3, 0, g)) (F : Fr Δ (fun b => b = a ∨ b = t) k s h h2) : KP Δ h h2 := fun b x q n2 n3 => F.2 b x q (fun z => by
  rcases z with z | z
  · exact n2 (by rw [z, ha] at q; rw [← Option.some.inj q])
  · exact n3 (by rw [z, ht] at q; rw [← Option.some.inj q]))
set_option maxRecDepth 100000 in
theorem t_X3_wrongK {Δ : Cx} {h : Hp} (d : Nat) {E : Ev} {L : Nat} {c0 : Nat → Option Cel} {P : Pk} (EK : EOK Δ E) (X : PX Δ E L h c0 P) (kd : Int32) (hkd : 0 < kd) : mt Δ (d + 1) muX3_wrong [.ref E.rd, .int kd] h (fun v h' => v = none ∧ PX Δ E L h' c0 (wgP kd P.a P) ∧ KP Δ h h') := by
  obtain ⟨w0, now0, e0, ft0, fp0, Q0, X0⟩ := id X
  obtain ⟨hrd0, htk0, T0, ⟨he0, hQe0, hen0, hkk0⟩, hst0, hro0, hsub0, hcr0, hct0, hcp0, hcw0⟩ := id X0
  obtain ⟨num0, z0, le0, hnow0, S0, h3_0, h2_0⟩ := id T0
  obtain ⟨b0, sh0, sz0, B0⟩ := id S0
  have lrd := ce_lt hrd0; have nrd := EK.2.1
  have ntk : E.tk ≠ E.rd := ce_ne htk0 hrd0 (Or.inl (by show 3 ≠ 2; omega)); have nnow : now0 ≠ E.rd := ce_ne hnow0 hrd0 (Or.inl (by show 5 ≠ 2; omega)); have nw : w0 ≠ E.rd := ce_ne B0.1 hrd0 (Or.inl (by show 16 ≠ 2; omega))
  refine mt_of (lv0 := [(0, .ref E.rd), (1, .int kd)]) rfl rfl (Nat.le_of_ble_eq_true rfl) rfl ?_
  refine g_aload_n dX3_wrong_0 0 rfl ?_
  refine g_callV (t_X3_isOver _ (⟨_, _, _, _, _, _, X0⟩)) (lw_V q682 q684 qs5 q129 q685) okX3_isOver (hrd0) rfl rfl rfl rfl (Nat.le_of_ble_eq_true rfl) dX3_wrong_1 (fun v1 h1 _ _ hq => ?_)
  obtain ⟨rfl, hh⟩ := hq
  rw [hh]
  show wp Δ (d + 1) muX3_wrong 4 [(0, .ref E.rd), (1, .int kd)] [.int (bI (decide (¬ P.f = 0)))] h _
  refine gb_eq (tgt := 8) dX3_wrong_4 (by decide) (fun c_1 => ?_) (fun c_1 => ?_)
  ·
    have hov := ov_f c_1
    refine g_aload_n dX3_wrong_8 0 rfl ?_
    refine g_iload_n dX3_wrong_9 1 rfl ?_
    refine gh_put (f2 := ob [.ref E.tk, .ref E.rg, .ref now0, .int kd, .int fp0]) f_2_3 q581 (hrd0) (by omega) dX3_wrong_10 rfl rfl (ob_u [.ref E.tk, .ref E.rg, .ref now0, .int ft0, .int fp0] 3 (.int kd) (Nat.le_of_ble_eq_true rfl)) ?_
    refine wp_put (Fr.refl (fun b => b = E.rd) _) (fun q => by first | exact absurd q (by omega) | exact Or.inl rfl | exact Or.inr rfl | exact Or.inr (Or.inl rfl) | exact Or.inr (Or.inr rfl) | exact Or.inr ⟨rfl, by omega⟩ | exact rfl | (simp only []; omega)) (hrd0) (by omega) (fun u117 F117 z117 c117 k117 => ?_)
    refine g_aload_n dX3_wrong_13 0 rfl ?_
    refine g_aload_n dX3_wrong_14 0 rfl ?_
    refine gh_get (x := .ref now0) f_2_2 q580 (c117) dX3_wrong_15 rfl ?_
    refine gh_get (x := .int Q0.a) f_5_1 q374 (k117 _ _ (hnow0) (by omega)) dX3_wrong_18 rfl ?_
    refine gh_put (f2 := ob [.ref E.tk, .ref E.rg, .ref now0, .int kd, .int Q0.a]) f_2_4 q583 (c117) (by omega) dX3_wrong_21 rfl rfl (ob_u [.ref E.tk, .ref E.rg, .ref now0, .int kd, .int fp0] 4 (.int Q0.a) (Nat.le_of_ble_eq_true rfl)) ?_
    refine wp_put F117 (fun q => by first | exact absurd q (by omega) | exact Or.inl rfl | exact Or.inr rfl | exact Or.inr (Or.inl rfl) | exact Or.inr (Or.inr rfl) | exact Or.inr ⟨rfl, by omega⟩ | exact rfl | (simp only []; omega)) (c117) (by omega) (fun u118 F118 z118 c118 k118 => ?_)
    refine g_vret rfl dX3_wrong_24 ?_
    exact ⟨rfl, px_wr X0 hov hkd F118 (c118), kp_rd hrd0 F118⟩
  ·
    have hov := ov_t c_1
    refine g_vret rfl dX3_wrong_7 ?_
    exact ⟨rfl, by rw [wg_n hov]; exact X, KP.refl _⟩
set_option maxRecDepth 100000 in
theorem t_X3_onA {Δ : Cx} {h : Hp} (d : Nat) {E : Ev} {L : Nat} {c0 : Nat → Option Cel} {P : Pk} (EK : EOK Δ E) (X : PX Δ E L h c0 P) {c1 : Nat → Option Cel} (hs : Sub c1 (ce Δ h)) (hc1 : c1 E.rd = none) (hc2 : c1 E.tk = none) (hc3 : c1 E.tp = some (102, 900, fun j => .int (E.tt j))) (hcw : (P.f = 0 ∧ ¬ P.k = 0) ∨ PX Δ E L h c1 P) : mt Δ (d + 7) muX3_on [.ref E.rd] h (fun v h' => v = none ∧ PX Δ E L h' c1 (paP E.t E.n P) ∧ KP Δ h h') := by
  obtain ⟨w0, now0, e0, ft0, fp0, Q0, X0⟩ := id X
  obtain ⟨hrd0, htk0, T0, ⟨he0, hQe0, hen0, hkk0⟩, hst0, hro0, hsub0, hcr0, hct0, hcp0, hcw0⟩ := id X0
  obtain ⟨num0, z0, le0, hnow0, S0, h3_0, h2_0⟩ := id T0
  obtain ⟨b0, sh0, sz0, B0⟩ := id S0
  have lrd := ce_lt hrd0; have nrd := EK.2.1; have lnow := ce_lt hnow0
  have ntk : E.tk ≠ E.rd := ce_ne htk0 hrd0 (Or.inl (by show 3 ≠ 2; omega))
  refine mt_of (lv0 := [(0, .ref E.rd)]) rfl rfl (Nat.le_of_ble_eq_true rfl) rfl ?_
  refine g_aload_n dX3_on_0 0 rfl ?_
  refine g_callV (t_X3_isOver _ (⟨_, _, _, _, _, _, X0⟩)) (lw_V q682 q684 qs5 q129 q685) okX3_isOver (hrd0) rfl rfl rfl rfl (Nat.le_of_ble_eq_true rfl) dX3_on_1 (fun v1 h1 _ _ hq => ?_)
  obtain ⟨rfl, hh⟩ := hq
  rw [hh]
  show wp Δ (d + 7) muX3_on 4 [(0, .ref E.rd)] [.int (bI (decide (¬ P.f = 0)))] h _
  refine gb_ne (tgt := 29) dX3_on_4 (by decide) (fun c_1 => ?_) (fun c_1 => ?_)
  ·
    have hov := ov_t c_1
    refine g_vret rfl dX3_on_29 ?_
    exact ⟨rfl, by rw [pa_n hov]; exact hcw.resolve_left (fun q => hov q.1), KP.refl _⟩
  ·
    have hov := ov_f c_1
    have hQP := st_q hst0 hov
    have hPe : P.e = nI e0 := by rw [← hQP]; exact hQe0
    refine g_aload_n dX3_on_7 0 rfl ?_
    refine gh_get (x := .ref now0) f_2_2 q580 (hrd0) dX3_on_8 rfl ?_
    refine gh_get (x := .int (srt Q0.k)) f_5_0 q372 (hnow0) dX3_on_11 rfl ?_
    refine g_iconst (x := 1) dX3_on_14 rfl ?_
    refine g_icmp_eq (tgt := 29) dX3_on_15 (by decide) (fun c_2 => ?_) (fun c_2 => ?_)
    ·
      have hk0 : P.k = 0 := by rw [← hQP]; exact (srt_i hkk0).1 c_2
      refine g_vret rfl dX3_on_29 ?_
      exact ⟨rfl, by
        obtain ⟨w_, now_, e_, ft_, fp_, Q_, XX⟩ := hcw.resolve_left (fun q => q.2 hk0)
        rw [pa_y hov]; exact px_end EK XX hov hk0, KP.refl _⟩
    ·
      have hk0 : ¬ P.k = 0 := fun q => c_2 (by rw [hQP, q]; decide)
      refine g_aload_n dX3_on_18 0 rfl ?_
      refine g_aload_n dX3_on_19 0 rfl ?_
      refine gh_get (x := .ref E.tk) f_2_0 q578 (hrd0) dX3_on_20 rfl ?_
      refine g_callV (t_X4_next _ (P := P) (htk0) (hsub0 _ _ hcp0) EK.2.2.2.1 EK.1 he0 hPe EK.2.2.1 EK.2.2.2.2.2.1) (lw_V q356 q357 q358 q130 q359) okX4_next (htk0) rfl rfl rfl rfl (Nat.le_of_ble_eq_true rfl) dX3_on_23 (fun v1 h119 _ _ hq => ?_)
      obtain ⟨na, nw2, rfl, hna, hnw, F119, ntk2, NT⟩ := hq
      have hrdN := F119.2 _ _ hrd0 ntk.symm
      have F7119 : Fr Δ (fun b => b = E.rd ∨ b = E.tk) _ _ h h119 := F119.le (Nat.le_refl _) (Nat.le_refl _) (fun _ _ q => Or.inr q)
      show wp Δ (d + 7) muX3_on 26 [(0, .ref E.rd)] [.ref na, .ref E.rd] h119 _
      refine gh_put (f2 := ob [.ref E.tk, .ref E.rg, .ref na, .int ft0, .int fp0]) f_2_2 q580 (hrdN) (by omega) dX3_on_26 rfl rfl (ob_u [.ref E.tk, .ref E.rg, .ref now0, .int ft0, .int fp0] 2 (.ref na) (Nat.le_of_ble_eq_true rfl)) ?_
      refine wp_put F7119 (fun q => by first | exact absurd q (by omega) | exact Or.inl rfl | exact Or.inr rfl | exact Or.inr (Or.inl rfl) | exact Or.inr (Or.inr rfl) | exact Or.inr ⟨rfl, by omega⟩ | exact rfl | (simp only []; omega)) (hrdN) (by omega) (fun u120 F120 z120 c120 k120 => ?_)
      refine g_vret rfl dX3_on_29 ?_
      exact ⟨rfl, by rw [pa_y hov]; exact px_mv2 EK X0 hov hk0 hs hc1 hc2 hc3 (fun _ q => q) hnw F120 (c120) (k120 _ _ (ntk2) (by omega)) (NT.kp (fun b x q n2 _ => k120 _ _ q (fun z => n2 (by rw [z, hrdN] at q; rw [← Option.some.inj q])))), kp_rt hrd0 htk0 F120⟩
set_option maxRecDepth 100000 in
theorem t_X5_bend {Δ : Cx} {h : Hp} (d : Nat) {rg LB n w z : Nat} {rgl : Nat → Value} {fr le : Nat → Int32} {bn : Nat → Nat} (hrg : ce Δ h rg = some (4, 0, rgl)) (hL : rgl 8 = .ref LB) (hA : AL (ce Δ h) LB n bn) (hB : ∀ i, i < n → ∃ t x y, ce Δ h (bn i) = some (6, 0, ob [.ref t, .int x, .int y]) ∧ NMc Δ (ce Δ h) fr t (4 + i)) (T : Tx Δ h w z le) (hz : z ≤ 8) : mt Δ (d + 4) muX5_bend [.ref rg, .ref w] h (fun v h' => v = some (.int (fdB (fun i => nmE fr (4 + i) le z) n 0)) ∧ h' = h) := by
  obtain ⟨_, _, _, _, _, _, hn31a, hn31, _⟩ := id hA; have hn31 : n < 2 ^ 31 := by omega
  refine mt_of (lv0 := [(0, .ref rg), (1, .ref w)]) rfl rfl (Nat.le_of_ble_eq_true rfl) rfl ?_
  refine g_iconst (x := 0) dX5_bend_0 rfl ?_
  refine g_istore_n (lv' := [(2, .int 0), (0, .ref rg), (1, .ref w)]) dX5_bend_1 (by decide) rfl ?_
  have C2f : ∀ (fuel : Nat) (i : Nat), n - i < fuel → (i ≤ n) → (fdB (fun i => nmE fr (4 + i) le z) n 0 = fdB (fun i => nmE fr (4 + i) le z) (n - i) i) → wp Δ (d + 4) muX5_bend 2 [(2, .int (nI i)), (1, .ref w), (0, .ref rg)] [] h (fun v h' => v = some (.int (fdB (fun i => nmE fr (4 + i) le z) n 0)) ∧ h' = h) := by
    intro fuel
    induction fuel with
    | zero => intros; omega
    | succ fuel ih2 =>
      intro i hfuel2 h2_0 h2_1
      refine g_iload_n dX5_bend_2 0 rfl ?_
      refine g_aload_n dX5_bend_3 2 rfl ?_
      refine gh_get (x := .ref LB) f_4_8 q316 (hrg) dX5_bend_4 hL ?_
      obtain ⟨lf_, hl_⟩ := AL_c (hA)
      refine g_callV (t_J2_size _ (hA)) (lw_V q748 q718 q719 q127 q720) okJ2_size hl_ rfl rfl rfl rfl (Nat.le_of_ble_eq_true rfl) dX5_bend_7 (fun v1 h1 _ _ hq => ?_)
      obtain ⟨rfl, hh⟩ := hq
      rw [hh]
      show wp Δ (d + 4) muX5_bend 10 [(2, .int (nI i)), (1, .ref w), (0, .ref rg)] [.int (nI n), .int (nI i)] h _
      refine gn_ge (tgt := 42) (a := i) (b := n) dX5_bend_10 (by decide) (rfl) (rfl) (by omega) (by omega) (fun c_1 => ?_) (fun c_1 => ?_)
      ·
        refine g_iconst (x := -1) dX5_bend_42 rfl ?_
        refine g_iret rfl dX5_bend_43 ?_
        exact ⟨by rw [h2_1, fd_0 (by omega)], rfl⟩
      ·
        refine g_aload_n dX5_bend_13 2 rfl ?_
        refine gh_get (x := .ref LB) f_4_8 q316 (hrg) dX5_bend_14 hL ?_
        refine g_iload_n dX5_bend_17 0 rfl ?_
        obtain ⟨lf_, hl_⟩ := AL_c (hA)
        refine g_callV (t_J2_get _ (hA) i (by omega)) (lw_V q749 q750 q751 q127 q752) okJ2_get hl_ rfl rfl rfl rfl (Nat.le_of_ble_eq_true rfl) dX5_bend_18 (fun v1 h1 _ _ hq => ?_)
        obtain ⟨rfl, hh⟩ := hq
        rw [hh]
        show wp Δ (d + 4) muX5_bend 21 [(2, .int (nI i)), (1, .ref w), (0, .ref rg)] [.ref (bn i)] h _
        obtain ⟨t, x, y, hb, nz, nf, NS, ne1, ne2⟩ := hB i (by omega)
        obtain ⟨nb_, nsh, nsz, NSB⟩ := id NS
        refine g_castS (hb) rfl q761 dX5_bend_21 ?_
        refine gh_get (x := .ref t) f_6_0 q778 (hb) dX5_bend_24 rfl ?_
        refine g_aload_n dX5_bend_27 1 rfl ?_
        refine g_callV (t_J5_equals _ NS.tx T) (lw_V q762 q660 q661 q135 q662) okJ5_equals (NSB.1) rfl rfl rfl rfl (Nat.le_of_ble_eq_true rfl) dX5_bend_28 (fun v1 h1 _ _ hq => ?_)
        obtain ⟨rfl, hh⟩ := hq
        rw [hh]
        show wp Δ (d + 4) muX5_bend 31 [(2, .int (nI i)), (1, .ref w), (0, .ref rg)] [.int (bI (eqW nf nz le z))] h _
        refine gb_eq (tgt := 36) dX5_bend_31 (by decide) (fun c_2 => ?_) (fun c_2 => ?_)
        ·
          have hcE : nmE fr (4 + i) le z = false := (nm_eq hz NS.z8 ne1 ne2).symm.trans c_2
          refine g_iinc (z := nI (i + 1)) (lv' := [(2, .int (nI (i + 1))), (1, .ref w), (0, .ref rg)]) dX5_bend_36 0 rfl (nI_add _ 1) (by decide) rfl ?_
          refine g_goto (tgt := 2) dX5_bend_39 (by decide) ?_
          exact ih2 (i + 1) (by omega) (by omega) (h2_1.trans (fd_f (by omega) hcE))
        ·
          have hcE : nmE fr (4 + i) le z = true := (nm_eq hz NS.z8 ne1 ne2).symm.trans c_2
          refine g_iload_n dX5_bend_34 0 rfl ?_
          refine g_iret rfl dX5_bend_35 ?_
          exact ⟨by rw [h2_1, fd_t (g := (fun i => nmE fr (4 + i) le z)) (i := i) (n := n) (by omega) hcE], rfl⟩
  have C2 : ∀ (i : Nat), (i ≤ n) → (fdB (fun i => nmE fr (4 + i) le z) n 0 = fdB (fun i => nmE fr (4 + i) le z) (n - i) i) → wp Δ (d + 4) muX5_bend 2 [(2, .int (nI i)), (1, .ref w), (0, .ref rg)] [] h (fun v h' => v = some (.int (fdB (fun i => nmE fr (4 + i) le z) n 0)) ∧ h' = h) := fun i h2_0 h2_1 => C2f _ i (Nat.lt_succ_self _) h2_0 h2_1
  refine g_lv [0, 2, 1] (by rfl) ?_
  exact C2 0 (by omega) rfl
set_option maxRecDepth 100000 in
theorem t_X5_house {Δ : Cx} {h : Hp} (d : Nat) {rg LB n w z : Nat} {rgl : Nat → Value} {fr le : Nat → Int32} {bn : Nat → Nat} (hrg : ce Δ h rg = some (4, 0, rgl)) (hL : rgl 9 = .ref LB) (hA : AL (ce Δ h) LB n bn) (hB : ∀ i, i < n → ∃ kd t x y x2, kd ≤ 3 ∧ ce Δ h (bn i) = some (7 + kd, 0, ob [.ref t, .int x, .int y, .int x2]) ∧ NMc Δ (ce Δ h) fr t (0 + i)) (T : Tx Δ h w z le) (hz : z ≤ 8) : mt Δ (d + 4) muX5_house [.ref rg, .ref w] h (fun v h' => v = some (.int (fdB (fun i => nmE fr (0 + i) le z) n 0)) ∧ h' = h) := by
  obtain ⟨_, _, _, _, _, _, hn31a, hn31, _⟩ := id hA; have hn31 : n < 2 ^ 31 := by omega
  refine mt_of (lv0 := [(0, .ref rg), (1, .ref w)]) rfl rfl (Nat.le_of_ble_eq_true rfl) rfl ?_
  refine g_iconst (x := 0) dX5_house_0 rfl ?_
  refine g_istore_n (lv' := [(2, .int 0), (0, .ref rg), (1, .ref w)]) dX5_house_1 (by decide) rfl ?_
  have C2f : ∀ (fuel : Nat) (i : Nat), n - i < fuel → (i ≤ n) → (fdB (fun i => nmE fr (0 + i) le z) n 0 = fdB (fun i => nmE fr (0 + i) le z) (n - i) i) → wp Δ (d + 4) muX5_house 2 [(2, .int (nI i)), (1, .ref w), (0, .ref rg)] [] h (fun v h' => v = some (.int (fdB (fun i => nmE fr (0 + i) le z) n 0)) ∧ h' = h) := by
    intro fuel
    induction fuel with
    | zero => intros; omega
    | succ fuel ih2 =>
      intro i hfuel2 h2_0 h2_1
      refine g_iload_n dX5_house_2 0 rfl ?_
      refine g_aload_n dX5_house_3 2 rfl ?_
      refine gh_get (x := .ref LB) f_4_9 q320 (hrg) dX5_house_4 hL ?_
      obtain ⟨lf_, hl_⟩ := AL_c (hA)
      refine g_callV (t_J2_size _ (hA)) (lw_V q748 q718 q719 q127 q720) okJ2_size hl_ rfl rfl rfl rfl (Nat.le_of_ble_eq_true rfl) dX5_house_7 (fun v1 h1 _ _ hq => ?_)
      obtain ⟨rfl, hh⟩ := hq
      rw [hh]
      show wp Δ (d + 4) muX5_house 10 [(2, .int (nI i)), (1, .ref w), (0, .ref rg)] [.int (nI n), .int (nI i)] h _
      refine gn_ge (tgt := 42) (a := i) (b := n) dX5_house_10 (by decide) (rfl) (rfl) (by omega) (by omega) (fun c_1 => ?_) (fun c_1 => ?_)
      ·
        refine g_iconst (x := -1) dX5_house_42 rfl ?_
        refine g_iret rfl dX5_house_43 ?_
        exact ⟨by rw [h2_1, fd_0 (by omega)], rfl⟩
      ·
        refine g_aload_n dX5_house_13 2 rfl ?_
        refine gh_get (x := .ref LB) f_4_9 q320 (hrg) dX5_house_14 hL ?_
        refine g_iload_n dX5_house_17 0 rfl ?_
        obtain ⟨lf_, hl_⟩ := AL_c (hA)
        refine g_callV (t_J2_get _ (hA) i (by omega)) (lw_V q749 q750 q751 q127 q752) okJ2_get hl_ rfl rfl rfl rfl (Nat.le_of_ble_eq_true rfl) dX5_house_18 (fun v1 h1 _ _ hq => ?_)
        obtain ⟨rfl, hh⟩ := hq
        rw [hh]
        show wp Δ (d + 4) muX5_house 21 [(2, .int (nI i)), (1, .ref w), (0, .ref rg)] [.ref (bn i)] h _
        obtain ⟨kd, t, x, y, x2, hkd, hb, nz, nf, NS, ne1, ne2⟩ := hB i (by omega)
        obtain ⟨nb_, nsh, nsz, NSB⟩ := id NS
        refine gH_cast hkd (hb) q767 dX5_house_21 ?_
        refine gh_get (x := .ref t) (fH_0 hkd) q870 (hb) dX5_house_24 rfl ?_
        refine g_aload_n dX5_house_27 1 rfl ?_
        refine g_callV (t_J5_equals _ NS.tx T) (lw_V q762 q660 q661 q135 q662) okJ5_equals (NSB.1) rfl rfl rfl rfl (Nat.le_of_ble_eq_true rfl) dX5_house_28 (fun v1 h1 _ _ hq => ?_)
        obtain ⟨rfl, hh⟩ := hq
        rw [hh]
        show wp Δ (d + 4) muX5_house 31 [(2, .int (nI i)), (1, .ref w), (0, .ref rg)] [.int (bI (eqW nf nz le z))] h _
        refine gb_eq (tgt := 36) dX5_house_31 (by decide) (fun c_2 => ?_) (fun c_2 => ?_)
        ·
          have hcE : nmE fr (0 + i) le z = false := (nm_eq hz NS.z8 ne1 ne2).symm.trans c_2
          refine g_iinc (z := nI (i + 1)) (lv' := [(2, .int (nI (i + 1))), (1, .ref w), (0, .ref rg)]) dX5_house_36 0 rfl (nI_add _ 1) (by decide) rfl ?_
          refine g_goto (tgt := 2) dX5_house_39 (by decide) ?_
          exact ih2 (i + 1) (by omega) (by omega) (h2_1.trans (fd_f (by omega) hcE))
        ·
          have hcE : nmE fr (0 + i) le z = true := (nm_eq hz NS.z8 ne1 ne2).symm.trans c_2
          refine g_iload_n dX5_house_34 0 rfl ?_
          refine g_iret rfl dX5_house_35 ?_
          exact ⟨by rw [h2_1, fd_t (g := (fun i => nmE fr (0 + i) le z)) (i := i) (n := n) (by omega) hcE], rfl⟩
  have C2 : ∀ (i : Nat), (i ≤ n) → (fdB (fun i => nmE fr (0 + i) le z) n 0 = fdB (fun i => nmE fr (0 + i) le z) (n - i) i) → wp Δ (d + 4) muX5_house 2 [(2, .int (nI i)), (1, .ref w), (0, .ref rg)] [] h (fun v h' => v = some (.int (fdB (fun i => nmE fr (0 + i) le z) n 0)) ∧ h' = h) := fun i h2_0 h2_1 => C2f _ i (Nat.lt_succ_self _) h2_0 h2_1
  refine g_lv [0, 2, 1] (by rfl) ?_
  exact C2 0 (by omega) rfl
set_option maxRecDepth 100000 in
theorem t_X5_lodger {Δ : Cx} {h : Hp} (d : Nat) {rg LB n w z : Nat} {rgl : Nat → Value} {fr le : Nat → Int32} {bn : Nat → Nat} (hrg : ce Δ h rg = some (4, 0, rgl)) (hL : rgl 10 = .ref LB) (hA : AL (ce Δ h) LB n bn) (hB : ∀ i, i < n → ∃ t x y x2 y2, ce Δ h (bn i) = some (11, 0, ob [.ref t, .int x, .int y, .int x2, .int y2]) ∧ NMc Δ (ce Δ h) fr t (8 + i)) (T : Tx Δ h w z le) (hz : z ≤ 8) : mt Δ (d + 4) muX5_lodger [.ref rg, .ref w] h (fun v h' => v = some (.int (fdB (fun i => nmE fr (8 + i) le z) n 0)) ∧ h' = h) := by
  obtain ⟨_, _, _, _, _, _, hn31a, hn31, _⟩ := id hA; have hn31 : n < 2 ^ 31 := by omega
  refine mt_of (lv0 := [(0, .ref rg), (1, .ref w)]) rfl rfl (Nat.le_of_ble_eq_true rfl) rfl ?_
  refine g_iconst (x := 0) dX5_lodger_0 rfl ?_
  refine g_istore_n (lv' := [(2, .int 0), (0, .ref rg), (1, .ref w)]) dX5_lodger_1 (by decide) rfl ?_
  have C2f : ∀ (fuel : Nat) (i : Nat), n - i < fuel → (i ≤ n) → (fdB (fun i => nmE fr (8 + i) le z) n 0 = fdB (fun i => nmE fr (8 + i) le z) (n - i) i) → wp Δ (d + 4) muX5_lodger 2 [(2, .int (nI i)), (1, .ref w), (0, .ref rg)] [] h (fun v h' => v = some (.int (fdB (fun i => nmE fr (8 + i) le z) n 0)) ∧ h' = h) := by
    intro fuel
    induction fuel with
    | zero => intros; omega
    | succ fuel ih2 =>
      intro i hfuel2 h2_0 h2_1
      refine g_iload_n dX5_lodger_2 0 rfl ?_
      refine g_aload_n dX5_lodger_3 2 rfl ?_
      refine gh_get (x := .ref LB) f_4_10 q324 (hrg) dX5_lodger_4 hL ?_
      obtain ⟨lf_, hl_⟩ := AL_c (hA)
      refine g_callV (t_J2_size _ (hA)) (lw_V q748 q718 q719 q127 q720) okJ2_size hl_ rfl rfl rfl rfl (Nat.le_of_ble_eq_true rfl) dX5_lodger_7 (fun v1 h1 _ _ hq => ?_)
      obtain ⟨rfl, hh⟩ := hq
      rw [hh]
      show wp Δ (d + 4) muX5_lodger 10 [(2, .int (nI i)), (1, .ref w), (0, .ref rg)] [.int (nI n), .int (nI i)] h _
      refine gn_ge (tgt := 42) (a := i) (b := n) dX5_lodger_10 (by decide) (rfl) (rfl) (by omega) (by omega) (fun c_1 => ?_) (fun c_1 => ?_)
      ·
        refine g_iconst (x := -1) dX5_lodger_42 rfl ?_
        refine g_iret rfl dX5_lodger_43 ?_
        exact ⟨by rw [h2_1, fd_0 (by omega)], rfl⟩
      ·
        refine g_aload_n dX5_lodger_13 2 rfl ?_
        refine gh_get (x := .ref LB) f_4_10 q324 (hrg) dX5_lodger_14 hL ?_
        refine g_iload_n dX5_lodger_17 0 rfl ?_
        obtain ⟨lf_, hl_⟩ := AL_c (hA)
        refine g_callV (t_J2_get _ (hA) i (by omega)) (lw_V q749 q750 q751 q127 q752) okJ2_get hl_ rfl rfl rfl rfl (Nat.le_of_ble_eq_true rfl) dX5_lodger_18 (fun v1 h1 _ _ hq => ?_)
        obtain ⟨rfl, hh⟩ := hq
        rw [hh]
        show wp Δ (d + 4) muX5_lodger 21 [(2, .int (nI i)), (1, .ref w), (0, .ref rg)] [.ref (bn i)] h _
        obtain ⟨t, x, y, x2, y2, hb, nz, nf, NS, ne1, ne2⟩ := hB i (by omega)
        obtain ⟨nb_, nsh, nsz, NSB⟩ := id NS
        refine g_castS (hb) rfl q772 dX5_lodger_21 ?_
        refine gh_get (x := .ref t) f_11_0 q935 (hb) dX5_lodger_24 rfl ?_
        refine g_aload_n dX5_lodger_27 1 rfl ?_
        refine g_callV (t_J5_equals _ NS.tx T) (lw_V q762 q660 q661 q135 q662) okJ5_equals (NSB.1) rfl rfl rfl rfl (Nat.le_of_ble_eq_true rfl) dX5_lodger_28 (fun v1 h1 _ _ hq => ?_)
        obtain ⟨rfl, hh⟩ := hq
        rw [hh]
        show wp Δ (d + 4) muX5_lodger 31 [(2, .int (nI i)), (1, .ref w), (0, .ref rg)] [.int (bI (eqW nf nz le z))] h _
        refine gb_eq (tgt := 36) dX5_lodger_31 (by decide) (fun c_2 => ?_) (fun c_2 => ?_)
        ·
          have hcE : nmE fr (8 + i) le z = false := (nm_eq hz NS.z8 ne1 ne2).symm.trans c_2
          refine g_iinc (z := nI (i + 1)) (lv' := [(2, .int (nI (i + 1))), (1, .ref w), (0, .ref rg)]) dX5_lodger_36 0 rfl (nI_add _ 1) (by decide) rfl ?_
          refine g_goto (tgt := 2) dX5_lodger_39 (by decide) ?_
          exact ih2 (i + 1) (by omega) (by omega) (h2_1.trans (fd_f (by omega) hcE))
        ·
          have hcE : nmE fr (8 + i) le z = true := (nm_eq hz NS.z8 ne1 ne2).symm.trans c_2
          refine g_iload_n dX5_lodger_34 0 rfl ?_
          refine g_iret rfl dX5_lodger_35 ?_
          exact ⟨by rw [h2_1, fd_t (g := (fun i => nmE fr (8 + i) le z)) (i := i) (n := n) (by omega) hcE], rfl⟩
  have C2 : ∀ (i : Nat), (i ≤ n) → (fdB (fun i => nmE fr (8 + i) le z) n 0 = fdB (fun i => nmE fr (8 + i) le z) (n - i) i) → wp Δ (d + 4) muX5_lodger 2 [(2, .int (nI i)), (1, .ref w), (0, .ref rg)] [] h (fun v h' => v = some (.int (fdB (fun i => nmE fr (8 + i) le z) n 0)) ∧ h' = h) := fun i h2_0 h2_1 => C2f _ i (Nat.lt_succ_self _) h2_0 h2_1
  refine g_lv [0, 2, 1] (by rfl) ?_
  exact C2 0 (by omega) rfl
def cnA (f : Nat → Int32) (x : Int32) : Nat → Int32
  | 0 => 0
  | k + 1 => cnA f x k + (if f k = x then 1 else 0)
theorem cn_t {f : Nat → Int32} {x : Int32} {k : Nat} (h : f k = x) : cnA f x k + 1 = cnA f x (k + 1) := by show _ = cnA f x k + (if f k = x then 1 else 0); rw [if_pos h]
theorem cn_f {f : Nat → Int32} {x : Int32} {k : Nat} (h : ¬ f k = x) : cnA f x k + 0 = cnA f x (k + 1) := by show _ = cnA f x k + (if f k = x then 1 else 0); rw [if_neg h]
set_option maxRecDepth 100000 in
theorem t_X5_aboard {Δ : Cx} {h : Hp} (d : Nat) {rg LB n : Nat} {rgl : Nat → Value} {hf : Nat → Int32} {bn : Nat → Nat} (hrg : ce Δ h rg = some (4, 0, rgl)) (hL : rgl 10 = .ref LB) (hA : AL (ce Δ h) LB n bn) (hB : ∀ i, i < n → ∃ t x y y2, ce Δ h (bn i) = some (11, 0, ob [.ref t, .int x, .int y, .int (hf i), .int y2])) (x0 : Int32) : mt Δ (d + 3) muX5_aboard [.ref rg, .int x0] h (fun v h' => v = some (.int (cnA hf x0 n)) ∧ h' = h) := by
  obtain ⟨_, _, _, _, _, _, hn31a, hn31, _⟩ := id hA; have hn31 : n < 2 ^ 31 := by omega
  refine mt_of (lv0 := [(0, .ref rg), (1, .int x0)]) rfl rfl (Nat.le_of_ble_eq_true rfl) rfl ?_
  refine g_iconst (x := 0) dX5_aboard_0 rfl ?_
  refine g_istore_n (lv' := [(2, .int 0), (0, .ref rg), (1, .int x0)]) dX5_aboard_1 (by decide) rfl ?_
  refine g_iconst (x := 0) dX5_aboard_2 rfl ?_
  refine g_istore_n (lv' := [(3, .int 0), (2, .int 0), (0, .ref rg), (1, .int x0)]) dX5_aboard_3 (by decide) rfl ?_
  have C4f : ∀ (fuel : Nat) (i : Nat), n - i < fuel → (i ≤ n) → wp Δ (d + 3) muX5_aboard 4 [(3, .int (nI i)), (2, .int (cnA hf x0 i)), (1, .int x0), (0, .ref rg)] [] h (fun v h' => v = some (.int (cnA hf x0 n)) ∧ h' = h) := by
    intro fuel
    induction fuel with
    | zero => intros; omega
    | succ fuel ih4 =>
      intro i hfuel4 h4_0
      refine g_iload_n dX5_aboard_4 0 rfl ?_
      refine g_aload_n dX5_aboard_5 3 rfl ?_
      refine gh_get (x := .ref LB) f_4_10 q324 (hrg) dX5_aboard_6 hL ?_
      obtain ⟨lf_, hl_⟩ := AL_c (hA)
      refine g_callV (t_J2_size _ (hA)) (lw_V q748 q718 q719 q127 q720) okJ2_size hl_ rfl rfl rfl rfl (Nat.le_of_ble_eq_true rfl) dX5_aboard_9 (fun v1 h1 _ _ hq => ?_)
      obtain ⟨rfl, hh⟩ := hq
      rw [hh]
      show wp Δ (d + 3) muX5_aboard 12 [(3, .int (nI i)), (2, .int (cnA hf x0 i)), (1, .int x0), (0, .ref rg)] [.int (nI n), .int (nI i)] h _
      refine gn_ge (tgt := 47) (a := i) (b := n) dX5_aboard_12 (by decide) (rfl) (rfl) (by omega) (by omega) (fun c_1 => ?_) (fun c_1 => ?_)
      ·
        refine g_iload_n dX5_aboard_47 1 rfl ?_
        refine g_iret rfl dX5_aboard_48 ?_
        exact ⟨by rw [show n = i by omega], rfl⟩
      ·
        refine g_iload_n dX5_aboard_15 1 rfl ?_
        refine g_aload_n dX5_aboard_16 3 rfl ?_
        refine gh_get (x := .ref LB) f_4_10 q324 (hrg) dX5_aboard_17 hL ?_
        refine g_iload_n dX5_aboard_20 0 rfl ?_
        obtain ⟨lf_, hl_⟩ := AL_c (hA)
        refine g_callV (t_J2_get _ (hA) i (by omega)) (lw_V q749 q750 q751 q127 q752) okJ2_get hl_ rfl rfl rfl rfl (Nat.le_of_ble_eq_true rfl) dX5_aboard_21 (fun v1 h1 _ _ hq => ?_)
        obtain ⟨rfl, hh⟩ := hq
        rw [hh]
        show wp Δ (d + 3) muX5_aboard 24 [(3, .int (nI i)), (2, .int (cnA hf x0 i)), (1, .int x0), (0, .ref rg)] [.ref (bn i), .int (cnA hf x0 i)] h _
        obtain ⟨t, x, y, y2, hb⟩ := hB i (by omega)
        refine g_castS (hb) rfl q772 dX5_aboard_24 ?_
        refine gh_get (x := .int (hf i)) f_11_3 q944 (hb) dX5_aboard_27 rfl ?_
        refine g_iload_n dX5_aboard_30 2 rfl ?_
        refine g_icmp_ne (tgt := 38) dX5_aboard_31 (by decide) (fun c_2 => ?_) (fun c_2 => ?_)
        ·
          have hq : ¬ hf i = x0 := c_2
          refine g_iconst (x := 0) dX5_aboard_38 rfl ?_
          refine g_iadd dX5_aboard_39 ?_
          refine wp_top (z := .int (cnA hf x0 (i + 1))) (congrArg Value.int (cn_f hq)) ?_
          refine g_istore_n (lv' := [(2, .int (cnA hf x0 (i + 1))), (3, .int (nI i)), (1, .int x0), (0, .ref rg)]) dX5_aboard_40 (by decide) rfl ?_
          refine g_iinc (z := nI (i + 1)) (lv' := [(3, .int (nI (i + 1))), (2, .int (cnA hf x0 (i + 1))), (1, .int x0), (0, .ref rg)]) dX5_aboard_41 1 rfl (nI_add _ 1) (by decide) rfl ?_
          refine g_goto (tgt := 4) dX5_aboard_44 (by decide) ?_
          exact ih4 (i + 1) (by omega) (by omega)
        ·
          have hq : hf i = x0 := c_2
          refine g_iconst (x := 1) dX5_aboard_34 rfl ?_
          refine g_goto (tgt := 39) dX5_aboard_35 (by decide) ?_
          refine g_iadd dX5_aboard_39 ?_
          refine wp_top (z := .int (cnA hf x0 (i + 1))) (congrArg Value.int (cn_t hq)) ?_
          refine g_istore_n (lv' := [(2, .int (cnA hf x0 (i + 1))), (3, .int (nI i)), (1, .int x0), (0, .ref rg)]) dX5_aboard_40 (by decide) rfl ?_
          refine g_iinc (z := nI (i + 1)) (lv' := [(3, .int (nI (i + 1))), (2, .int (cnA hf x0 (i + 1))), (1, .int x0), (0, .ref rg)]) dX5_aboard_41 1 rfl (nI_add _ 1) (by decide) rfl ?_
          refine g_goto (tgt := 4) dX5_aboard_44 (by decide) ?_
          exact ih4 (i + 1) (by omega) (by omega)
  have C4 : ∀ (i : Nat), (i ≤ n) → wp Δ (d + 3) muX5_aboard 4 [(3, .int (nI i)), (2, .int (cnA hf x0 i)), (1, .int x0), (0, .ref rg)] [] h (fun v h' => v = some (.int (cnA hf x0 n)) ∧ h' = h) := fun i h4_0 => C4f _ i (Nat.lt_succ_self _) h4_0
  refine g_lv [0, 1, 3, 2] (by rfl) ?_
  exact C4 0 (by omega)
