section KNW
variable {t : Nat → Int32} {n i : Nat} {lo hi : Int32} {P : Pk}
theorem mn_t (h : (decide (P.k = 2) && !kwB P) = true) : mnP P = P := if_pos h
theorem mn_f (h : (decide (P.k = 2) && !kwB P) = false) : mnP P = wgP 1 P.a P := if_neg (bf h)
theorem nm_k (h : (decide (P.k = 2) && !kwB P) = true) : P.k = 2 := by
  rw [Bool.and_eq_true] at h
  exact of_decide_eq_true h.1
theorem nd_1 (hn : P.f = 0 → (decide (P.k = 2) && !kwB P) = true) (hin : P.f = 0 → inS (fnS P 13 0) lo hi = true) : ndP lo hi P = P := by
  unfold ndP
  by_cases c : P.f = 0
  · rw [if_pos c, mn_t (hn c), if_pos c]
    unfold ndW
    rw [if_pos (hin c)]
  · rw [if_neg c]
theorem nd_2 (hn : P.f = 0 → (decide (P.k = 2) && !kwB P) = true) (hin : P.f = 0 → inS (fnS P 13 0) lo hi = false) : ndP lo hi P = wgP 2 P.a P := by
  unfold ndP
  by_cases c : P.f = 0
  · rw [if_pos c, mn_t (hn c), if_pos c]
    unfold ndW
    rw [if_neg (bf (hin c))]
  · rw [if_neg c, wg_n c]
theorem nd_3 (hn : P.f = 0 → (decide (P.k = 2) && !kwB P) = false) : ndP lo hi P = wgP 1 P.a P := by
  unfold ndP
  by_cases c : P.f = 0
  · rw [if_pos c, mn_f (hn c), if_neg f_wgN]
  · rw [if_neg c, wg_n c]
theorem ndV_0 (h : ¬ (ndP lo hi P).f = 0) : ndV lo hi P = 0 := by
  unfold ndP at h
  unfold ndV
  by_cases c : P.f = 0
  · rw [if_pos c] at h ⊢
    by_cases c2 : (mnP P).f = 0
    · rw [if_pos c2] at h ⊢
      rw [if_neg h]
    · rw [if_neg c2]
  · rw [if_neg c]
theorem ndV_1 (h : (ndP lo hi P).f = 0) : P.f = 0 ∧ P.k = 2 ∧ inS (fnS P 13 0) lo hi = true ∧ ndV lo hi P = fnS P 13 0 - lo := by
  have c := f_nd h
  unfold ndP at h
  rw [if_pos c] at h
  by_cases c2 : (mnP P).f = 0
  · rw [if_pos c2] at h
    refine ⟨c, (mnP_ok c c2).2, ?_, ?_⟩
    · unfold ndW at h
      by_cases q : inS (fnS P 13 0) lo hi = true
      · exact q
      · rw [if_neg q] at h
        exact absurd h f_wgN
    · unfold ndV
      rw [if_pos c, if_pos c2, if_pos h]
  · rw [if_neg c2] at h
    exact absurd h c2
theorem nn_ok (hn : P.f = 0 → (decide (P.k = 2) && !kwB P) = true) (hf : P.f = 0 → ¬ 0 ≤ fnS P 13 0) : nnP t n i P = if P.f = 0 then nxP t n (naP i P) else P := by
  unfold nnP
  by_cases c : P.f = 0
  · have e : nnC P = P := by
      unfold nnC nnW
      rw [mn_t (hn c), if_pos c, if_neg (hf c)]
    rw [if_pos c, if_pos c, e, if_pos c]
  · rw [if_neg c, if_neg c]
theorem nn_3 (hn : P.f = 0 → (decide (P.k = 2) && !kwB P) = true) (hf : P.f = 0 → 0 ≤ fnS P 13 0) : nnP t n i P = wgP 3 P.a P := by
  unfold nnP
  by_cases c : P.f = 0
  · have e : nnC P = wgP 3 P.a P := by
      unfold nnC nnW
      rw [mn_t (hn c), if_pos c, if_pos (hf c)]
    rw [if_pos c, e, if_neg f_wgN]
  · rw [if_neg c, wg_n c]
theorem nn_1 (hn : P.f = 0 → (decide (P.k = 2) && !kwB P) = false) : nnP t n i P = wgP 1 P.a P := by
  unfold nnP
  by_cases c : P.f = 0
  · have e : nnC P = wgP 1 P.a P := by
      unfold nnC
      rw [mn_f (hn c), if_neg f_wgN]
    rw [if_pos c, e, if_neg f_wgN]
  · rw [if_neg c, wg_n c]
end KNW
theorem fd_P {n k0 cnt z : Nat} {P : Pk} {le : Nat → Int32} (EO : eOk n P) (hk : P.k = 2) (h8 : z ≤ 8) (hz : P.z = nI z) (hl : ∀ j, j < z → le j = P.le j) : fdB (fun i => nmE P.fr (k0 + i) le z) cnt 0 = fdB (fun i => nmB P (k0 + i)) cnt 0 := by
  obtain ⟨z1, a1, a2, a3⟩ := EO.2 hk
  have e : z1 = z := (nI_eq (by omega) (by omega)).mp (a3.symm.trans hz)
  exact fdB_cong (fun i _ _ => nm_B (by omega) h8 hz hl)
section FH
variable {nb nh nl ns np nf : Nat} {P : Pk}
theorem fn_h (I : LIq nb nh nl ns np nf 13 P.fr) : fdB (fun i => nmB P (0 + i)) nh 0 = if inS (fnS P 13 0) 0 3 = true then fnS P 13 0 - 0 else -1 := fn_rng I (lo := 0) (w := 4) (by omega) (by omega) I.1.2.1 (fun i h1 h2 h3 => by have := I.1; unfold told at h3; omega)
theorem fn_b (I : LIq nb nh nl ns np nf 13 P.fr) : fdB (fun i => nmB P (4 + i)) nb 0 = if inS (fnS P 13 0) 4 7 = true then fnS P 13 0 - 4 else -1 := fn_rng I (lo := 4) (w := 4) (by omega) (by omega) I.1.1 (fun i h1 h2 h3 => by have := I.1; unfold told at h3; omega)
theorem fn_l (I : LIq nb nh nl ns np nf 13 P.fr) : fdB (fun i => nmB P (8 + i)) nl 0 = if inS (fnS P 13 0) 8 12 = true then fnS P 13 0 - 8 else -1 := fn_rng I (lo := 8) (w := 5) (by omega) (by omega) I.1.2.2.1 (fun i h1 h2 h3 => by have := I.1; unfold told at h3; omega)
end FH
theorem NMc.mono {Δ : Cx} {c c' : Nat → Option Cel} (hs : Sub c c') {fr : Nat → Int32} {t k : Nat} (N : NMc Δ c fr t k) : NMc Δ c' fr t k := by
  obtain ⟨z, f, S, h1, h2⟩ := N
  exact ⟨z, f, S.mono hs, h1, h2⟩
theorem ho_ex {Δ : Cx} {c c' : Nat → Option Cel} (hs : Sub c c') {fr : Nat → Int32} {a i : Nat} (H : hoC Δ c fr a i) : ∃ kd t x y x2, kd ≤ 3 ∧ c' a = some (7 + kd, 0, ob [.ref t, .int x, .int y, .int x2]) ∧ NMc Δ c' fr t (0 + i) := by
  obtain ⟨kd, t, h1, h2, h3, h4⟩ := H
  exact ⟨kd, t, _, _, _, h1, hs _ _ h3, by rw [Nat.zero_add]; exact h4.mono hs⟩
theorem bd_ex {Δ : Cx} {c c' : Nat → Option Cel} (hs : Sub c c') {fr : Nat → Int32} {a i : Nat} (H : bdC Δ c fr a i) : ∃ t x y, c' a = some (6, 0, ob [.ref t, .int x, .int y]) ∧ NMc Δ c' fr t (4 + i) := by
  obtain ⟨t, h3, h4⟩ := H
  exact ⟨t, _, _, hs _ _ h3, h4.mono hs⟩
theorem lo_ex {Δ : Cx} {c c' : Nat → Option Cel} (hs : Sub c c') {fr : Nat → Int32} {a i : Nat} (H : loC Δ c fr a i) : ∃ t x y x2 y2, c' a = some (11, 0, ob [.ref t, .int x, .int y, .int x2, .int y2]) ∧ NMc Δ c' fr t (8 + i) := by
  obtain ⟨t, h3, h4⟩ := H
  exact ⟨t, _, _, _, _, hs _ _ h3, h4.mono hs⟩
theorem ST.kp {Δ : Cx} {h h2 : Hp} {s z : Nat} {f : Nat → Int32} (S : ST Δ (ce Δ h) s z f) (k : KP Δ h h2) : ST Δ (ce Δ h2) s z f := by
  obtain ⟨b, sh, sz, h1, h2, h3⟩ := S
  exact ⟨b, sh, sz, k _ _ h1 (by show 16 ≠ 2; omega) (by show 16 ≠ 3; omega), k _ _ h2 (by show 102 ≠ 2; omega) (by show 102 ≠ 3; omega), h3⟩
theorem KP.fr {Δ : Cx} {h h2 : Hp} {a k s : Nat} (F : Fr Δ (fun b => b = a) k s h h2) {b : Nat} {x : Cel} (q : ce Δ h b = some x) (n : b ≠ a) : ce Δ h2 b = some x := F.2 b x q n
set_option maxRecDepth 100000 in
theorem t_X3_known {Δ : Cx} {h : Hp} (d : Nat) {E : Ev} {L : Nat} {c0 : Nat → Option Cel} {P : Pk} (EK : EOK Δ E) (X : PX Δ E L h c0 P) (found lo hi : Int32) (hfd : P.f = 0 → P.k = 2 → found = if inS (fnS P 13 0) lo hi = true then fnS P 13 0 - lo else -1) (hnn : inS (fnS P 13 0) lo hi = true → ¬ fnS P 13 0 - lo = -1) : mt Δ (d + 5) muX3_known [.ref E.rd, .int found] h (fun v h' => v = some (.int (ndV lo hi P)) ∧ PX Δ E L h' c0 (ndP lo hi P)) := by
  obtain ⟨w0, now0, e0, ft0, fp0, Q0, X0⟩ := id X
  obtain ⟨hrd0, htk0, T0, ⟨he0, hQe0, hen0, hkk0⟩, hst0, hro0, hsub0, hcr0, hct0, hcp0, hcw0⟩ := id X0
  obtain ⟨num0, z0, le0, hnow0, S0, h3_0, h2_0⟩ := id T0
  obtain ⟨b0, sh0, sz0, B0⟩ := id S0
  refine mt_of (lv0 := [(0, .ref E.rd), (1, .int found)]) rfl rfl (Nat.le_of_ble_eq_true rfl) rfl ?_
  refine g_aload_n dX3_known_0 0 rfl ?_
  refine gh_get (x := .ref now0) f_2_2 q580 (hrd0) dX3_known_1 rfl ?_
  refine g_callV (t_X6_isName _ hnow0 S0 EK.2.2.2.2.1 (px_n0 EK (⟨_, _, _, _, _, _, X0⟩))) (lw_V q731 q732 q733 q132 q734) okX6_isName hnow0 rfl rfl rfl rfl (Nat.le_of_ble_eq_true rfl) dX3_known_4 (fun v1 h121 _ _ hq => ?_)
  obtain ⟨rfl, G121, SN121⟩ := hq
  have HN121 := G121.2 _ _ hnow0 (ce_ne hnow0 B0.1 (Or.inl (by show 5 ≠ 16; omega)))
  have XN121 := px_hash EK X0 G121 ⟨num0, z0, le0, HN121, SN121, h3_0, h2_0⟩
  have hNM : P.f = 0 → (decide (srt Q0.k = 2) && !kwE le0 z0) = (decide (P.k = 2) && !kwB P) := fun hf => by have q := st_q hst0 hf; rw [← q] at hf ⊢; exact kw_T hf hkk0 B0.2.2.1 h2_0
  show wp Δ (d + 5) muX3_known 7 [(0, .ref E.rd), (1, .int found)] [.int (bI (decide (srt Q0.k = 2) && !kwE le0 z0))] h121 _
  obtain ⟨w121, now121, e121, ft121, fp121, Q121, X121⟩ := id (⟨_, _, _, _, _, _, XN121⟩ : PX Δ E L h121 c0 P)
  obtain ⟨hrd121, htk121, T121, ⟨he121, hQe121, hen121, hkk121⟩, hst121, hro121, hsub121, hcr121, hct121, hcp121, hcw121⟩ := id X121
  obtain ⟨num121, z121, le121, hnow121, S121, h3_121, h2_121⟩ := id T121
  obtain ⟨b121, sh121, sz121, B121⟩ := id S121
  refine gb_ne (tgt := 15) dX3_known_7 (by decide) (fun c_1 => ?_) (fun c_1 => ?_)
  ·
    have hN : P.f = 0 → (decide (P.k = 2) && !kwB P) = true := fun hf => (hNM hf).symm.trans c_1
    refine g_iload_n dX3_known_15 1 rfl ?_
    refine g_iconst (x := -1) dX3_known_16 rfl ?_
    refine g_icmp_ne (tgt := 25) dX3_known_17 (by decide) (fun c_2 => ?_) (fun c_2 => ?_)
    ·
      have hfo : ¬ found = -1 := c_2
      have hin : P.f = 0 → (decide (P.k = 2) && !kwB P) = true → inS (fnS P 13 0) lo hi = true := fun hf hnm => by cases q : inS (fnS P 13 0) lo hi with | true => rfl | false => exact absurd (by rw [hfd hf (nm_k hnm), if_neg (bf q)]) hfo
      refine g_aload_n dX3_known_25 0 rfl ?_
      refine g_callV (t_X3_isOver _ (⟨_, _, _, _, _, _, X121⟩)) (lw_V q682 q684 qs5 q129 q685) okX3_isOver (hrd121) rfl rfl rfl rfl (Nat.le_of_ble_eq_true rfl) dX3_known_26 (fun v1 h1 _ _ hq => ?_)
      obtain ⟨rfl, hh⟩ := hq
      rw [hh]
      show wp Δ (d + 5) muX3_known 29 [(0, .ref E.rd), (1, .int found)] [.int (bI (decide (¬ P.f = 0)))] h121 _
      refine gb_eq (tgt := 36) dX3_known_29 (by decide) (fun c_3 => ?_) (fun c_3 => ?_)
      ·
        have hov := ov_f c_3
        refine g_iload_n dX3_known_36 1 rfl ?_
        refine g_iret rfl dX3_known_37 ?_
        have en : ndP lo hi P = P := nd_1 hN (fun q => hin q (hN q))
        obtain ⟨z1, z2, z3, z4⟩ := ndV_1 (lo := lo) (hi := hi) (P := P) (by rw [en]; exact hov)
        exact ⟨by rw [z4, hfd z1 z2, if_pos z3], by rw [en]; exact ⟨_, _, _, _, _, _, X121⟩⟩
      ·
        have hov := ov_t c_3
        refine g_iconst (x := 0) dX3_known_32 rfl ?_
        refine g_goto (tgt := 37) dX3_known_33 (by decide) ?_
        refine g_iret rfl dX3_known_37 ?_
        have en : ndP lo hi P = P := nd_1 hN (fun q => hin q (hN q))
        exact ⟨by rw [ndV_0 (by rw [en]; exact hov)], by rw [en]; exact ⟨_, _, _, _, _, _, X121⟩⟩
    ·
      have hfo : found = -1 := c_2
      have hin : P.f = 0 → (decide (P.k = 2) && !kwB P) = true → inS (fnS P 13 0) lo hi = false := fun hf hnm => by cases q : inS (fnS P 13 0) lo hi with | false => rfl | true => exact absurd ((hfd hf (nm_k hnm)).symm.trans hfo) (by rw [if_pos q]; exact hnn q)
      refine g_aload_n dX3_known_20 0 rfl ?_
      refine g_iconst (x := 2) dX3_known_21 rfl ?_
      refine g_callV (t_X3_wrong _ EK (⟨_, _, _, _, _, _, X121⟩) 2 (by decide)) (lw_V q678 q680 qs4 q129 q681) okX3_wrong (hrd121) rfl rfl rfl rfl (Nat.le_of_ble_eq_true rfl) dX3_known_22 (fun v1 h122 _ _ hq => ?_)
      obtain ⟨rfl, Y122⟩ := hq
      show wp Δ (d + 5) muX3_known 25 [(0, .ref E.rd), (1, .int found)] [] h122 _
      obtain ⟨w122, now122, e122, ft122, fp122, Q122, X122⟩ := id Y122
      obtain ⟨hrd122, htk122, T122, ⟨he122, hQe122, hen122, hkk122⟩, hst122, hro122, hsub122, hcr122, hct122, hcp122, hcw122⟩ := id X122
      obtain ⟨num122, z122, le122, hnow122, S122, h3_122, h2_122⟩ := id T122
      obtain ⟨b122, sh122, sz122, B122⟩ := id S122
      refine g_aload_n dX3_known_25 0 rfl ?_
      refine g_callV (t_X3_isOver _ (⟨_, _, _, _, _, _, X122⟩)) (lw_V q682 q684 qs5 q129 q685) okX3_isOver (hrd122) rfl rfl rfl rfl (Nat.le_of_ble_eq_true rfl) dX3_known_26 (fun v1 h1 _ _ hq => ?_)
      obtain ⟨rfl, hh⟩ := hq
      rw [hh]
      show wp Δ (d + 5) muX3_known 29 [(0, .ref E.rd), (1, .int found)] [.int (bI (decide (¬ (wgP 2 P.a P).f = 0)))] h122 _
      refine gb_eq (tgt := 36) dX3_known_29 (by decide) (fun c_4 => ?_) (fun c_4 => ?_)
      ·
        have hov := ov_f c_4
        refine g_iload_n dX3_known_36 1 rfl ?_
        refine g_iret rfl dX3_known_37 ?_
        have en : ndP lo hi P = wgP 2 P.a P := nd_2 hN (fun q => hin q (hN q))
        obtain ⟨z1, z2, z3, z4⟩ := ndV_1 (lo := lo) (hi := hi) (P := P) (by rw [en]; exact hov)
        exact ⟨by rw [z4, hfd z1 z2, if_pos z3], by rw [en]; exact ⟨_, _, _, _, _, _, X122⟩⟩
      ·
        have hov := ov_t c_4
        refine g_iconst (x := 0) dX3_known_32 rfl ?_
        refine g_goto (tgt := 37) dX3_known_33 (by decide) ?_
        refine g_iret rfl dX3_known_37 ?_
        have en : ndP lo hi P = wgP 2 P.a P := nd_2 hN (fun q => hin q (hN q))
        exact ⟨by rw [ndV_0 (by rw [en]; exact hov)], by rw [en]; exact ⟨_, _, _, _, _, _, X122⟩⟩
  ·
    have hN : P.f = 0 → (decide (P.k = 2) && !kwB P) = false := fun hf => (hNM hf).symm.trans c_1
    refine g_aload_n dX3_known_10 0 rfl ?_
    refine g_iconst (x := 1) dX3_known_11 rfl ?_
    refine g_callV (t_X3_wrong _ EK (⟨_, _, _, _, _, _, X121⟩) 1 (by decide)) (lw_V q678 q680 qs4 q129 q681) okX3_wrong (hrd121) rfl rfl rfl rfl (Nat.le_of_ble_eq_true rfl) dX3_known_12 (fun v1 h123 _ _ hq => ?_)
    obtain ⟨rfl, Y123⟩ := hq
    show wp Δ (d + 5) muX3_known 15 [(0, .ref E.rd), (1, .int found)] [] h123 _
    obtain ⟨w123, now123, e123, ft123, fp123, Q123, X123⟩ := id Y123
    obtain ⟨hrd123, htk123, T123, ⟨he123, hQe123, hen123, hkk123⟩, hst123, hro123, hsub123, hcr123, hct123, hcp123, hcw123⟩ := id X123
    obtain ⟨num123, z123, le123, hnow123, S123, h3_123, h2_123⟩ := id T123
    obtain ⟨b123, sh123, sz123, B123⟩ := id S123
    refine g_iload_n dX3_known_15 1 rfl ?_
    refine g_iconst (x := -1) dX3_known_16 rfl ?_
    refine g_icmp_ne (tgt := 25) dX3_known_17 (by decide) (fun c_5 => ?_) (fun c_5 => ?_)
    ·
      have hfo : ¬ found = -1 := c_5
      have hin : P.f = 0 → (decide (P.k = 2) && !kwB P) = true → inS (fnS P 13 0) lo hi = true := fun hf hnm => by cases q : inS (fnS P 13 0) lo hi with | true => rfl | false => exact absurd (by rw [hfd hf (nm_k hnm), if_neg (bf q)]) hfo
      refine g_aload_n dX3_known_25 0 rfl ?_
      refine g_callV (t_X3_isOver _ (⟨_, _, _, _, _, _, X123⟩)) (lw_V q682 q684 qs5 q129 q685) okX3_isOver (hrd123) rfl rfl rfl rfl (Nat.le_of_ble_eq_true rfl) dX3_known_26 (fun v1 h1 _ _ hq => ?_)
      obtain ⟨rfl, hh⟩ := hq
      rw [hh]
      show wp Δ (d + 5) muX3_known 29 [(0, .ref E.rd), (1, .int found)] [.int (bI (decide (¬ (wgP 1 P.a P).f = 0)))] h123 _
      refine gb_eq (tgt := 36) dX3_known_29 (by decide) (fun c_6 => ?_) (fun c_6 => ?_)
      ·
        have hov := ov_f c_6
        refine g_iload_n dX3_known_36 1 rfl ?_
        refine g_iret rfl dX3_known_37 ?_
        have en : ndP lo hi P = wgP 1 P.a P := nd_3 hN
        obtain ⟨z1, z2, z3, z4⟩ := ndV_1 (lo := lo) (hi := hi) (P := P) (by rw [en]; exact hov)
        exact ⟨by rw [z4, hfd z1 z2, if_pos z3], by rw [en]; exact ⟨_, _, _, _, _, _, X123⟩⟩
      ·
        have hov := ov_t c_6
        refine g_iconst (x := 0) dX3_known_32 rfl ?_
        refine g_goto (tgt := 37) dX3_known_33 (by decide) ?_
        refine g_iret rfl dX3_known_37 ?_
        have en : ndP lo hi P = wgP 1 P.a P := nd_3 hN
        exact ⟨by rw [ndV_0 (by rw [en]; exact hov)], by rw [en]; exact ⟨_, _, _, _, _, _, X123⟩⟩
    ·
      have hfo : found = -1 := c_5
      have hin : P.f = 0 → (decide (P.k = 2) && !kwB P) = true → inS (fnS P 13 0) lo hi = false := fun hf hnm => by cases q : inS (fnS P 13 0) lo hi with | false => rfl | true => exact absurd ((hfd hf (nm_k hnm)).symm.trans hfo) (by rw [if_pos q]; exact hnn q)
      refine g_aload_n dX3_known_20 0 rfl ?_
      refine g_iconst (x := 2) dX3_known_21 rfl ?_
      refine g_callV (t_X3_wrong _ EK (⟨_, _, _, _, _, _, X123⟩) 2 (by decide)) (lw_V q678 q680 qs4 q129 q681) okX3_wrong (hrd123) rfl rfl rfl rfl (Nat.le_of_ble_eq_true rfl) dX3_known_22 (fun v1 h124 _ _ hq => ?_)
      obtain ⟨rfl, Y124⟩ := hq
      show wp Δ (d + 5) muX3_known 25 [(0, .ref E.rd), (1, .int found)] [] h124 _
      obtain ⟨w124, now124, e124, ft124, fp124, Q124, X124⟩ := id Y124
      obtain ⟨hrd124, htk124, T124, ⟨he124, hQe124, hen124, hkk124⟩, hst124, hro124, hsub124, hcr124, hct124, hcp124, hcw124⟩ := id X124
      obtain ⟨num124, z124, le124, hnow124, S124, h3_124, h2_124⟩ := id T124
      obtain ⟨b124, sh124, sz124, B124⟩ := id S124
      refine g_aload_n dX3_known_25 0 rfl ?_
      refine g_callV (t_X3_isOver _ (⟨_, _, _, _, _, _, X124⟩)) (lw_V q682 q684 qs5 q129 q685) okX3_isOver (hrd124) rfl rfl rfl rfl (Nat.le_of_ble_eq_true rfl) dX3_known_26 (fun v1 h1 _ _ hq => ?_)
      obtain ⟨rfl, hh⟩ := hq
      rw [hh]
      show wp Δ (d + 5) muX3_known 29 [(0, .ref E.rd), (1, .int found)] [.int (bI (decide (¬ (wgP 2 (wgP 1 P.a P).a (wgP 1 P.a P)).f = 0)))] h124 _
      refine gb_eq (tgt := 36) dX3_known_29 (by decide) (fun c_7 => ?_) (fun c_7 => ?_)
      ·
        have hov := ov_f c_7
        refine g_iload_n dX3_known_36 1 rfl ?_
        refine g_iret rfl dX3_known_37 ?_
        have en : ndP lo hi P = wgP 2 (wgP 1 P.a P).a (wgP 1 P.a P) := (nd_3 hN).trans (wg_n f_wgN).symm
        obtain ⟨z1, z2, z3, z4⟩ := ndV_1 (lo := lo) (hi := hi) (P := P) (by rw [en]; exact hov)
        exact ⟨by rw [z4, hfd z1 z2, if_pos z3], by rw [en]; exact ⟨_, _, _, _, _, _, X124⟩⟩
      ·
        have hov := ov_t c_7
        refine g_iconst (x := 0) dX3_known_32 rfl ?_
        refine g_goto (tgt := 37) dX3_known_33 (by decide) ?_
        refine g_iret rfl dX3_known_37 ?_
        have en : ndP lo hi P = wgP 2 (wgP 1 P.a P).a (wgP 1 P.a P) := (nd_3 hN).trans (wg_n f_wgN).symm
        exact ⟨by rw [ndV_0 (by rw [en]; exact hov)], by rw [en]; exact ⟨_, _, _, _, _, _, X124⟩⟩
set_option maxRecDepth 100000 in
theorem t_X3_knownHouse {Δ : Cx} {h : Hp} (d : Nat) {E : Ev} {L : Nat} {c0 : Nat → Option Cel} {P : Pk} (EK : EOK Δ E) (X : PX Δ E L h c0 P) {EL cp cnt : Nat → Nat} {el : Nat → Nat → Nat} {np nf : Nat} (G : GP Δ E c0 P.fr EL cp cnt el) (I : LIq (cnt 0) (cnt 1) (cnt 2) (cnt 3) np nf 13 P.fr) (EO : eOk E.n P) : mt Δ (d + 6) muX3_knownHouse [.ref E.rd] h (fun v h' => v = some (.int (ndV 0 3 P)) ∧ PX Δ E L h' c0 (ndP 0 3 P)) := by
  obtain ⟨w0, now0, e0, ft0, fp0, Q0, X0⟩ := id X
  obtain ⟨hrd0, htk0, T0, ⟨he0, hQe0, hen0, hkk0⟩, hst0, hro0, hsub0, hcr0, hct0, hcp0, hcw0⟩ := id X0
  obtain ⟨num0, z0, le0, hnow0, S0, h3_0, h2_0⟩ := id T0
  obtain ⟨b0, sh0, sz0, B0⟩ := id S0
  refine mt_of (lv0 := [(0, .ref E.rd)]) rfl rfl (Nat.le_of_ble_eq_true rfl) rfl ?_
  refine g_aload_n dX3_knownHouse_0 0 rfl ?_
  refine g_aload_n dX3_knownHouse_1 0 rfl ?_
  refine gh_get (x := .ref E.rg) f_2_1 q579 (hrd0) dX3_knownHouse_2 rfl ?_
  refine g_aload_n dX3_knownHouse_5 0 rfl ?_
  refine gh_get (x := .ref now0) f_2_2 q580 (hrd0) dX3_knownHouse_6 rfl ?_
  refine gh_get (x := .ref w0) f_5_3 q378 (hnow0) dX3_knownHouse_9 rfl ?_
  refine g_callV (t_X5_house _ (hsub0 _ _ G.1) rfl ((LX.al (G.2.2.2.1 1 (by omega))).mono hsub0) (fun i hi => ho_ex hsub0 (gp_h G i hi)) S0.tx S0.z8) (lw_V q763 q764 q765 q131 q766) okX5_house (hsub0 _ _ G.1) rfl rfl rfl rfl (Nat.le_of_ble_eq_true rfl) dX3_knownHouse_12 (fun v1 h1 _ _ hq => ?_)
  obtain ⟨rfl, hh⟩ := hq
  rw [hh]
  show wp Δ (d + 6) muX3_knownHouse 15 [(0, .ref E.rd)] [.int (fdB (fun i => nmE P.fr (0 + i) le0 z0) (cnt 1) 0), .ref E.rd] h _
  refine g_callV (t_X3_known _ EK (⟨_, _, _, _, _, _, X0⟩) _ 0 3 (fun hf hk => by have q := st_q hst0 hf; obtain ⟨y1, y2⟩ := h2_0 (by rw [q]; exact hk); rw [q] at y1 y2; exact (fd_P EO hk B0.2.2.1 y1 y2).trans (fn_h I)) (fun q => (fn_pos (lo := 0) (hi := 3) (by omega) q).2)) (lw_V q970 q972 qs22 q129 q973) okX3_known (hrd0) rfl rfl rfl rfl (Nat.le_of_ble_eq_true rfl) dX3_knownHouse_15 (fun v1 h125 _ _ hq => ?_)
  obtain ⟨rfl, Y125⟩ := hq
  show wp Δ (d + 6) muX3_knownHouse 18 [(0, .ref E.rd)] [.int (ndV 0 3 P)] h125 _
  obtain ⟨w125, now125, e125, ft125, fp125, Q125, X125⟩ := id Y125
  obtain ⟨hrd125, htk125, T125, ⟨he125, hQe125, hen125, hkk125⟩, hst125, hro125, hsub125, hcr125, hct125, hcp125, hcw125⟩ := id X125
  obtain ⟨num125, z125, le125, hnow125, S125, h3_125, h2_125⟩ := id T125
  obtain ⟨b125, sh125, sz125, B125⟩ := id S125
  refine g_iret rfl dX3_knownHouse_18 ?_
  exact ⟨rfl, Y125⟩
set_option maxRecDepth 100000 in
theorem t_X3_knownLodger {Δ : Cx} {h : Hp} (d : Nat) {E : Ev} {L : Nat} {c0 : Nat → Option Cel} {P : Pk} (EK : EOK Δ E) (X : PX Δ E L h c0 P) {EL cp cnt : Nat → Nat} {el : Nat → Nat → Nat} {np nf : Nat} (G : GP Δ E c0 P.fr EL cp cnt el) (I : LIq (cnt 0) (cnt 1) (cnt 2) (cnt 3) np nf 13 P.fr) (EO : eOk E.n P) : mt Δ (d + 6) muX3_knownLodger [.ref E.rd] h (fun v h' => v = some (.int (ndV 8 12 P)) ∧ PX Δ E L h' c0 (ndP 8 12 P)) := by
  obtain ⟨w0, now0, e0, ft0, fp0, Q0, X0⟩ := id X
  obtain ⟨hrd0, htk0, T0, ⟨he0, hQe0, hen0, hkk0⟩, hst0, hro0, hsub0, hcr0, hct0, hcp0, hcw0⟩ := id X0
  obtain ⟨num0, z0, le0, hnow0, S0, h3_0, h2_0⟩ := id T0
  obtain ⟨b0, sh0, sz0, B0⟩ := id S0
  refine mt_of (lv0 := [(0, .ref E.rd)]) rfl rfl (Nat.le_of_ble_eq_true rfl) rfl ?_
  refine g_aload_n dX3_knownLodger_0 0 rfl ?_
  refine g_aload_n dX3_knownLodger_1 0 rfl ?_
  refine gh_get (x := .ref E.rg) f_2_1 q579 (hrd0) dX3_knownLodger_2 rfl ?_
  refine g_aload_n dX3_knownLodger_5 0 rfl ?_
  refine gh_get (x := .ref now0) f_2_2 q580 (hrd0) dX3_knownLodger_6 rfl ?_
  refine gh_get (x := .ref w0) f_5_3 q378 (hnow0) dX3_knownLodger_9 rfl ?_
  refine g_callV (t_X5_lodger _ (hsub0 _ _ G.1) rfl ((LX.al (G.2.2.2.1 2 (by omega))).mono hsub0) (fun i hi => lo_ex hsub0 (gp_l G i hi)) S0.tx S0.z8) (lw_V q768 q769 q770 q131 q771) okX5_lodger (hsub0 _ _ G.1) rfl rfl rfl rfl (Nat.le_of_ble_eq_true rfl) dX3_knownLodger_12 (fun v1 h1 _ _ hq => ?_)
  obtain ⟨rfl, hh⟩ := hq
  rw [hh]
  show wp Δ (d + 6) muX3_knownLodger 15 [(0, .ref E.rd)] [.int (fdB (fun i => nmE P.fr (8 + i) le0 z0) (cnt 2) 0), .ref E.rd] h _
  refine g_callV (t_X3_known _ EK (⟨_, _, _, _, _, _, X0⟩) _ 8 12 (fun hf hk => by have q := st_q hst0 hf; obtain ⟨y1, y2⟩ := h2_0 (by rw [q]; exact hk); rw [q] at y1 y2; exact (fd_P EO hk B0.2.2.1 y1 y2).trans (fn_l I)) (fun q => (fn_pos (lo := 8) (hi := 12) (by omega) q).2)) (lw_V q970 q972 qs22 q129 q973) okX3_known (hrd0) rfl rfl rfl rfl (Nat.le_of_ble_eq_true rfl) dX3_knownLodger_15 (fun v1 h126 _ _ hq => ?_)
  obtain ⟨rfl, Y126⟩ := hq
  show wp Δ (d + 6) muX3_knownLodger 18 [(0, .ref E.rd)] [.int (ndV 8 12 P)] h126 _
  obtain ⟨w126, now126, e126, ft126, fp126, Q126, X126⟩ := id Y126
  obtain ⟨hrd126, htk126, T126, ⟨he126, hQe126, hen126, hkk126⟩, hst126, hro126, hsub126, hcr126, hct126, hcp126, hcw126⟩ := id X126
  obtain ⟨num126, z126, le126, hnow126, S126, h3_126, h2_126⟩ := id T126
  obtain ⟨b126, sh126, sz126, B126⟩ := id S126
  refine g_iret rfl dX3_knownLodger_18 ?_
  exact ⟨rfl, Y126⟩
