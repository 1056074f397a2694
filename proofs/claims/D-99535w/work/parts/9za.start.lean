theorem px_start {Δ : Cx} {E : Ev} {h h2 : Hp} {P : Pk} (EK : EOK Δ E) (hf : P.f = 0) (he : P.e = nI 0) {a w2 : Nat} {W : Nat → Prop} {fp : Int32} (hW : ∀ b, W b → b = E.rd ∨ b = E.tk) (hw : w2 = cT Δ 0 ∨ h.1 ≤ w2) (F : Fr Δ W (if (nxP E.t E.n P).k = 0 then 1 else 5) (if (nxP E.t E.n P).k = 0 then 4 else 40) h h2)
    (hrd : ce Δ h2 E.rd = some (2, 0, ob [.ref E.tk, .ref E.rg, .ref a, .int 0, .int fp])) (htk : ce Δ h2 E.tk = some (3, 0, ob [.ref E.tp, .int (nI E.n), .int (nxP E.t E.n P).e])) (T : TokR Δ (ce Δ h2) a w2 (nxP E.t E.n P))
    (hp : ce Δ h E.tp = some (102, 900, fun j => .int (E.tt j))) (ht1 : E.tp ≠ E.rd) (ht2 : E.tp ≠ E.tk) (hb : h.1 ≤ E.b) (hs : h.2.1 ≤ E.s) : PX Δ E 0 h2 (oldc Δ E h) (nxP E.t E.n P) := by
  obtain ⟨⟨g1, g2, g3, g4⟩, g5⟩ := F
  have hc1 : oldc Δ E h E.rd = none := if_pos (Or.inl rfl)
  have hc2 : oldc Δ E h E.tk = none := if_pos (Or.inr rfl)
  have hc3 : oldc Δ E h E.tp = some (102, 900, fun j => .int (E.tt j)) := (if_neg (by rintro (q | q); exact ht1 q; exact ht2 q)).trans hp
  have sub0 : ∀ b x, oldc Δ E h b = some x → ce Δ h b = some x := fun b x q => by
    by_cases c : b = E.rd ∨ b = E.tk
    · rw [show oldc Δ E h b = none from if_pos c] at q; cases q
    · exact (show oldc Δ E h b = ce Δ h b from if_neg c).symm.trans q
  have hsub : Sub (oldc Δ E h) (ce Δ h2) := fun b x q => g5 b x (sub0 b x q) (fun z => by
      rcases hW b z with z | z
      · rw [z, hc1] at q; cases q
      · rw [z, hc2] at q; cases q)
  have hw2 : w2 = cT Δ 0 ∨ oldc Δ E h w2 = none := by
    rcases hw with q | q
    · exact Or.inl q
    · cases c : oldc Δ E h w2 with
      | none => exact Or.inr rfl
      | some x => have := ce_lt (sub0 _ _ c); omega
  have en := EK.1
  have G0 : eG E.n 0 P := ⟨0, Nat.le_refl _, Nat.zero_le _, he⟩
  obtain ⟨e', q1, q2, q3⟩ := eG_nx (t := E.t) en G0
  have ee : (nxP E.t E.n P).k = 0 → e' = E.n ∧ (nxP E.t E.n P).a = nI E.n := fun z => by
    obtain ⟨z1, z2⟩ := nx_end EK.2.2.2.1 en (Nat.zero_le _) he z
    exact ⟨(nI_eq (by omega) (by omega)).mp (q3.symm.trans z1), z2⟩
  rw [q3] at htk
  refine ⟨w2, a, e', 0, fp, nxP E.t E.n P, hrd, htk, T, ⟨q2, q3, ee, tk_nx⟩, Or.inl ⟨f_nx.trans hf, rfl, rfl⟩, ?_, hsub, hc1, hc2, hc3, hw2⟩
  by_cases c : (nxP E.t E.n P).k = 0
  · rw [if_pos c] at g2 g4
    exact ⟨⟨by omega, by omega⟩, fun q => absurd c q⟩
  · rw [if_neg c] at g2 g4
    obtain ⟨e2, p1, p2, p3⟩ := eG_ns (t := E.t) en G0 c
    have : e2 = e' := (nI_eq (by omega) (by omega)).mp (p3.symm.trans q3)
    exact ⟨⟨by omega, by omega⟩, fun _ => ⟨by omega, by omega⟩⟩
set_option maxRecDepth 100000 in
theorem t_X3_init {Δ : Cx} {h : Hp} (d : Nat) {E : Ev} {P : Pk} (EK : EOK Δ E) (hf : P.f = 0) (he : P.e = nI 0) (ho : ce Δ h E.rd = some (2, 0, ob [.null, .null, .null, .int 0, .int 0])) (hk : ce Δ h E.tk = some (3, 0, ob [.ref E.tp, .int (nI E.n), .int (nI 0)])) (hp : ce Δ h E.tp = some (102, 900, fun j => .int (E.tt j))) (hg : h.1 = E.rg) (hb : h.1 + 6 ≤ E.b) (hs : h.2.1 + 28 ≤ E.s) : mt Δ (d + 8) muX3_init [.ref E.rd, .ref E.tk] h (fun v h' => v = none ∧ ∃ c0, PX Δ E 0 h' c0 (nxP E.t E.n P) ∧ (∀ b x, ce Δ h b = some x → b ≠ E.rd → b ≠ E.tk → c0 b = some x) ∧ c0 E.rg = some (4, 0, ob [.int 0, .int 0, .int 0, .int 0, .int 0, .int 0, .int 0, .ref (E.rg + 1), .ref (E.rg + 2), .ref (E.rg + 3), .ref (E.rg + 4), .ref (E.rg + 5)]) ∧ c0 (E.rg + 1) = some (100, 4, fun _ => .int 0) ∧ c0 (E.rg + 2) = some (14, 0, ob [.int 0, .ref (cT Δ 99), .int 0]) ∧ c0 (E.rg + 3) = some (14, 0, ob [.int 0, .ref (cT Δ 99), .int 0]) ∧ c0 (E.rg + 4) = some (14, 0, ob [.int 0, .ref (cT Δ 99), .int 0]) ∧ c0 (E.rg + 5) = some (14, 0, ob [.int 0, .ref (cT Δ 99), .int 0])) := by
  have lrd := ce_lt ho; have ltk := ce_lt hk; have ltp := ce_lt hp; have nrd := EK.2.1; have nrg := EK.2.2.2.2.2.2; have ntk0 := EK.2.2.1; have ntk : E.tk ≠ E.rd := ce_ne hk ho (Or.inl (by show 3 ≠ 2; omega)); have ntp : E.rd ≠ E.tp := ce_ne ho hp (Or.inl (by show 2 ≠ 102; omega)); have ntp2 : E.tk ≠ E.tp := ce_ne hk hp (Or.inl (by show 3 ≠ 102; omega))
  refine mt_of (lv0 := [(0, .ref E.rd), (1, .ref E.tk)]) rfl rfl (Nat.le_of_ble_eq_true rfl) rfl ?_
  refine g_aload_n dX3_init_0 0 rfl ?_
  refine g_objInit q286 q162 q163 (Nat.le_of_ble_eq_true rfl) dX3_init_1 ?_
  refine g_aload_n dX3_init_4 0 rfl ?_
  refine g_new (f := ob [.int 0, .int 0, .int 0, .int 0, .int 0, .int 0, .int 0, .null, .null, .null, .null, .null]) k_4 df_4 q287 q288 q131 dX3_init_5 (fun n380 => ?_)
  refine wp_new (Fr.refl (fun b => b = E.rd) _) n380 (fun u380 F380 z380 c380 k380 => ?_)
  refine g_dup dX3_init_8 rfl ?_
  refine g_callIN (t_X5_init _ (h.1) (c380) (by omega) (by omega)) (lw_meth q291) rfl q289 q131 q290 rfl okX5_init rfl rfl (Nat.le_of_ble_eq_true rfl) dX3_init_9 (fun v1 h381 _ _ hq => ?_)
  obtain ⟨rfl, G381, r381_0, r381_1, r381_2, r381_3, r381_4, r381_5⟩ := hq
  have zz381 := G381.1
  have F381 := F380.tr G381 (fun b hb q => absurd hb (by have q : b = _ := q; omega))
  show wp Δ (d + 8) muX3_init 12 [(0, .ref E.rd), (1, .ref E.tk)] [.ref h.1, .ref E.rd] h381 _
  refine gh_putF (f2 := ob [.null, .ref h.1, .null, .int 0, .int 0]) f_2_1 q579 (G381.2 _ _ (k380 _ _ (ho)) (fun q => by have q : _ = h.1 := q; omega)) (by omega) rfl rfl dX3_init_12 rfl rfl (ob_u [.null, .null, .null, .int 0, .int 0] 1 (.ref h.1) (Nat.le_of_ble_eq_true rfl)) ?_
  refine wp_put F381 (fun q => by first | exact absurd q (by omega) | exact Or.inl rfl | exact Or.inr rfl | exact Or.inr (Or.inl rfl) | exact Or.inr (Or.inr rfl) | exact Or.inr ⟨rfl, by omega⟩ | exact rfl | (simp only []; omega)) (G381.2 _ _ (k380 _ _ (ho)) (fun q => by have q : _ = h.1 := q; omega)) (by omega) (fun u382 F382 z382 c382 k382 => ?_)
  refine g_aload_n dX3_init_15 0 rfl ?_
  refine g_aload_n dX3_init_16 1 rfl ?_
  refine gh_putF (f2 := ob [.ref E.tk, .ref h.1, .null, .int 0, .int 0]) f_2_0 q578 (c382) (by omega) rfl rfl dX3_init_17 rfl rfl (ob_u [.null, .ref h.1, .null, .int 0, .int 0] 0 (.ref E.tk) (Nat.le_of_ble_eq_true rfl)) ?_
  refine wp_put F382 (fun q => by first | exact absurd q (by omega) | exact Or.inl rfl | exact Or.inr rfl | exact Or.inr (Or.inl rfl) | exact Or.inr (Or.inr rfl) | exact Or.inr ⟨rfl, by omega⟩ | exact rfl | (simp only []; omega)) (c382) (by omega) (fun u383 F383 z383 c383 k383 => ?_)
  refine g_aload_n dX3_init_20 0 rfl ?_
  refine g_aload_n dX3_init_21 1 rfl ?_
  refine g_callV (t_X4_next _ (P := P) (k383 _ _ (k382 _ _ (G381.2 _ _ (k380 _ _ (hk)) (fun q => by have q : _ = h.1 := q; omega)) (by omega)) (by omega)) (k383 _ _ (k382 _ _ (G381.2 _ _ (k380 _ _ (hp)) (fun q => by have q : _ = h.1 := q; omega)) (by omega)) (by omega)) EK.2.2.2.1 EK.1 (Nat.zero_le _) he EK.2.2.1 EK.2.2.2.2.2.1) (lw_V q356 q357 q358 q130 q359) okX4_next (k383 _ _ (k382 _ _ (G381.2 _ _ (k380 _ _ (hk)) (fun q => by have q : _ = h.1 := q; omega)) (by omega)) (by omega)) rfl rfl rfl rfl (Nat.le_of_ble_eq_true rfl) dX3_init_22 (fun v1 h384 _ _ hq => ?_)
  obtain ⟨na, nw2, rfl, hna, hnw, G384, ntk2, NT⟩ := hq
  have hrdN := G384.2 _ _ (c383) ntk.symm
  have F384 : Fr Δ (fun b => b = E.rd ∨ b = E.tk) _ _ u383 h384 := G384.le (Nat.le_refl _) (Nat.le_refl _) (fun _ _ q => Or.inr q)
  show wp Δ (d + 8) muX3_init 25 [(0, .ref E.rd), (1, .ref E.tk)] [.ref na, .ref E.rd] h384 _
  refine gh_put (f2 := ob [.ref E.tk, .ref h.1, .ref na, .int 0, .int 0]) f_2_2 q580 (hrdN) (by omega) dX3_init_25 rfl rfl (ob_u [.ref E.tk, .ref h.1, .null, .int 0, .int 0] 2 (.ref na) (Nat.le_of_ble_eq_true rfl)) ?_
  refine wp_put F384 (fun q => by first | exact absurd q (by omega) | exact Or.inl rfl | exact Or.inr rfl | exact Or.inr (Or.inl rfl) | exact Or.inr (Or.inr rfl) | exact Or.inr ⟨rfl, by omega⟩ | exact rfl | (simp only []; omega)) (hrdN) (by omega) (fun u385 F385 z385 c385 k385 => ?_)
  refine g_vret rfl dX3_init_28 ?_
  have kk9 : ∀ b x, ce Δ h b = some x → b ≠ E.rd → ce Δ u383 b = some x := fun b x q n => F383.2 b x q n
  have zb9 := F383.1
  have hrd9 := c385
  rw [hg] at hrd9
  have f0 := k383 _ _ (k382 _ _ (r381_0) (by omega)) (by omega)
  rw [hg] at f0
  have f1 := k383 _ _ (k382 _ _ (r381_1) (by omega)) (by omega)
  rw [hg] at f1
  have f2 := k383 _ _ (k382 _ _ (r381_2) (by omega)) (by omega)
  rw [hg] at f2
  have f3 := k383 _ _ (k382 _ _ (r381_3) (by omega)) (by omega)
  rw [hg] at f3
  have f4 := k383 _ _ (k382 _ _ (r381_4) (by omega)) (by omega)
  rw [hg] at f4
  have f5 := k383 _ _ (k382 _ _ (r381_5) (by omega)) (by omega)
  rw [hg] at f5
  have YY := px_start EK hf he (fun _ q => q) hnw F385 hrd9 (k385 _ _ (ntk2) (by omega)) (NT.kp (fun b x q n2 _ => k385 _ _ q (fun z => n2 (by rw [z, hrdN] at q; rw [← Option.some.inj q])))) (k383 _ _ (k382 _ _ (G381.2 _ _ (k380 _ _ (hp)) (fun q => by have q : _ = h.1 := q; omega)) (by omega)) (by omega)) ntp.symm ntp2.symm (by omega) (by omega)
  have lt9 : E.rd < E.rg ∧ E.tk < E.rg := by omega
  refine ⟨rfl, _, YY, fun b x q n1 n2 => (if_neg (by rintro (z | z); exact n1 z; exact n2 z)).trans (kk9 b x q n1), (if_neg (by omega)).trans f0, (if_neg (by omega)).trans f1, (if_neg (by omega)).trans f2, (if_neg (by omega)).trans f3, (if_neg (by omega)).trans f4, (if_neg (by omega)).trans f5⟩
