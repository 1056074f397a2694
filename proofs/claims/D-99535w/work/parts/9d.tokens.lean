theorem df_5 : ∀ k, k < 4 → defaultValue (tyX6 k) = ob [.int 0, .int 0, .int 0, .null] k := by
  intro k hk
  rcases k with _ | _ | _ | _ | k <;> first | rfl | omega
theorem a255 (x : Int32) : ∃ q : Nat, q < 256 ∧ x &&& 255 = nI q := by
  refine ⟨(x &&& 255).toBitVec.toNat, ?_, ?_⟩
  · have : (x &&& 255).toBitVec = x.toBitVec &&& (255#32) := rfl
    rw [this, BitVec.toNat_and]
    exact Nat.lt_of_le_of_lt Nat.and_le_right (by decide)
  · apply Int32.toBitVec_inj.mp
    apply BitVec.eq_of_toNat_eq
    show _ = (BitVec.ofNat 32 _).toNat
    rw [BitVec.toNat_ofNat, Nat.mod_eq_of_lt (x &&& 255).toBitVec.isLt]
abbrev tOk (tt t : Nat → Int32) : Prop := ∀ j, tt j &&& 255 = t j
theorem t255 {tt t : Nat → Int32} (hT : tOk tt t) (j : Nat) : ∃ q : Nat, q < 256 ∧ t j = nI q := by
  obtain ⟨q, h1, h2⟩ := a255 (tt j)
  exact ⟨q, h1, (hT j).symm.trans h2⟩
theorem se_ne {tt t : Nat → Int32} (hT : tOk tt t) {n k : Nat} (hk : k < n) : ¬ seT t n k = -1 := by
  unfold seT
  rw [if_pos hk]
  obtain ⟨q, h1, h2⟩ := t255 hT k
  rw [h2]
  intro e
  have : (0 : Int32) ≤ nI q := nI_pos' (by omega)
  rw [e] at this
  exact absurd this (by decide)
theorem se_at {t : Nat → Int32} {n k : Nat} (hk : k < n) : seT t n k = t k := if_pos hk
theorem in_sm (c : Int32) : inS c 97 122 = smB c := by unfold inS smB; exact Bool.decide_and _ _
theorem in_dg (c : Int32) : inS c 48 57 = dgB c := by unfold inS dgB; exact Bool.decide_and _ _
theorem sm_q {c : Int32} (h : smB c = true) {q : Nat} (hq : q < 256) (e : c = nI q) : q < 128 := by
  unfold smB at h
  rw [Bool.and_eq_true] at h
  have := of_decide_eq_true h.2
  rw [e] at this
  have := (nI_leI (a := q) (b := 122) (by omega) (by omega)).mp this
  omega
theorem c16 {q : Nat} (h : q < 128) : ((nI q).toUInt32 % 65536).toInt32 = nI q := by
  have : ∀ q : Fin 128, ((nI q.val).toUInt32 % 65536).toInt32 = nI q.val := by decide +kernel
  exact this ⟨q, h⟩
/-- the sort of a token in RoofRegatta's numbers -/
def srt (k : Int32) : Int32 := if k = 0 then 1 else if k = 1 then 0 else if k = 59 then 4 else k
theorem srt_0 : srt 0 = 1 := by decide
theorem srt_1 : srt 1 = 0 := by decide
theorem srt_2 : srt 2 = 2 := by decide
theorem srt_3 : srt 3 = 3 := by decide
theorem srt_59 : srt 59 = 4 := by decide
/-- a token at a, its word at w -/
def TokR (Δ : Cx) (c : Nat → Option Cel) (a w : Nat) (P : Pk) : Prop := ∃ (num : Int32) (z : Nat) (le : Nat → Int32), c a = some (5, 0, ob [.int (srt P.k), .int P.a, .int num, .ref w]) ∧ ST Δ c w z le ∧ (P.k = 3 → num = P.w) ∧ (P.k = 2 → P.z = nI z ∧ ∀ j, j < z → le j = P.le j)
def TK0 (Δ : Cx) : Prop := ∃ (b : Nat) (f : Nat → Int32), cT Δ 0 < n0 Δ ∧ b < n0 Δ ∧ cK Δ (cT Δ 0) = some (16, 0, ob [.ref b, .int 0, .int 0, .int 1]) ∧ cK Δ b = some (102, 0, fun j => .int (f j))
theorem st_0 {Δ : Cx} {h : Hp} (K0 : TK0 Δ) (hn : n0 Δ ≤ h.1) : ∃ f, ST Δ (ce Δ h) (cT Δ 0) 0 f := by
  obtain ⟨b, f, h1, h2, h3, h4⟩ := K0
  exact ⟨f, b, 0, 1, (ce_c hn h1).trans h3, (ce_c hn h2).trans h4, by omega, fun j hj => absurd hj (by omega), ⟨fun q => absurd rfl q, fun _ _ => rfl⟩, Or.inr (Or.inr (by decide))⟩
theorem tokr_e {Δ : Cx} {h : Hp} {a : Nat} {Q : Pk} {s p num : Int32} (K0 : TK0 Δ) (hn : n0 Δ ≤ h.1) (h1 : ce Δ h a = some (5, 0, ob [.int s, .int p, .int num, .ref (cT Δ 0)])) (hs : s = srt Q.k) (hp : p = Q.a) (h3 : Q.k = 3 → num = Q.w) (h2 : ¬ Q.k = 2) : TokR Δ (ce Δ h) a (cT Δ 0) Q := by
  obtain ⟨f, S⟩ := st_0 K0 hn
  subst hs
  subst hp
  exact ⟨num, 0, f, h1, S, h3, fun q => absurd q h2⟩
theorem tokr_w {Δ : Cx} {c : Nat → Option Cel} {a w z : Nat} {le : Nat → Int32} {Q : Pk} {s p num : Int32} (h1 : c a = some (5, 0, ob [.int s, .int p, .int num, .ref w])) (hs : s = srt Q.k) (hp : p = Q.a) (S : ST Δ c w z le) (h3 : ¬ Q.k = 3) (h2 : Q.k = 2 → Q.z = nI z ∧ ∀ j, j < z → le j = Q.le j) : TokR Δ c a w Q := by
  subst hs
  subst hp
  exact ⟨num, z, le, h1, S, fun q => absurd q h3, h2⟩
/-- what next() leaves -/
def NX (Δ : Cx) (tk tp n : Nat) (h : Hp) (Q : Pk) (v : Option Value) (h1 : Hp) : Prop := ∃ a w : Nat, v = some (.ref a) ∧ h.1 ≤ a ∧ (w = cT Δ 0 ∨ h.1 ≤ w) ∧ Fr Δ (fun b => b = tk) (if Q.k = 0 then 1 else 5) (if Q.k = 0 then 4 else 40) h h1 ∧ ce Δ h1 tk = some (3, 0, ob [.ref tp, .int (nI n), .int Q.e]) ∧ TokR Δ (ce Δ h1) a w Q
theorem nxe {Δ : Cx} {tk tp n kk ss : Nat} {h h1 : Hp} {R Q : Pk} {a w : Nat} (e : R = Q) (F : Fr Δ (fun b => b = tk) kk ss h h1) (hl : (Q.k = 0 ∧ kk ≤ 1 ∧ ss ≤ 4) ∨ (¬ Q.k = 0 ∧ kk ≤ 5 ∧ ss ≤ 40)) (ha : h.1 ≤ a) (hw : w = cT Δ 0 ∨ h.1 ≤ w) (hk : ce Δ h1 tk = some (3, 0, ob [.ref tp, .int (nI n), .int Q.e])) (T : TokR Δ (ce Δ h1) a w Q) : NX Δ tk tp n h R (some (.ref a)) h1 := by
  subst e
  refine ⟨a, w, rfl, ha, hw, ?_, hk, T⟩
  rcases hl with ⟨e, h1, h2⟩ | ⟨e, h1, h2⟩
  · rw [if_pos e, if_pos e]; exact F.le h1 h2 (fun _ _ q => q)
  · rw [if_neg e, if_neg e]; exact F.le h1 h2 (fun _ _ q => q)
theorem fu_let {f t : Nat → Int32} {e m : Nat} {x : Int32} (h : ∀ j, j < m → f j = t (e + j)) (hx : x = t (e + m)) : ∀ j, j < m + 1 → fu f m x j = t (e + j) := by
  intro j hj
  unfold fu
  by_cases c : j = m
  · rw [if_pos c, hx, c]
  · rw [if_neg c]; exact h j (by omega)
theorem fu_chk {f : Nat → Int32} {m q : Nat} (h : chk m f) (hq : q < 128) : chk (m + 1) (fu f m (nI q)) := by
  intro j hj
  unfold fu
  by_cases c : j = m
  · rw [if_pos c]; exact ⟨q, hq, rfl⟩
  · rw [if_neg c]; exact h j (by omega)
theorem letV_i {le t : Nat → Int32} {k i j : Nat} (h : j < 8) (h2 : j < i) : letV le t k i j = t (k + j) := if_pos ⟨h, h2⟩
set_option maxRecDepth 100000 in
theorem t_X4_look {Δ : Cx} {h : Hp} (d : Nat) {tk tp e n : Nat} {tt t : Nat → Int32} (hk : ce Δ h tk = some (3, 0, ob [.ref tp, .int (nI n), .int (nI e)])) (hp : ce Δ h tp = some (102, 900, fun j => .int (tt j))) (hT : tOk tt t) (hn : n ≤ 900) (he : e ≤ n) : mt Δ d muX4_look [.ref tk] h (fun v h' => v = some (.int (seT t n e)) ∧ h' = h) := by
  refine mt_of (lv0 := [(0, .ref tk)]) rfl rfl (Nat.le_of_ble_eq_true rfl) rfl ?_
  refine g_aload_n dX4_look_0 0 rfl ?_
  refine gh_get (x := .int (nI e)) f_3_2 q275 (hk) dX4_look_1 rfl ?_
  refine g_aload_n dX4_look_4 0 rfl ?_
  refine gh_get (x := .int (nI n)) f_3_1 q274 (hk) dX4_look_5 rfl ?_
  refine gn_ge (tgt := 27) (a := e) (b := n) dX4_look_8 (by decide) (rfl) (rfl) (by omega) (by omega) (fun c_1 => ?_) (fun c_1 => ?_)
  ·
    have e1 : n ≤ e := c_1
    refine g_iconst (x := -1) dX4_look_27 rfl ?_
    refine g_iret rfl dX4_look_28 ?_
    exact ⟨by rw [show seT t n e = -1 from if_neg (by omega)], rfl⟩
  ·
    have e1 : e < n := c_1
    refine g_aload_n dX4_look_11 0 rfl ?_
    refine gh_get (x := .ref tp) f_3_0 q273 (hk) dX4_look_12 rfl ?_
    refine g_aload_n dX4_look_15 0 rfl ?_
    refine gh_get (x := .int (nI e)) f_3_2 q275 (hk) dX4_look_16 rfl ?_
    refine gh_bald (j := e) (x := .int (tt e)) (hp) (rfl) (by omega) (by omega) rfl dX4_look_19 ?_
    refine g_sipush (x := 255) dX4_look_20 rfl ?_
    refine g_iand dX4_look_23 ?_
    refine g_goto (tgt := 28) dX4_look_24 (by decide) ?_
    refine g_iret rfl dX4_look_28 ?_
    exact ⟨by rw [se_at e1]; exact congrArg (fun x => some (Value.int x)) (hT e), rfl⟩
set_option maxRecDepth 100000 in
theorem t_X4_next {Δ : Cx} {h : Hp} (d : Nat) {tk tp e0 n : Nat} {tt t : Nat → Int32} {P : Pk} (hk : ce Δ h tk = some (3, 0, ob [.ref tp, .int (nI n), .int (nI e0)])) (hp : ce Δ h tp = some (102, 900, fun j => .int (tt j))) (hT : tOk tt t) (hn : n ≤ 900) (he : e0 ≤ n) (hPe : P.e = nI e0) (htn : n0 Δ ≤ tk) (K0 : TK0 Δ) : mt Δ (d + 6) muX4_next [.ref tk] h (NX Δ tk tp n h (nxP t n P)) := by
  have ltk := ce_lt hk; have ltp := ce_lt hp; have ntp : tk ≠ tp := ce_ne hk hp (Or.inl (by show 3 ≠ 102; omega))
  refine mt_of (lv0 := [(0, .ref tk)]) rfl rfl (Nat.le_of_ble_eq_true rfl) rfl ?_
  have C0f : ∀ (fuel : Nat) (e : Nat) (u : Hp), n - e < fuel → (e ≤ n) → (run spB t n (ix P.e) = run spB t n e) → (Fr Δ (fun b => b = tk) 0 0 h u) → (ce Δ u tk = some (3, 0, ob [.ref tp, .int (nI n), .int (nI e)])) → (ce Δ u tp = some (102, 900, fun j => .int (tt j))) → wp Δ (d + 6) muX4_next 0 [(0, .ref tk)] [] u (NX Δ tk tp n h (nxP t n P)) := by
    intro fuel
    induction fuel with
    | zero => intros; omega
    | succ fuel ih0 =>
      intro e u hfuel0 h0_0 h0_1 h0_2 h0_3 h0_4
      have lA := h0_2.1
      refine g_aload_n dX4_next_0 0 rfl ?_
      refine g_callV (t_X4_look _ (h0_3) (h0_4) hT hn (by omega)) (lw_V q360 q362 qs1 q130 q363) okX4_look (h0_3) rfl rfl rfl rfl (Nat.le_of_ble_eq_true rfl) dX4_next_1 (fun v1 h1 _ _ hq => ?_)
      obtain ⟨rfl, hh⟩ := hq
      rw [hh]
      show wp Δ (d + 6) muX4_next 4 [(0, .ref tk)] [.int (seT t n e)] u _
      refine g_bipush (x := 32) dX4_next_4 rfl ?_
      refine g_icmp_ne (tgt := 22) dX4_next_6 (by decide) (fun c_1 => ?_) (fun c_1 => ?_)
      ·
        have hk1 : run spB t n (ix P.e) = e := h0_1.trans (run_f (sp_f c_1))
        refine g_aload_n dX4_next_22 0 rfl ?_
        refine gh_get (x := .int (nI e)) f_3_2 q275 (h0_3) dX4_next_23 rfl ?_
        refine g_istore_n (lv' := [(1, .int (nI e)), (0, .ref tk)]) dX4_next_26 (by decide) rfl ?_
        refine g_aload_n dX4_next_27 1 rfl ?_
        refine gh_get (x := .int (nI e)) f_3_2 q275 (h0_3) dX4_next_28 rfl ?_
        refine g_aload_n dX4_next_31 1 rfl ?_
        refine gh_get (x := .int (nI n)) f_3_1 q274 (h0_3) dX4_next_32 rfl ?_
        refine gn_ne (tgt := 51) (a := e) (b := n) dX4_next_35 (by decide) (rfl) (rfl) (by omega) (by omega) (fun c_2 => ?_) (fun c_2 => ?_)
        ·
          have hlt : e < n := by omega
          have hne : ¬ seT t n e = -1 := se_ne hT hlt
          refine g_aload_n dX4_next_51 1 rfl ?_
          refine g_callV (t_X4_look _ (h0_3) (h0_4) hT hn (by omega)) (lw_V q360 q362 qs1 q130 q363) okX4_look (h0_3) rfl rfl rfl rfl (Nat.le_of_ble_eq_true rfl) dX4_next_52 (fun v1 h1 _ _ hq => ?_)
          obtain ⟨rfl, hh⟩ := hq
          rw [hh]
          show wp Δ (d + 6) muX4_next 55 [(1, .int (nI e)), (0, .ref tk)] [.int (seT t n e)] u _
          refine g_bipush (x := 97) dX4_next_55 rfl ?_
          refine g_bipush (x := 122) dX4_next_57 rfl ?_
          refine g_callSN (t_X1_in _ (seT t n e) 97 122) (lw_meth q260) q388 q124 q259 okX1_in rfl rfl (Nat.le_of_ble_eq_true rfl) dX4_next_59 (fun v1 h1 _ _ hq => ?_)
          obtain ⟨rfl, hh⟩ := hq
          rw [hh]
          show wp Δ (d + 6) muX4_next 62 [(1, .int (nI e)), (0, .ref tk)] [.int (bI (inS (seT t n e) 97 122))] u _
          refine gb_eq (tgt := 151) dX4_next_62 (by decide) (fun c_3 => ?_) (fun c_3 => ?_)
          ·
            have hnsm : smB (seT t n e) = false := (in_sm _).symm.trans c_3
            refine g_aload_n dX4_next_151 1 rfl ?_
            refine g_callV (t_X4_look _ (h0_3) (h0_4) hT hn (by omega)) (lw_V q360 q362 qs1 q130 q363) okX4_look (h0_3) rfl rfl rfl rfl (Nat.le_of_ble_eq_true rfl) dX4_next_152 (fun v1 h1 _ _ hq => ?_)
            obtain ⟨rfl, hh⟩ := hq
            rw [hh]
            show wp Δ (d + 6) muX4_next 155 [(1, .int (nI e)), (0, .ref tk)] [.int (seT t n e)] u _
            refine g_bipush (x := 48) dX4_next_155 rfl ?_
            refine g_bipush (x := 57) dX4_next_157 rfl ?_
            refine g_callSN (t_X1_in _ (seT t n e) 48 57) (lw_meth q260) q388 q124 q259 okX1_in rfl rfl (Nat.le_of_ble_eq_true rfl) dX4_next_159 (fun v1 h1 _ _ hq => ?_)
            obtain ⟨rfl, hh⟩ := hq
            rw [hh]
            show wp Δ (d + 6) muX4_next 162 [(1, .int (nI e)), (0, .ref tk)] [.int (bI (inS (seT t n e) 48 57))] u _
            refine gb_eq (tgt := 244) dX4_next_162 (by decide) (fun c_4 => ?_) (fun c_4 => ?_)
            ·
              have hndg : dgB (seT t n e) = false := (in_dg _).symm.trans c_4
              refine g_aload_n dX4_next_244 1 rfl ?_
              refine g_callV (t_X4_look _ (h0_3) (h0_4) hT hn (by omega)) (lw_V q360 q362 qs1 q130 q363) okX4_look (h0_3) rfl rfl rfl rfl (Nat.le_of_ble_eq_true rfl) dX4_next_245 (fun v1 h1 _ _ hq => ?_)
              obtain ⟨rfl, hh⟩ := hq
              rw [hh]
              show wp Δ (d + 6) muX4_next 248 [(1, .int (nI e)), (0, .ref tk)] [.int (seT t n e)] u _
              refine g_istore_n (lv' := [(2, .int (seT t n e)), (1, .int (nI e)), (0, .ref tk)]) dX4_next_248 (by decide) rfl ?_
              refine g_aload_n dX4_next_249 2 rfl ?_
              refine g_dup dX4_next_250 rfl ?_
              refine gh_get (x := .int (nI e)) f_3_2 q275 (h0_3) dX4_next_251 rfl ?_
              refine g_iconst (x := 1) dX4_next_254 rfl ?_
              refine g_iadd dX4_next_255 ?_
              refine wp_top (z := .int (nI (e + 1))) (congrArg Value.int (nI_add _ 1)) ?_
              refine gh_put (f2 := ob [.ref tp, .int (nI n), .int (nI (e + 1))]) f_3_2 q275 (h0_3) (by omega) dX4_next_256 rfl rfl (ob_u [.ref tp, .int (nI n), .int (nI e)] 2 (.int (nI (e + 1))) (Nat.le_of_ble_eq_true rfl)) ?_
              refine wp_put h0_2 (fun q => by first | exact absurd q (by omega) | exact Or.inl rfl | exact Or.inr rfl | exact Or.inr (Or.inl rfl) | exact Or.inr (Or.inr rfl) | exact Or.inr ⟨rfl, by omega⟩ | exact rfl | (simp only []; omega)) (h0_3) (by omega) (fun u64 F64 z64 c64 k64 => ?_)
              refine g_new (f := ob [.int 0, .int 0, .int 0, .null]) k_5 df_5 q364 q365 q132 dX4_next_259 (fun n65 => ?_)
              refine wp_new F64 n65 (fun u65 F65 z65 c65 k65 => ?_)
              refine g_dup dX4_next_262 rfl ?_
              refine g_iload_n dX4_next_263 0 rfl ?_
              refine g_bipush (x := 59) dX4_next_264 rfl ?_
              refine g_icmp_ne (tgt := 273) dX4_next_266 (by decide) (fun c_5 => ?_) (fun c_5 => ?_)
              ·
                have h59 : ¬ seT t n e = 59 := c_5
                refine g_iconst (x := 0) dX4_next_273 rfl ?_
                refine g_iload_n dX4_next_274 1 rfl ?_
                refine g_iload_n dX4_next_275 0 rfl ?_
                refine g_ldcS (tx := "") (i := 0) (by decide +kernel) dX4_next_276 ?_
                refine g_callI (t_X6_init _ u64.1 0 (nI e) (seT t n e) (cT Δ 0) (c65) (by omega)) (lw_meth q369) rfl q132 q367 q368 rfl okX6_init rfl rfl (Nat.le_of_ble_eq_true rfl) dX4_next_278 (fun v1 h66 _ _ hq => ?_)
                obtain ⟨rfl, G66, r66⟩ := hq
                have lr66 := ce_lt r66
                have F66 := F65.tr G66 (fun b hb q => absurd hb (by omega))
                show wp Δ (d + 6) muX4_next 281 [(2, .int (seT t n e)), (1, .int (nI e)), (0, .ref tk)] [.ref u64.1] h66 _
                refine g_aret rfl (by first | exact Or.inl ⟨_, rfl⟩ | exact Or.inr ⟨_, rfl⟩) (by first | exact Or.inl rfl | exact Or.inr ⟨_, rfl⟩) dX4_next_281 ?_
                exact nxe (nx_s (x := 1) hk1 hne hnsm hndg (by rw [if_neg h59])) F66 (Or.inr ⟨(show ¬ (1 : Int32) = 0 by decide), by omega, by omega⟩) (by omega) (Or.inl rfl) (G66.2 _ _ (k65 _ _ (c64)) (by omega)) (tokr_e K0 (by omega) r66 srt_1.symm rfl (fun q => absurd q (show ¬ (1 : Int32) = 3 by decide)) (show ¬ (1 : Int32) = 2 by decide))
              ·
                have h59 : seT t n e = 59 := c_5
                refine g_iconst (x := 4) dX4_next_269 rfl ?_
                refine g_goto (tgt := 274) dX4_next_270 (by decide) ?_
                refine g_iload_n dX4_next_274 1 rfl ?_
                refine g_iload_n dX4_next_275 0 rfl ?_
                refine g_ldcS (tx := "") (i := 0) (by decide +kernel) dX4_next_276 ?_
                refine g_callI (t_X6_init _ u64.1 4 (nI e) (seT t n e) (cT Δ 0) (c65) (by omega)) (lw_meth q369) rfl q132 q367 q368 rfl okX6_init rfl rfl (Nat.le_of_ble_eq_true rfl) dX4_next_278 (fun v1 h67 _ _ hq => ?_)
                obtain ⟨rfl, G67, r67⟩ := hq
                have lr67 := ce_lt r67
                have F67 := F65.tr G67 (fun b hb q => absurd hb (by omega))
                show wp Δ (d + 6) muX4_next 281 [(2, .int (seT t n e)), (1, .int (nI e)), (0, .ref tk)] [.ref u64.1] h67 _
                refine g_aret rfl (by first | exact Or.inl ⟨_, rfl⟩ | exact Or.inr ⟨_, rfl⟩) (by first | exact Or.inl rfl | exact Or.inr ⟨_, rfl⟩) dX4_next_281 ?_
                exact nxe (nx_s (x := 59) hk1 hne hnsm hndg (by rw [if_pos h59]; exact h59.symm)) F67 (Or.inr ⟨(show ¬ (59 : Int32) = 0 by decide), by omega, by omega⟩) (by omega) (Or.inl rfl) (G67.2 _ _ (k65 _ _ (c64)) (by omega)) (tokr_e K0 (by omega) r67 srt_59.symm rfl (fun q => absurd q (show ¬ (59 : Int32) = 3 by decide)) (show ¬ (59 : Int32) = 2 by decide))
            ·
              have hdg0 : dgB (seT t n e) = true := (in_dg _).symm.trans c_4
              refine g_iconst (x := 0) dX4_next_165 rfl ?_
              refine g_istore_n (lv' := [(2, .int 0), (1, .int (nI e)), (0, .ref tk)]) dX4_next_166 (by decide) rfl ?_
              have C167f : ∀ (fuel : Nat) (i : Nat) (y : Hp), n - (e + i) < fuel → (e + i ≤ n) → (run dgB t n e = run dgB t n (e + i)) → (Fr Δ (fun b => b = tk) 0 0 h y) → (ce Δ y tk = some (3, 0, ob [.ref tp, .int (nI n), .int (nI (e + i))])) → (ce Δ y tp = some (102, 900, fun j => .int (tt j))) → wp Δ (d + 6) muX4_next 167 [(2, .int (digV t e i)), (1, .int (nI e)), (0, .ref tk)] [] y (NX Δ tk tp n h (nxP t n P)) := by
                intro fuel
                induction fuel with
                | zero => intros; omega
                | succ fuel ih167 =>
                  intro i y hfuel167 h167_0 h167_1 h167_2 h167_3 h167_4
                  have lC := h167_2.1
                  refine g_aload_n dX4_next_167 2 rfl ?_
                  refine g_callV (t_X4_look _ (h167_3) (h167_4) hT hn (by omega)) (lw_V q360 q362 qs1 q130 q363) okX4_look (h167_3) rfl rfl rfl rfl (Nat.le_of_ble_eq_true rfl) dX4_next_168 (fun v1 h1 _ _ hq => ?_)
                  obtain ⟨rfl, hh⟩ := hq
                  rw [hh]
                  show wp Δ (d + 6) muX4_next 171 [(2, .int (digV t e i)), (1, .int (nI e)), (0, .ref tk)] [.int (seT t n (e + i))] y _
                  refine g_bipush (x := 48) dX4_next_171 rfl ?_
                  refine g_bipush (x := 57) dX4_next_173 rfl ?_
                  refine g_callSN (t_X1_in _ (seT t n (e + i)) 48 57) (lw_meth q260) q388 q124 q259 okX1_in rfl rfl (Nat.le_of_ble_eq_true rfl) dX4_next_175 (fun v1 h1 _ _ hq => ?_)
                  obtain ⟨rfl, hh⟩ := hq
                  rw [hh]
                  show wp Δ (d + 6) muX4_next 178 [(2, .int (digV t e i)), (1, .int (nI e)), (0, .ref tk)] [.int (bI (inS (seT t n (e + i)) 48 57))] y _
                  refine gb_eq (tgt := 217) dX4_next_178 (by decide) (fun c_6 => ?_) (fun c_6 => ?_)
                  ·
                    have hdg2 : dgB (seT t n (e + i)) = false := (in_dg _).symm.trans c_6
                    refine g_new (f := ob [.int 0, .int 0, .int 0, .null]) k_5 df_5 q364 q365 q132 dX4_next_217 (fun n68 => ?_)
                    refine wp_new h167_2 n68 (fun u68 F68 z68 c68 k68 => ?_)
                    refine g_dup dX4_next_220 rfl ?_
                    refine g_aload_n dX4_next_221 2 rfl ?_
                    refine gh_get (x := .int (nI (e + i))) f_3_2 q275 (k68 _ _ (h167_3)) dX4_next_222 rfl ?_
                    refine g_iload_n dX4_next_225 1 rfl ?_
                    refine g_isub dX4_next_226 ?_
                    refine wp_top (z := .int (nI i)) (congrArg Value.int ((by rw [pk_sub (by omega), Nat.add_sub_cancel_left]))) ?_
                    refine g_iconst (x := 3) dX4_next_227 rfl ?_
                    refine gn_le (tgt := 235) (a := i) (b := 3) dX4_next_228 (by decide) (rfl) (rfl) (by omega) (by omega) (fun c_7 => ?_) (fun c_7 => ?_)
                    ·
                      refine g_iconst (x := 3) dX4_next_235 rfl ?_
                      refine g_iload_n dX4_next_236 1 rfl ?_
                      refine g_iload_n dX4_next_237 0 rfl ?_
                      refine g_ldcS (tx := "") (i := 0) (by decide +kernel) dX4_next_238 ?_
                      refine g_callI (t_X6_init _ y.1 3 (nI e) (digV t e i) (cT Δ 0) (c68) (by omega)) (lw_meth q369) rfl q132 q367 q368 rfl okX6_init rfl rfl (Nat.le_of_ble_eq_true rfl) dX4_next_240 (fun v1 h69 _ _ hq => ?_)
                      obtain ⟨rfl, G69, r69⟩ := hq
                      have lr69 := ce_lt r69
                      have F69 := F68.tr G69 (fun b hb q => absurd hb (by omega))
                      show wp Δ (d + 6) muX4_next 243 [(2, .int (digV t e i)), (1, .int (nI e)), (0, .ref tk)] [.ref y.1] h69 _
                      refine g_aret rfl (by first | exact Or.inl ⟨_, rfl⟩ | exact Or.inr ⟨_, rfl⟩) (by first | exact Or.inl rfl | exact Or.inr ⟨_, rfl⟩) dX4_next_243 ?_
                      exact nxe (nx_d (x := 3) hk1 hne hnsm hdg0 (h167_1.trans (run_f hdg2)) ((if_neg (by omega)).symm)) F69 (Or.inr ⟨(show ¬ (3 : Int32) = 0 by decide), by omega, by omega⟩) (by omega) (Or.inl rfl) (G69.2 _ _ (k68 _ _ (h167_3)) (by omega)) (tokr_e K0 (by omega) r69 srt_3.symm rfl (fun _ => rfl) (show ¬ (3 : Int32) = 2 by decide))
                    ·
                      refine g_iconst (x := 0) dX4_next_231 rfl ?_
                      refine g_goto (tgt := 236) dX4_next_232 (by decide) ?_
                      refine g_iload_n dX4_next_236 1 rfl ?_
                      refine g_iload_n dX4_next_237 0 rfl ?_
                      refine g_ldcS (tx := "") (i := 0) (by decide +kernel) dX4_next_238 ?_
                      refine g_callI (t_X6_init _ y.1 0 (nI e) (digV t e i) (cT Δ 0) (c68) (by omega)) (lw_meth q369) rfl q132 q367 q368 rfl okX6_init rfl rfl (Nat.le_of_ble_eq_true rfl) dX4_next_240 (fun v1 h70 _ _ hq => ?_)
                      obtain ⟨rfl, G70, r70⟩ := hq
                      have lr70 := ce_lt r70
                      have F70 := F68.tr G70 (fun b hb q => absurd hb (by omega))
                      show wp Δ (d + 6) muX4_next 243 [(2, .int (digV t e i)), (1, .int (nI e)), (0, .ref tk)] [.ref y.1] h70 _
                      refine g_aret rfl (by first | exact Or.inl ⟨_, rfl⟩ | exact Or.inr ⟨_, rfl⟩) (by first | exact Or.inl rfl | exact Or.inr ⟨_, rfl⟩) dX4_next_243 ?_
                      exact nxe (nx_d (x := 1) hk1 hne hnsm hdg0 (h167_1.trans (run_f hdg2)) ((if_pos (by omega)).symm)) F70 (Or.inr ⟨(show ¬ (1 : Int32) = 0 by decide), by omega, by omega⟩) (by omega) (Or.inl rfl) (G70.2 _ _ (k68 _ _ (h167_3)) (by omega)) (tokr_e K0 (by omega) r70 srt_1.symm rfl (fun q => absurd q (show ¬ (1 : Int32) = 3 by decide)) (show ¬ (1 : Int32) = 2 by decide))
                  ·
                    have hdg2 : dgB (seT t n (e + i)) = true := (in_dg _).symm.trans c_6
                    have hlt2 : e + i < n := se_lt (P := dgB) (by decide) hdg2
                    refine g_aload_n dX4_next_181 2 rfl ?_
                    refine gh_get (x := .int (nI (e + i))) f_3_2 q275 (h167_3) dX4_next_182 rfl ?_
                    refine g_iload_n dX4_next_185 1 rfl ?_
                    refine g_isub dX4_next_186 ?_
                    refine wp_top (z := .int (nI i)) (congrArg Value.int ((by rw [pk_sub (by omega), Nat.add_sub_cancel_left]))) ?_
                    refine g_iconst (x := 3) dX4_next_187 rfl ?_
                    refine gn_ge (tgt := 204) (a := i) (b := 3) dX4_next_188 (by decide) (rfl) (rfl) (by omega) (by omega) (fun c_8 => ?_) (fun c_8 => ?_)
                    ·
                      rw [dig_n (t := t) (k := e) (i := i) (by omega)]
                      refine g_aload_n dX4_next_204 2 rfl ?_
                      refine g_dup dX4_next_205 rfl ?_
                      refine gh_get (x := .int (nI (e + i))) f_3_2 q275 (h167_3) dX4_next_206 rfl ?_
                      refine g_iconst (x := 1) dX4_next_209 rfl ?_
                      refine g_iadd dX4_next_210 ?_
                      refine wp_top (z := .int (nI (e + (i + 1)))) (congrArg Value.int (nI_add _ 1)) ?_
                      refine gh_put (f2 := ob [.ref tp, .int (nI n), .int (nI (e + (i + 1)))]) f_3_2 q275 (h167_3) (by omega) dX4_next_211 rfl rfl (ob_u [.ref tp, .int (nI n), .int (nI (e + i))] 2 (.int (nI (e + (i + 1)))) (Nat.le_of_ble_eq_true rfl)) ?_
                      refine wp_put h167_2 (fun q => by first | exact absurd q (by omega) | exact Or.inl rfl | exact Or.inr rfl | exact Or.inr (Or.inl rfl) | exact Or.inr (Or.inr rfl) | exact Or.inr ⟨rfl, by omega⟩ | exact rfl | (simp only []; omega)) (h167_3) (by omega) (fun u71 F71 z71 c71 k71 => ?_)
                      refine g_goto (tgt := 167) dX4_next_214 (by decide) ?_
                      exact ih167 (i + 1) _ (by omega) (by omega) (h167_1.trans (run_t hlt2 hdg2)) F71 (c71) (k71 _ _ (h167_4) (by omega))
                    ·
                      refine g_bipush (x := 10) dX4_next_191 rfl ?_
                      refine g_iload_n dX4_next_193 0 rfl ?_
                      refine g_imul dX4_next_194 ?_
                      refine g_aload_n dX4_next_195 2 rfl ?_
                      refine g_callV (t_X4_look _ (h167_3) (h167_4) hT hn (by omega)) (lw_V q360 q362 qs1 q130 q363) okX4_look (h167_3) rfl rfl rfl rfl (Nat.le_of_ble_eq_true rfl) dX4_next_196 (fun v1 h1 _ _ hq => ?_)
                      obtain ⟨rfl, hh⟩ := hq
                      rw [hh]
                      show wp Δ (d + 6) muX4_next 199 [(2, .int (digV t e i)), (1, .int (nI e)), (0, .ref tk)] [.int (seT t n (e + i)), .int (10 * (digV t e i))] y _
                      refine g_iadd dX4_next_199 ?_
                      refine g_bipush (x := 48) dX4_next_200 rfl ?_
                      refine g_isub dX4_next_202 ?_
                      refine wp_top (z := .int (digV t e (i + 1))) (congrArg Value.int ((by rw [se_at hlt2]; exact dig_s (by omega)))) ?_
                      refine g_istore_n (lv' := [(2, .int (digV t e (i + 1))), (1, .int (nI e)), (0, .ref tk)]) dX4_next_203 (by decide) rfl ?_
                      refine g_aload_n dX4_next_204 2 rfl ?_
                      refine g_dup dX4_next_205 rfl ?_
                      refine gh_get (x := .int (nI (e + i))) f_3_2 q275 (h167_3) dX4_next_206 rfl ?_
                      refine g_iconst (x := 1) dX4_next_209 rfl ?_
                      refine g_iadd dX4_next_210 ?_
                      refine wp_top (z := .int (nI (e + (i + 1)))) (congrArg Value.int (nI_add _ 1)) ?_
                      refine gh_put (f2 := ob [.ref tp, .int (nI n), .int (nI (e + (i + 1)))]) f_3_2 q275 (h167_3) (by omega) dX4_next_211 rfl rfl (ob_u [.ref tp, .int (nI n), .int (nI (e + i))] 2 (.int (nI (e + (i + 1)))) (Nat.le_of_ble_eq_true rfl)) ?_
                      refine wp_put h167_2 (fun q => by first | exact absurd q (by omega) | exact Or.inl rfl | exact Or.inr rfl | exact Or.inr (Or.inl rfl) | exact Or.inr (Or.inr rfl) | exact Or.inr ⟨rfl, by omega⟩ | exact rfl | (simp only []; omega)) (h167_3) (by omega) (fun u72 F72 z72 c72 k72 => ?_)
                      refine g_goto (tgt := 167) dX4_next_214 (by decide) ?_
                      exact ih167 (i + 1) _ (by omega) (by omega) (h167_1.trans (run_t hlt2 hdg2)) F72 (c72) (k72 _ _ (h167_4) (by omega))
              have C167 : ∀ (i : Nat) (y : Hp), (e + i ≤ n) → (run dgB t n e = run dgB t n (e + i)) → (Fr Δ (fun b => b = tk) 0 0 h y) → (ce Δ y tk = some (3, 0, ob [.ref tp, .int (nI n), .int (nI (e + i))])) → (ce Δ y tp = some (102, 900, fun j => .int (tt j))) → wp Δ (d + 6) muX4_next 167 [(2, .int (digV t e i)), (1, .int (nI e)), (0, .ref tk)] [] y (NX Δ tk tp n h (nxP t n P)) := fun i y h167_0 h167_1 h167_2 h167_3 h167_4 => C167f _ i y (Nat.lt_succ_self _) h167_0 h167_1 h167_2 h167_3 h167_4
              exact C167 0 _ (by omega) rfl h0_2 (h0_3) (h0_4)
          ·
            have hsm0 : smB (seT t n e) = true := (in_sm _).symm.trans c_3
            refine g_new (f := ob [.null, .int 0, .int 0, .int 0]) k_15 df_15 q389 q390 q134 dX4_next_65 (fun n73 => ?_)
            refine wp_new h0_2 n73 (fun u73 F73 z73 c73 k73 => ?_)
            refine g_dup dX4_next_68 rfl ?_
            refine g_callI (t_J4_init _ u.1 (c73) (by omega)) (lw_meth q393) rfl q134 q391 q392 rfl okJ4_init rfl rfl (Nat.le_of_ble_eq_true rfl) dX4_next_69 (fun v1 h74 _ _ hq => ?_)
            obtain ⟨rfl, G74, r74, q74⟩ := hq
            have lr74 := ce_lt r74; have lq74 := ce_lt q74
            have F74 := F73.tr G74 (fun b hb q => absurd hb (by omega))
            show wp Δ (d + 6) muX4_next 72 [(1, .int (nI e)), (0, .ref tk)] [.ref u.1] h74 _
            refine g_astore_n (lv' := [(2, .ref u.1), (1, .int (nI e)), (0, .ref tk)]) dX4_next_72 (by decide) rfl ?_
            have C73f : ∀ (fuel : Nat) (i m : Nat) (y : Hp) (f : Nat → Int32), n - (e + i) < fuel → (e + i ≤ n) → (m = min i 8) → (run smB t n e = run smB t n (e + i)) → (∀ j, j < m → f j = t (e + j)) → (chk m f) → (Fr Δ (fun b => b = tk) (0 + 1 + 1) (0 + 4 + 16) h y) → (ce Δ y tk = some (3, 0, ob [.ref tp, .int (nI n), .int (nI (e + i))])) → (ce Δ y tp = some (102, 900, fun j => .int (tt j))) → (ce Δ y (u.1) = some (15, 0, ob [.ref u73.1, .int 0, .int 0, .int (nI m)])) → (ce Δ y (u73.1) = some (102, 16, fun j => .int (f j))) → wp Δ (d + 6) muX4_next 73 [(2, .ref u.1), (1, .int (nI e)), (0, .ref tk)] [] y (NX Δ tk tp n h (nxP t n P)) := by
              intro fuel
              induction fuel with
              | zero => intros; omega
              | succ fuel ih73 =>
                intro i m y f hfuel73 h73_0 h73_1 h73_2 h73_3 h73_4 h73_5 h73_6 h73_7 h73_8 h73_9
                have lB := h73_5.1
                refine g_aload_n dX4_next_73 2 rfl ?_
                refine g_callV (t_X4_look _ (h73_6) (h73_7) hT hn (by omega)) (lw_V q360 q362 qs1 q130 q363) okX4_look (h73_6) rfl rfl rfl rfl (Nat.le_of_ble_eq_true rfl) dX4_next_74 (fun v1 h1 _ _ hq => ?_)
                obtain ⟨rfl, hh⟩ := hq
                rw [hh]
                show wp Δ (d + 6) muX4_next 77 [(2, .ref u.1), (1, .int (nI e)), (0, .ref tk)] [.int (seT t n (e + i))] y _
                refine g_bipush (x := 97) dX4_next_77 rfl ?_
                refine g_bipush (x := 122) dX4_next_79 rfl ?_
                refine g_callSN (t_X1_in _ (seT t n (e + i)) 97 122) (lw_meth q260) q388 q124 q259 okX1_in rfl rfl (Nat.le_of_ble_eq_true rfl) dX4_next_81 (fun v1 h1 _ _ hq => ?_)
                obtain ⟨rfl, hh⟩ := hq
                rw [hh]
                show wp Δ (d + 6) muX4_next 84 [(2, .ref u.1), (1, .int (nI e)), (0, .ref tk)] [.int (bI (inS (seT t n (e + i)) 97 122))] y _
                refine gb_eq (tgt := 121) dX4_next_84 (by decide) (fun c_9 => ?_) (fun c_9 => ?_)
                ·
                  have hsm : smB (seT t n (e + i)) = false := (in_sm _).symm.trans c_9
                  refine g_new (f := ob [.int 0, .int 0, .int 0, .null]) k_5 df_5 q364 q365 q132 dX4_next_121 (fun n75 => ?_)
                  refine wp_new h73_5 n75 (fun u75 F75 z75 c75 k75 => ?_)
                  refine g_dup dX4_next_124 rfl ?_
                  refine g_aload_n dX4_next_125 2 rfl ?_
                  refine gh_get (x := .int (nI (e + i))) f_3_2 q275 (k75 _ _ (h73_6)) dX4_next_126 rfl ?_
                  refine g_iload_n dX4_next_129 1 rfl ?_
                  refine g_isub dX4_next_130 ?_
                  refine wp_top (z := .int (nI i)) (congrArg Value.int ((by rw [pk_sub (by omega), Nat.add_sub_cancel_left]))) ?_
                  refine g_bipush (x := 8) dX4_next_131 rfl ?_
                  refine gn_le (tgt := 140) (a := i) (b := 8) dX4_next_133 (by decide) (rfl) (rfl) (by omega) (by omega) (fun c_10 => ?_) (fun c_10 => ?_)
                  ·
                    refine g_iconst (x := 2) dX4_next_140 rfl ?_
                    refine g_iload_n dX4_next_141 1 rfl ?_
                    refine g_iconst (x := 0) dX4_next_142 rfl ?_
                    refine g_aload_n dX4_next_143 0 rfl ?_
                    refine g_callV (t_J4_toString _ (z := m) (f := f) (ml := 0) (k75 _ _ (h73_8)) (k75 _ _ (h73_9)) (by omega) h73_4) (lw_V q515 q516 q517 q134 q518) okJ4_toString (k75 _ _ (h73_8)) rfl rfl rfl rfl (Nat.le_of_ble_eq_true rfl) dX4_next_144 (fun v1 h76 _ _ hq => ?_)
                    obtain ⟨rfl, G76, g, eg, S76⟩ := hq
                    have lS76 := ce_lt S76.1; have lB76 := ce_lt S76.2.1
                    have F76 := F75.tr G76 (fun _ _ q => q.elim)
                    show wp Δ (d + 6) muX4_next 147 [(2, .ref u.1), (1, .int (nI e)), (0, .ref tk)] [.ref u75.1, .int 0, .int (nI e), .int 2, .ref y.1, .ref y.1] h76 _
                    refine g_callI (t_X6_init _ y.1 2 (nI e) 0 u75.1 (G76.2 _ _ (c75) (fun q => q)) (by omega)) (lw_meth q369) rfl q132 q367 q368 rfl okX6_init rfl rfl (Nat.le_of_ble_eq_true rfl) dX4_next_147 (fun v1 h77 _ _ hq => ?_)
                    obtain ⟨rfl, G77, r77⟩ := hq
                    have lr77 := ce_lt r77
                    have F77 := F76.tr G77 (fun b hb q => absurd hb (by omega))
                    show wp Δ (d + 6) muX4_next 150 [(2, .ref u.1), (1, .int (nI e)), (0, .ref tk)] [.ref y.1] h77 _
                    refine g_aret rfl (by first | exact Or.inl ⟨_, rfl⟩ | exact Or.inr ⟨_, rfl⟩) (by first | exact Or.inl rfl | exact Or.inr ⟨_, rfl⟩) dX4_next_150 ?_
                    have SS : ST Δ (ce Δ h77) (u75.1) m g := ⟨u75.1 + 1, 0, 0, G77.2 _ _ (S76.1) (by omega), G77.2 _ _ (S76.2.1) (by omega), S76.2.2⟩
                    exact nxe (nx_w (x := 2) hk1 hne hsm0 (h73_2.trans (run_f hsm)) ((if_neg (by omega)).symm)) F77 (Or.inr ⟨(show ¬ (2 : Int32) = 0 by decide), by omega, by omega⟩) (by omega) (Or.inr (by omega)) (G77.2 _ _ (G76.2 _ _ (k75 _ _ (h73_6)) (fun q => q)) (by omega)) (tokr_w r77 srt_2.symm rfl SS (show ¬ (2 : Int32) = 3 by decide) (fun _ => ⟨by rw [show m = i by omega], fun j hj => (eg j hj).trans ((h73_3 j hj).trans (letV_i (by omega) (by omega)).symm)⟩))
                  ·
                    refine g_iconst (x := 0) dX4_next_136 rfl ?_
                    refine g_goto (tgt := 141) dX4_next_137 (by decide) ?_
                    refine g_iload_n dX4_next_141 1 rfl ?_
                    refine g_iconst (x := 0) dX4_next_142 rfl ?_
                    refine g_aload_n dX4_next_143 0 rfl ?_
                    refine g_callV (t_J4_toString _ (z := m) (f := f) (ml := 0) (k75 _ _ (h73_8)) (k75 _ _ (h73_9)) (by omega) h73_4) (lw_V q515 q516 q517 q134 q518) okJ4_toString (k75 _ _ (h73_8)) rfl rfl rfl rfl (Nat.le_of_ble_eq_true rfl) dX4_next_144 (fun v1 h78 _ _ hq => ?_)
                    obtain ⟨rfl, G78, g, eg, S78⟩ := hq
                    have lS78 := ce_lt S78.1; have lB78 := ce_lt S78.2.1
                    have F78 := F75.tr G78 (fun _ _ q => q.elim)
                    show wp Δ (d + 6) muX4_next 147 [(2, .ref u.1), (1, .int (nI e)), (0, .ref tk)] [.ref u75.1, .int 0, .int (nI e), .int 0, .ref y.1, .ref y.1] h78 _
                    refine g_callI (t_X6_init _ y.1 0 (nI e) 0 u75.1 (G78.2 _ _ (c75) (fun q => q)) (by omega)) (lw_meth q369) rfl q132 q367 q368 rfl okX6_init rfl rfl (Nat.le_of_ble_eq_true rfl) dX4_next_147 (fun v1 h79 _ _ hq => ?_)
                    obtain ⟨rfl, G79, r79⟩ := hq
                    have lr79 := ce_lt r79
                    have F79 := F78.tr G79 (fun b hb q => absurd hb (by omega))
                    show wp Δ (d + 6) muX4_next 150 [(2, .ref u.1), (1, .int (nI e)), (0, .ref tk)] [.ref y.1] h79 _
                    refine g_aret rfl (by first | exact Or.inl ⟨_, rfl⟩ | exact Or.inr ⟨_, rfl⟩) (by first | exact Or.inl rfl | exact Or.inr ⟨_, rfl⟩) dX4_next_150 ?_
                    have SS : ST Δ (ce Δ h79) (u75.1) m g := ⟨u75.1 + 1, 0, 0, G79.2 _ _ (S78.1) (by omega), G79.2 _ _ (S78.2.1) (by omega), S78.2.2⟩
                    exact nxe (nx_w (x := 1) hk1 hne hsm0 (h73_2.trans (run_f hsm)) ((if_pos (by omega)).symm)) F79 (Or.inr ⟨(show ¬ (1 : Int32) = 0 by decide), by omega, by omega⟩) (by omega) (Or.inr (by omega)) (G79.2 _ _ (G78.2 _ _ (k75 _ _ (h73_6)) (fun q => q)) (by omega)) (tokr_w r79 srt_1.symm rfl SS (show ¬ (1 : Int32) = 3 by decide) (fun q => absurd q (show ¬ (1 : Int32) = 2 by decide)))
                ·
                  have hsm : smB (seT t n (e + i)) = true := (in_sm _).symm.trans c_9
                  have hlt2 : e + i < n := se_lt (P := smB) (by decide) hsm
                  obtain ⟨q, hq256, hq1⟩ := t255 hT (e + i)
                  have hq128 : q < 128 := sm_q hsm hq256 ((se_at hlt2).trans hq1)
                  refine g_aload_n dX4_next_87 2 rfl ?_
                  refine gh_get (x := .int (nI (e + i))) f_3_2 q275 (h73_6) dX4_next_88 rfl ?_
                  refine g_iload_n dX4_next_91 1 rfl ?_
                  refine g_isub dX4_next_92 ?_
                  refine wp_top (z := .int (nI i)) (congrArg Value.int ((by rw [pk_sub (by omega), Nat.add_sub_cancel_left]))) ?_
                  refine g_bipush (x := 8) dX4_next_93 rfl ?_
                  refine gn_ge (tgt := 108) (a := i) (b := 8) dX4_next_95 (by decide) (rfl) (rfl) (by omega) (by omega) (fun c_11 => ?_) (fun c_11 => ?_)
                  ·
                    refine g_aload_n dX4_next_108 2 rfl ?_
                    refine g_dup dX4_next_109 rfl ?_
                    refine gh_get (x := .int (nI (e + i))) f_3_2 q275 (h73_6) dX4_next_110 rfl ?_
                    refine g_iconst (x := 1) dX4_next_113 rfl ?_
                    refine g_iadd dX4_next_114 ?_
                    refine wp_top (z := .int (nI (e + (i + 1)))) (congrArg Value.int (nI_add _ 1)) ?_
                    refine gh_put (f2 := ob [.ref tp, .int (nI n), .int (nI (e + (i + 1)))]) f_3_2 q275 (h73_6) (by omega) dX4_next_115 rfl rfl (ob_u [.ref tp, .int (nI n), .int (nI (e + i))] 2 (.int (nI (e + (i + 1)))) (Nat.le_of_ble_eq_true rfl)) ?_
                    refine wp_put h73_5 (fun q => by first | exact absurd q (by omega) | exact Or.inl rfl | exact Or.inr rfl | exact Or.inr (Or.inl rfl) | exact Or.inr (Or.inr rfl) | exact Or.inr ⟨rfl, by omega⟩ | exact rfl | (simp only []; omega)) (h73_6) (by omega) (fun u80 F80 z80 c80 k80 => ?_)
                    refine g_goto (tgt := 73) dX4_next_118 (by decide) ?_
                    exact ih73 (i + 1) m _ _ (by omega) (by omega) (by omega) (h73_2.trans (run_t hlt2 hsm)) h73_3 h73_4 F80 (c80) (k80 _ _ (h73_7) (by omega)) (k80 _ _ (h73_8) (by omega)) (k80 _ _ (h73_9) (by omega))
                  ·
                    refine g_aload_n dX4_next_98 0 rfl ?_
                    refine g_aload_n dX4_next_99 2 rfl ?_
                    refine g_callV (t_X4_look _ (h73_6) (h73_7) hT hn (by omega)) (lw_V q360 q362 qs1 q130 q363) okX4_look (h73_6) rfl rfl rfl rfl (Nat.le_of_ble_eq_true rfl) dX4_next_100 (fun v1 h1 _ _ hq => ?_)
                    obtain ⟨rfl, hh⟩ := hq
                    rw [hh]
                    show wp Δ (d + 6) muX4_next 103 [(2, .ref u.1), (1, .int (nI e)), (0, .ref tk)] [.int (seT t n (e + i)), .ref u.1] y _
                    refine g_i2c dX4_next_103 ?_
                    refine wp_top (z := .int (nI q)) (congrArg Value.int ((by rw [se_at hlt2, hq1]; exact c16 hq128))) ?_
                    refine g_callV (t_J4_append _ (h73_8) (h73_9) (by omega) hq128 (by omega) (by omega)) (lw_V q420 q421 q422 q134 q423) okJ4_append (h73_8) rfl rfl rfl rfl (Nat.le_of_ble_eq_true rfl) dX4_next_104 (fun v1 h81 _ _ hq => ?_)
                    obtain ⟨rfl, G81, r81, q81⟩ := hq
                    have F81 := h73_5.tr G81 (fun b hb q => absurd hb (by omega))
                    show wp Δ (d + 6) muX4_next 107 [(2, .ref u.1), (1, .int (nI e)), (0, .ref tk)] [.ref u.1] h81 _
                    refine g_pop dX4_next_107 rfl ?_
                    refine g_aload_n dX4_next_108 2 rfl ?_
                    refine g_dup dX4_next_109 rfl ?_
                    refine gh_get (x := .int (nI (e + i))) f_3_2 q275 (G81.2 _ _ (h73_6) (by omega)) dX4_next_110 rfl ?_
                    refine g_iconst (x := 1) dX4_next_113 rfl ?_
                    refine g_iadd dX4_next_114 ?_
                    refine wp_top (z := .int (nI (e + (i + 1)))) (congrArg Value.int (nI_add _ 1)) ?_
                    refine gh_put (f2 := ob [.ref tp, .int (nI n), .int (nI (e + (i + 1)))]) f_3_2 q275 (G81.2 _ _ (h73_6) (by omega)) (by omega) dX4_next_115 rfl rfl (ob_u [.ref tp, .int (nI n), .int (nI (e + i))] 2 (.int (nI (e + (i + 1)))) (Nat.le_of_ble_eq_true rfl)) ?_
                    refine wp_put F81 (fun q => by first | exact absurd q (by omega) | exact Or.inl rfl | exact Or.inr rfl | exact Or.inr (Or.inl rfl) | exact Or.inr (Or.inr rfl) | exact Or.inr ⟨rfl, by omega⟩ | exact rfl | (simp only []; omega)) (G81.2 _ _ (h73_6) (by omega)) (by omega) (fun u82 F82 z82 c82 k82 => ?_)
                    refine g_goto (tgt := 73) dX4_next_118 (by decide) ?_
                    exact ih73 (i + 1) (m + 1) _ _ (by omega) (by omega) (by omega) (h73_2.trans (run_t hlt2 hsm)) (fu_let h73_3 (by rw [h73_1, Nat.min_eq_left (by omega)]; exact hq1.symm)) (fu_chk h73_4 hq128) F82 (c82) (k82 _ _ (G81.2 _ _ (h73_7) (by omega)) (by omega)) (k82 _ _ (r81) (by omega)) (k82 _ _ (q81) (by omega))
            have C73 : ∀ (i m : Nat) (y : Hp) (f : Nat → Int32), (e + i ≤ n) → (m = min i 8) → (run smB t n e = run smB t n (e + i)) → (∀ j, j < m → f j = t (e + j)) → (chk m f) → (Fr Δ (fun b => b = tk) (0 + 1 + 1) (0 + 4 + 16) h y) → (ce Δ y tk = some (3, 0, ob [.ref tp, .int (nI n), .int (nI (e + i))])) → (ce Δ y tp = some (102, 900, fun j => .int (tt j))) → (ce Δ y (u.1) = some (15, 0, ob [.ref u73.1, .int 0, .int 0, .int (nI m)])) → (ce Δ y (u73.1) = some (102, 16, fun j => .int (f j))) → wp Δ (d + 6) muX4_next 73 [(2, .ref u.1), (1, .int (nI e)), (0, .ref tk)] [] y (NX Δ tk tp n h (nxP t n P)) := fun i m y f h73_0 h73_1 h73_2 h73_3 h73_4 h73_5 h73_6 h73_7 h73_8 h73_9 => C73f _ i m y f (Nat.lt_succ_self _) h73_0 h73_1 h73_2 h73_3 h73_4 h73_5 h73_6 h73_7 h73_8 h73_9
            exact C73 0 0 _ _ (by omega) rfl rfl (fun j hj => absurd hj (by omega)) (fun j hj => absurd hj (by omega)) F74 (G74.2 _ _ (k73 _ _ (h0_3)) (by omega)) (G74.2 _ _ (k73 _ _ (h0_4)) (by omega)) (r74) (q74)
        ·
          have hen : e = n := c_2
          have hnx : seT t n e = -1 := if_neg (by omega)
          refine g_new (f := ob [.int 0, .int 0, .int 0, .null]) k_5 df_5 q364 q365 q132 dX4_next_38 (fun n83 => ?_)
          refine wp_new h0_2 n83 (fun u83 F83 z83 c83 k83 => ?_)
          refine g_dup dX4_next_41 rfl ?_
          refine g_iconst (x := 1) dX4_next_42 rfl ?_
          refine g_iload_n dX4_next_43 0 rfl ?_
          refine g_iconst (x := 0) dX4_next_44 rfl ?_
          refine g_ldcS (tx := "") (i := 0) (by decide +kernel) dX4_next_45 ?_
          refine g_callI (t_X6_init _ u.1 1 (nI e) 0 (cT Δ 0) (c83) (by omega)) (lw_meth q369) rfl q132 q367 q368 rfl okX6_init rfl rfl (Nat.le_of_ble_eq_true rfl) dX4_next_47 (fun v1 h84 _ _ hq => ?_)
          obtain ⟨rfl, G84, r84⟩ := hq
          have lr84 := ce_lt r84
          have F84 := F83.tr G84 (fun b hb q => absurd hb (by omega))
          show wp Δ (d + 6) muX4_next 50 [(1, .int (nI e)), (0, .ref tk)] [.ref u.1] h84 _
          refine g_aret rfl (by first | exact Or.inl ⟨_, rfl⟩ | exact Or.inr ⟨_, rfl⟩) (by first | exact Or.inl rfl | exact Or.inr ⟨_, rfl⟩) dX4_next_50 ?_
          exact nxe (nx_0 hk1 hnx) F84 (Or.inl ⟨rfl, by omega, by omega⟩) (by omega) (Or.inl rfl) (G84.2 _ _ (k83 _ _ (h0_3)) (by omega)) (tokr_e K0 (by omega) r84 srt_0.symm rfl (fun q => absurd q (show ¬ (0 : Int32) = 3 by decide)) (show ¬ (0 : Int32) = 2 by decide))
      ·
        have hs2 := c_1
        have hs1 : e < n := se_lt (P := spB) (by decide) (sp_t hs2)
        refine g_aload_n dX4_next_9 0 rfl ?_
        refine g_dup dX4_next_10 rfl ?_
        refine gh_get (x := .int (nI e)) f_3_2 q275 (h0_3) dX4_next_11 rfl ?_
        refine g_iconst (x := 1) dX4_next_14 rfl ?_
        refine g_iadd dX4_next_15 ?_
        refine wp_top (z := .int (nI (e + 1))) (congrArg Value.int (nI_add _ 1)) ?_
        refine gh_put (f2 := ob [.ref tp, .int (nI n), .int (nI (e + 1))]) f_3_2 q275 (h0_3) (by omega) dX4_next_16 rfl rfl (ob_u [.ref tp, .int (nI n), .int (nI e)] 2 (.int (nI (e + 1))) (Nat.le_of_ble_eq_true rfl)) ?_
        refine wp_put h0_2 (fun q => by first | exact absurd q (by omega) | exact Or.inl rfl | exact Or.inr rfl | exact Or.inr (Or.inl rfl) | exact Or.inr (Or.inr rfl) | exact Or.inr ⟨rfl, by omega⟩ | exact rfl | (simp only []; omega)) (h0_3) (by omega) (fun u85 F85 z85 c85 k85 => ?_)
        refine g_goto (tgt := 0) dX4_next_19 (by decide) ?_
        exact ih0 (e + 1) _ (by omega) (by omega) (h0_1.trans (run_t hs1 (sp_t hs2))) F85 (c85) (k85 _ _ (h0_4) (by omega))
  have C0 : ∀ (e : Nat) (u : Hp), (e ≤ n) → (run spB t n (ix P.e) = run spB t n e) → (Fr Δ (fun b => b = tk) 0 0 h u) → (ce Δ u tk = some (3, 0, ob [.ref tp, .int (nI n), .int (nI e)])) → (ce Δ u tp = some (102, 900, fun j => .int (tt j))) → wp Δ (d + 6) muX4_next 0 [(0, .ref tk)] [] u (NX Δ tk tp n h (nxP t n P)) := fun e u h0_0 h0_1 h0_2 h0_3 h0_4 => C0f _ e u (Nat.lt_succ_self _) h0_0 h0_1 h0_2 h0_3 h0_4
  exact C0 e0 _ he (by rw [hPe, ix_nI (by omega)]) (Fr.refl _ _) hk hp
