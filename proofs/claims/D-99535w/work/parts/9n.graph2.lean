/-! the regatta as it is told: moved to other cells, one more of something -/
theorem LX.mono {Δ : Cx} {c c' : Nat → Option Cel} (hs : Sub c c') {L E cap n : Nat} {f : Nat → Nat} (X : LX Δ c L E cap n f) : LX Δ c' L E cap n f := X.kp (fun b x q _ => hs b x q)
theorem elC.mono {Δ : Cx} {c c' : Nat → Option Cel} (hs : Sub c c') {fr : Nat → Int32} : ∀ {j a i : Nat}, elC Δ c fr j a i → elC Δ c' fr j a i
  | 0, _, _, ⟨t, h1, h2⟩ => ⟨t, hs _ _ h1, h2.mono hs⟩
  | 1, _, _, ⟨kd, t, h1, h2, h3, h4⟩ => ⟨kd, t, h1, h2, hs _ _ h3, h4.mono hs⟩
  | 2, _, _, ⟨t, h1, h2⟩ => ⟨t, hs _ _ h1, h2.mono hs⟩
  | _ + 3, _, _, h => hs _ _ h
theorem gp_mono {Δ : Cx} {E : Ev} {c c' : Nat → Option Cel} (hs : Sub c c') {fr : Nat → Int32} {EL cp cnt : Nat → Nat} {el : Nat → Nat → Nat} (G : GP Δ E c fr EL cp cnt el) : GP Δ E c' fr EL cp cnt el := by
  obtain ⟨g1, ⟨pf, np, g2, g3⟩, g4, g5, g6, g7, g8⟩ := G
  exact ⟨hs _ _ g1, ⟨pf, np, hs _ _ g2, g3⟩, g4, fun j hj => (g5 j hj).mono hs, g6, fun j hj i hi => (g7 j hj i hi).mono hs, g8⟩
/-- the places that one of what was told uses -/
def uE (j i q : Nat) : Prop := (j = 0 ∧ (q = 11 + 2 * i ∨ q = 11 + 2 * i + 1 ∨ q = 74 + (4 + i) ∨ (87 + 8 * (4 + i) ≤ q ∧ q < 87 + 8 * (4 + i) + 8))) ∨ (j = 1 ∧ ((19 + 4 * i ≤ q ∧ q < 19 + 4 * i + 4) ∨ q = 74 + i ∨ (87 + 8 * i ≤ q ∧ q < 87 + 8 * i + 8))) ∨ (j = 2 ∧ ((35 + 4 * i ≤ q ∧ q < 35 + 4 * i + 4) ∨ q = 74 + (8 + i) ∨ (87 + 8 * (8 + i) ≤ q ∧ q < 87 + 8 * (8 + i) + 8))) ∨ (3 ≤ j ∧ 59 + 3 * i ≤ q ∧ q < 59 + 3 * i + 3)
theorem NMc.mv {Δ : Cx} {c c' : Nat → Option Cel} {fr fr' : Nat → Int32} {t k : Nat} (N : NMc Δ c fr t k) (hk : ∀ b x, c b = some x → x.1 = 16 ∨ x.1 = 102 → c' b = some x) (h1 : fr' (74 + k) = fr (74 + k)) (h2 : ∀ q, q < 8 → fr' (87 + 8 * k + q) = fr (87 + 8 * k + q)) : NMc Δ c' fr' t k := by
  obtain ⟨z, f, ⟨b, sh, sz, s1, s2, s3, s4⟩, n1, n2⟩ := N
  exact ⟨z, f, ⟨b, sh, sz, hk _ _ s1 (Or.inl rfl), hk _ _ s2 (Or.inr rfl), s3, s4⟩, h1.trans n1, fun q hq => (h2 q (by omega)).trans (n2 q hq)⟩
theorem el_mv {Δ : Cx} {c c' : Nat → Option Cel} {fr fr' : Nat → Int32} : ∀ {j a i : Nat}, elC Δ c fr j a i → (∀ b x, c b = some x → b = a ∨ x.1 = 16 ∨ x.1 = 102 → c' b = some x) → (∀ q, uE j i q → fr' q = fr q) → elC Δ c' fr' j a i
  | 0, a, i, ⟨t, h1, h2⟩, hk, hu => by
    refine ⟨t, ?_, h2.mv (fun b x q z => hk b x q (Or.inr z)) (hu _ ?_) (fun q hq => hu _ ?_)⟩
    · rw [hu (11 + 2 * i) (by unfold uE; omega), hu (11 + 2 * i + 1) (by unfold uE; omega)]
      exact hk _ _ h1 (Or.inl rfl)
    · unfold uE; omega
    · unfold uE; omega
  | 1, a, i, ⟨kd, t, h0, h1, h2, h3⟩, hk, hu => by
    refine ⟨kd, t, h0, (hu _ ?_).trans h1, ?_, h3.mv (fun b x q z => hk b x q (Or.inr z)) (hu _ ?_) (fun q hq => hu _ ?_)⟩
    · unfold uE; omega
    · rw [hu (19 + 4 * i + 1) (by unfold uE; omega), hu (19 + 4 * i + 2) (by unfold uE; omega), hu (19 + 4 * i + 3) (by unfold uE; omega)]
      exact hk _ _ h2 (Or.inl rfl)
    · unfold uE; omega
    · unfold uE; omega
  | 2, a, i, ⟨t, h1, h2⟩, hk, hu => by
    refine ⟨t, ?_, h2.mv (fun b x q z => hk b x q (Or.inr z)) (hu _ ?_) (fun q hq => hu _ ?_)⟩
    · rw [hu (35 + 4 * i) (by unfold uE; omega), hu (35 + 4 * i + 1) (by unfold uE; omega), hu (35 + 4 * i + 2) (by unfold uE; omega), hu (35 + 4 * i + 3) (by unfold uE; omega)]
      exact hk _ _ h1 (Or.inl rfl)
    · unfold uE; omega
    · unfold uE; omega
  | j + 3, a, i, h1, hk, hu => by
    show c' a = some (12, 0, ob [.int (fr' (59 + 3 * i)), .int (fr' (59 + 3 * i + 1)), .int (fr' (59 + 3 * i + 2))])
    rw [hu (59 + 3 * i) (by unfold uE; omega), hu (59 + 3 * i + 1) (by unfold uE; omega), hu (59 + 3 * i + 2) (by unfold uE; omega)]
    exact hk _ _ h1 (Or.inl rfl)
theorem el_tag {Δ : Cx} {c : Nat → Option Cel} {fr : Nat → Int32} : ∀ {j a i : Nat}, elC Δ c fr j a i → ∃ x, c a = some x ∧ 6 ≤ x.1 ∧ x.1 ≤ 12
  | 0, _, _, ⟨t, h1, _⟩ => ⟨_, h1, by show 6 ≤ 6; omega, by show 6 ≤ 12; omega⟩
  | 1, _, _, ⟨kd, t, h0, _, h2, _⟩ => ⟨_, h2, by show 6 ≤ 7 + kd; omega, by show 7 + kd ≤ 12; omega⟩
  | 2, _, _, ⟨t, h1, _⟩ => ⟨_, h1, by show 6 ≤ 11; omega, by show 11 ≤ 12; omega⟩
  | _ + 3, _, _, h => ⟨_, h, by show 6 ≤ 12; omega, by show 12 ≤ 12; omega⟩
def mxc (Δ : Cx) (E : Ev) (h : Hp) (w : Nat) : Nat → Option Cel := fun b => if b = E.rd ∨ b = E.tk ∨ (b = w ∧ ¬ w = cT Δ 0) then none else ce Δ h b
/-- a list grows: the parser's world behind it, all that can be kept is kept -/
theorem px_gen {Δ : Cx} {E : Ev} {L : Nat} {h h2 : Hp} {c0 : Nat → Option Cel} {P : Pk} (X : PX Δ E L h c0 P) {W : Nat → Prop} (F : Fr Δ W 1 24 h h2) (hW : ∀ b x, ce Δ h b = some x → W b → x.1 ≠ 2 ∧ x.1 ≠ 3 ∧ x.1 ≠ 5 ∧ x.1 ≠ 16 ∧ x.1 ≠ 102) : ∃ c2, PX Δ E (L + 1) h2 c2 P ∧ (∀ b x, c0 b = some x → ¬ W b → c2 b = some x) ∧ ∀ b x, ce Δ h2 b = some x → x.1 ≠ 2 → x.1 ≠ 3 → x.1 ≠ 16 → c2 b = some x := by
  obtain ⟨w, now, e, ft, fp, Q, x1, x2, ⟨num, z, le, t1, ⟨b, sh, sz, s1, s2, s3⟩, t2⟩, x4, x8, x9, x10, x11, x12, x13, x14⟩ := X
  obtain ⟨⟨f1, f2, f3, f4⟩, f5⟩ := F
  have y1 := f5 _ _ x1 (fun q => (hW _ _ x1 q).1 rfl)
  have y2 := f5 _ _ x2 (fun q => (hW _ _ x2 q).2.1 rfl)
  have u1 := f5 _ _ t1 (fun q => (hW _ _ t1 q).2.2.1 rfl)
  have v1 := f5 _ _ s1 (fun q => (hW _ _ s1 q).2.2.2.1 rfl)
  have v2 := f5 _ _ s2 (fun q => (hW _ _ s2 q).2.2.2.2 rfl)
  have y3 := f5 _ _ (x10 _ _ x13) (fun q => (hW _ _ (x10 _ _ x13) q).2.2.2.2 rfl)
  refine ⟨mxc Δ E h2 w, ⟨w, now, e, ft, fp, Q, y1, y2, ⟨num, z, le, u1, ⟨b, sh, sz, v1, v2, s3⟩, t2⟩, x4, x8, ⟨⟨by omega, by omega⟩, fun q => ⟨by have := (x9.2 q).1; omega, by have := (x9.2 q).2; omega⟩⟩, fun a x q => ?_, if_pos (Or.inl rfl), if_pos (Or.inr (Or.inl rfl)), ?_, ?_⟩, fun a x q n => ?_, fun a x q n2 n3 n16 => ?_⟩
  · unfold mxc at q
    split at q
    · cases q
    · exact q
  · unfold mxc
    rw [if_neg (fun q => by
      rcases q with q | q | q
      · exact ce_ne y3 y1 (Or.inl (by show 102 ≠ 2; omega)) q
      · exact ce_ne y3 y2 (Or.inl (by show 102 ≠ 3; omega)) q
      · exact ce_ne y3 v1 (Or.inl (by show 102 ≠ 16; omega)) q.1)]
    exact y3
  · by_cases c : w = cT Δ 0
    · exact Or.inl c
    · exact Or.inr (if_pos (Or.inr (Or.inr ⟨rfl, c⟩)))
  · unfold mxc
    rw [if_neg (fun z => by
      rcases z with z | z | z
      · rw [z, x11] at q; cases q
      · rw [z, x12] at q; cases q
      · rcases x14 with y | y
        · exact z.2 y
        · rw [z.1, y] at q; cases q)]
    exact f5 _ _ (x10 _ _ q) n
  · unfold mxc
    rw [if_neg (fun z => by
      rcases z with z | z | z
      · rw [z, y1] at q; exact n2 (by rw [← Option.some.inj q])
      · rw [z, y2] at q; exact n3 (by rw [← Option.some.inj q])
      · rw [z.1, v1] at q; exact n16 (by rw [← Option.some.inj q]))]
    exact q
def upN (f : Nat → Nat) (j x : Nat) : Nat → Nat := fun i => if i = j then x else f i
def upE (f : Nat → Nat → Nat) (j n a : Nat) : Nat → Nat → Nat := fun i => if i = j then (fun k => if k = n then a else f j k) else f i
theorem upN_t {f : Nat → Nat} {j x : Nat} : upN f j x j = x := if_pos rfl
theorem upN_f {f : Nat → Nat} {i j x : Nat} (h : i ≠ j) : upN f j x i = f i := if_neg h
theorem upE_f {f : Nat → Nat → Nat} {i j n a : Nat} (h : i ≠ j) : upE f j n a i = f i := if_neg h
theorem upE_t {f : Nat → Nat → Nat} {j n a : Nat} : upE f j n a j = fun k => if k = n then a else f j k := if_pos rfl
/-- one more of the kind j -/
theorem gp_add {Δ : Cx} {E : Ev} {c c2 : Nat → Option Cel} {fr fr' : Nat → Int32} {EL cp cnt : Nat → Nat} {el : Nat → Nat → Nat} (G : GP Δ E c fr EL cp cnt el) {j0 a E' : Nat} (hj : j0 < 4)
    (kp : ∀ b x, c b = some x → ¬ (b = E.rg + 2 + j0 ∨ (b = EL j0 ∧ cp j0 = 10)) → c2 b = some x)
    (X : LX Δ c2 (E.rg + 2 + j0) E' 10 (cnt j0 + 1) (fun i => if i = cnt j0 then a else el j0 i))
    (hE : (E' = EL j0 ∧ cp j0 = 10) ∨ ((∀ b x, c b = some x → b ≠ E') ∧ E.rg ≤ E')) (ha : (∀ b x, c b = some x → b ≠ a) ∧ E.rg ≤ a)
    (hrg : fr' 0 = fr 0 ∧ fr' 1 = fr 1 ∧ fr' 2 = fr 2 ∧ fr' 3 = fr 3 ∧ fr' 4 = fr 4 ∧ fr' 8 = fr 8 ∧ fr' 9 = fr 9) (hpz : ∀ i, i < 4 → fr' (55 + i) = fr (55 + i))
    (hcnt : fr' 5 = nI (upN cnt j0 (cnt j0 + 1) 0) ∧ fr' 6 = nI (upN cnt j0 (cnt j0 + 1) 1) ∧ fr' 7 = nI (upN cnt j0 (cnt j0 + 1) 2) ∧ fr' 10 = nI (upN cnt j0 (cnt j0 + 1) 3))
    (hu : ∀ j i q, j < 4 → i < cnt j → uE j i q → fr' q = fr q) (hn : elC Δ c2 fr' j0 a (cnt j0)) (hz : ∀ l, upN cnt j0 (cnt j0 + 1) 2 ≤ l → l < 5 → fr' (35 + 4 * l + 2) = 0 ∧ fr' (35 + 4 * l + 3) = 0) : GP Δ E c2 fr' (upN EL j0 E') (upN cp j0 10) (upN cnt j0 (cnt j0 + 1)) (upE el j0 (cnt j0) a) := by
  obtain ⟨g1, ⟨pf, np, g2, g3, g3b, g3c⟩, g4, g5, g6, g7, g8, g9⟩ := G
  obtain ⟨mc0, f0, l1, l2, -⟩ := g5 j0 hj
  have nW : ∀ b x, c b = some x → x.1 ≠ 14 → x.1 ≠ 103 → ¬ (b = E.rg + 2 + j0 ∨ (b = EL j0 ∧ cp j0 = 10)) := fun b x q n1 n2 z => by
    rcases z with z | ⟨z, -⟩
    · rw [z, l1] at q; exact n1 (by rw [← Option.some.inj q])
    · rw [z, l2] at q; exact n2 (by rw [← Option.some.inj q])
  obtain ⟨r0, r1, r2, r3, r4, r8, r9⟩ := hrg
  refine ⟨?_, ⟨pf, np, kp _ _ g2 (nW _ _ g2 (by show 100 ≠ 14; omega) (by show 100 ≠ 103; omega)), r9.trans g3, g3b, fun i hi => (g3c i hi).trans (hpz i (by omega)).symm⟩, hcnt, fun j hj4 => ?_, fun i j hi hj4 hne => ?_, fun j hj4 i hi => ?_, fun j hj4 => ?_, hz⟩
  · rw [r0, r1, r2, r3, r4, r8, r9]
    exact kp _ _ g1 (nW _ _ g1 (by show 4 ≠ 14; omega) (by show 4 ≠ 103; omega))
  · by_cases e : j = j0
    · subst e
      rw [upN_t, upN_t, upN_t, upE_t]
      exact X
    · rw [upN_f e, upN_f e, upN_f e, upE_f e]
      refine (g5 j hj4).kp (fun b x q z => kp b x q (fun y => ?_))
      obtain ⟨mc1, f1, k1, k2, -⟩ := g5 j hj4
      rcases z with z | z
      · rcases y with y | ⟨y, -⟩
        · omega
        · exact ce_ne k1 l2 (Or.inl (by show 14 ≠ 103; omega)) (z.symm.trans y)
      · rcases y with y | ⟨y, y2⟩
        · exact ce_ne k2 l1 (Or.inl (by show 103 ≠ 14; omega)) (z.symm.trans y)
        · have := g6 j0 j hj hj4 (Ne.symm e) (y.symm.trans z)
          omega
  · intro q
    by_cases e1 : i = j0
    · subst e1
      rw [upN_t, upN_f (fun z => hne z.symm)] at q
      exfalso
      obtain ⟨mc1, f1, k1, k2, k3, -⟩ := g5 j hj4
      rcases hE with ⟨z1, z2⟩ | ⟨z1, -⟩
      · have := g6 i j hi hj4 hne (z1.symm.trans q)
        omega
      · exact z1 _ _ k2 q.symm
    · by_cases e2 : j = j0
      · subst e2
        rw [upN_t, upN_f e1] at q
        rw [upN_f e1]
        obtain ⟨mc1, f1, k1, k2, k3, -⟩ := g5 i hi
        rcases hE with ⟨z1, z2⟩ | ⟨z1, -⟩
        · exact g6 i j hi hj4 hne (q.trans z1)
        · exact absurd q (z1 _ _ k2)
      · rw [upN_f e1, upN_f e2] at q
        rw [upN_f e1]
        exact g6 i j hi hj4 hne q
  · have kpe : ∀ i, i < cnt j → elC Δ c2 fr' j (el j i) i := fun i hi => by
      obtain ⟨x0, p1, p2, p3⟩ := el_tag (g7 j hj4 i hi)
      refine el_mv (g7 j hj4 i hi) (fun b x q z => kp b x q ?_) (fun q hq => hu j i q hj4 hi hq)
      rcases z with z | z | z
      · rw [z, p1] at q
        have := Option.some.inj q
        exact nW b x0 (by rw [z]; exact p1) (by omega) (by omega)
      · exact nW b x q (by omega) (by omega)
      · exact nW b x q (by omega) (by omega)
    by_cases e : j = j0
    · subst e
      rw [upN_t] at hi
      rw [upE_t]
      show elC Δ c2 fr' j (if i = cnt j then a else el j i) i
      by_cases e2 : i = cnt j
      · rw [if_pos e2, e2]; exact hn
      · rw [if_neg e2]; exact kpe i (by omega)
    · rw [upN_f e] at hi
      rw [upE_f e]
      exact kpe i hi
  · obtain ⟨b1, b2, b3⟩ := g8 j hj4
    by_cases e : j = j0
    · subst e
      rw [upN_t, upN_t, upN_t, upE_t]
      refine ⟨fun _ => ?_, fun i hi => ?_, fun i i2 hi hi2 q => ?_⟩
      · rcases hE with ⟨z1, z2⟩ | ⟨-, z2⟩
        · rw [z1]; exact b1 z2
        · exact z2
      · show E.rg ≤ if i = cnt j then a else el j i
        by_cases e2 : i = cnt j
        · rw [if_pos e2]; exact ha.2
        · rw [if_neg e2]; exact b2 i (by omega)
      · have q : (if i = cnt j then a else el j i) = (if i2 = cnt j then a else el j i2) := q
        by_cases e2 : i = cnt j
        · by_cases e3 : i2 = cnt j
          · omega
          · rw [if_pos e2, if_neg e3] at q
            obtain ⟨x0, p1, -⟩ := el_tag (g7 j hj4 i2 (by omega))
            exact absurd q.symm (ha.1 _ _ p1)
        · by_cases e3 : i2 = cnt j
          · rw [if_neg e2, if_pos e3] at q
            obtain ⟨x0, p1, -⟩ := el_tag (g7 j hj4 i (by omega))
            exact absurd q (ha.1 _ _ p1)
          · rw [if_neg e2, if_neg e3] at q
            exact b3 i i2 (by omega) (by omega) q
    · rw [upN_f e, upN_f e, upN_f e, upE_f e]
      exact ⟨b1, b2, b3⟩
/-- without one more: the cells of the regatta itself, its prizes; what was told of one -/
theorem gp_keep {Δ : Cx} {E : Ev} {c c2 : Nat → Option Cel} {fr fr' : Nat → Int32} {EL cp cnt : Nat → Nat} {el : Nat → Nat → Nat} (G : GP Δ E c fr EL cp cnt el) {W : Nat → Prop}
    (kp : ∀ b x, c b = some x → ¬ W b → c2 b = some x) (hW : ∀ b x, c b = some x → W b → x.1 ≠ 14 ∧ x.1 ≠ 103 ∧ x.1 ≠ 16 ∧ x.1 ≠ 102)
    (hrg : c2 E.rg = some (4, 0, rgO E fr')) (hpz : ∃ (pf : Nat → Int32) (np : Nat), c2 (E.rg + 1) = some (100, 4, fun i => .int (pf i)) ∧ fr' 9 = nI np ∧ np ≤ 4 ∧ ∀ i, i < np → pf i = fr' (55 + i))
    (hcnt : fr' 5 = fr 5 ∧ fr' 6 = fr 6 ∧ fr' 7 = fr 7 ∧ fr' 10 = fr 10)
    (hel : ∀ j i, j < 4 → i < cnt j → (W (el j i) → elC Δ c2 fr' j (el j i) i) ∧ (¬ W (el j i) → ∀ q, uE j i q → fr' q = fr q))
    (hz : ∀ l, cnt 2 ≤ l → l < 5 → fr' (35 + 4 * l + 2) = 0 ∧ fr' (35 + 4 * l + 3) = 0) : GP Δ E c2 fr' EL cp cnt el := by
  obtain ⟨g1, g2, g4, g5, g6, g7, g8, g9⟩ := G
  obtain ⟨n5, n6, n7, n10⟩ := hcnt
  refine ⟨hrg, hpz, ⟨n5.trans g4.1, n6.trans g4.2.1, n7.trans g4.2.2.1, n10.trans g4.2.2.2⟩, fun j hj => ?_, g6, fun j hj i hi => ?_, g8, hz⟩
  · obtain ⟨mc1, f1, k1, k2, k3⟩ := g5 j hj
    exact ⟨mc1, f1, kp _ _ k1 (fun q => (hW _ _ k1 q).1 rfl), kp _ _ k2 (fun q => (hW _ _ k2 q).2.1 rfl), k3⟩
  · by_cases e : W (el j i)
    · exact (hel j i hj hi).1 e
    · refine el_mv (g7 j hj i hi) (fun b x q z => kp b x q (fun w => ?_)) ((hel j i hj hi).2 e)
      rcases z with z | z | z
      · exact e (z ▸ w)
      · exact (hW b x q w).2.2.1 z
      · exact (hW b x q w).2.2.2 z
