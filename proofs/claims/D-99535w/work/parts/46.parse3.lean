/-! the parser's lines -/
def sfP (i : Nat) (x : Int32) (P : Pk) : Pk := (P.a, P.e, P.k, P.w, P.z, P.f, P.u, P.p, P.le, fun q => if q = i then x else P.fr q)
theorem eOk_sf {n i : Nat} {x : Int32} {P : Pk} (h : eOk n P) : eOk n (sfP i x P) := h
theorem fr_wg {k p : Int32} {P : Pk} : (wgP k p P).fr = P.fr := by unfold wgP; split <;> rfl
theorem fr_nx {t : Nat → Int32} {n : Nat} {P : Pk} : (nxP t n P).fr = P.fr := by
  unfold nxP nxQ
  split
  · rfl
  · split
    · rfl
    · split <;> rfl
theorem fr_pa {t : Nat → Int32} {n : Nat} {P : Pk} : (paP t n P).fr = P.fr := by
  unfold paP; split
  · exact fr_nx
  · rfl
theorem fr_mn {P : Pk} : (mnP P).fr = P.fr := by
  unfold mnP; split
  · rfl
  · exact fr_wg
theorem fr_mu {t : Nat → Int32} {n i : Nat} {P : Pk} : (muP t n i P).fr = P.fr := by
  unfold muP; split
  · split
    · exact fr_nx
    · exact fr_wg
  · rfl
theorem fr_nw {lo hi : Int32} {P : Pk} : (nuW lo hi P).fr = P.fr := by
  unfold nuW; split
  · split
    · rfl
    · exact fr_wg
  · exact fr_wg
theorem fr_nu {t : Nat → Int32} {n : Nat} {lo hi : Int32} {P : Pk} : (nuP t n lo hi P).fr = P.fr := by
  unfold nuP; split
  · split
    · exact fr_nx.trans fr_nw
    · exact fr_nw
  · rfl
theorem fr_af {t : Nat → Int32} {n i : Nat} {lo hi : Int32} {P : Pk} : (afP t n i lo hi P).fr = P.fr := fr_nu.trans fr_mu
theorem fr_si {t : Nat → Int32} {n : Nat} {P : Pk} : (siP t n P).fr = P.fr := by
  unfold siP; split
  · exact fr_nx
  · exact fr_mu
theorem fr_nd {lo hi : Int32} {P : Pk} : (ndP lo hi P).fr = P.fr := by
  unfold ndP ndW
  split
  · split
    · split
      · rfl
      · exact fr_wg
    · exact fr_mn
  · rfl
theorem fr_be {t : Nat → Int32} {n i : Nat} {can : Bool} {P : Pk} : (beP t n i can P).fr = P.fr := by
  have h1 : (beW can P).fr = P.fr := by unfold beW; split; rfl; exact fr_wg
  have h2 : (beC can P).fr = P.fr := by unfold beC; split; exact fr_wg.trans h1; exact h1
  unfold beP; split
  · exact fr_pa.trans h2
  · rfl
theorem sOk_of {f g : Nat → Int32} (e : f = g) (h : sOk g) : sOk f := e ▸ h
/-- of the word that was found: a number from 0 on -/
theorem ndV_nat {lo hi : Nat} {P : Pk} (hl : lo ≤ hi) (hh : hi < 13) : ∃ v : Nat, v ≤ hi - lo ∧ ndV (nI lo) (nI hi) P = nI v := by
  unfold ndV
  by_cases h1 : P.f = 0
  · rw [if_pos h1]
    by_cases h2 : (mnP P).f = 0
    · rw [if_pos h2]
      by_cases h3 : (ndW (nI lo) (nI hi) P).f = 0
      · rw [if_pos h3]
        unfold ndW at h3
        by_cases c : inS (fnS P 13 0) (nI lo) (nI hi) = true
        · have c2 := of_decide_eq_true c
          obtain ⟨k, hk, e⟩ := in_nat2 (n := hi) (by omega) (decide_eq_true ⟨Int32.le_trans (nI_pos' (by omega)) c2.1, c2.2⟩)
          have := (nI_leI (a := lo) (b := k) (by omega) (by omega)).mp (e ▸ c2.1)
          exact ⟨k - lo, by omega, by rw [e]; exact pk_sub this⟩
        · rw [if_neg c] at h3
          unfold wgP at h3
          rw [if_pos h1] at h3
          exact absurd h3 (show ¬ (1 : Int32) = 0 by decide)
      · rw [if_neg h3]; exact ⟨0, by omega, rfl⟩
    · rw [if_neg h2]; exact ⟨0, by omega, rfl⟩
  · rw [if_neg h1]; exact ⟨0, by omega, rfl⟩
section PL
variable (t : Nat → Int32) (n : Nat)
def stA (i x : Nat) (lo hi : Int32) (P : Pk) : Pk := sfP x (afV t n i lo hi P) (afP t n i lo hi P)
def stS (x : Nat) (P : Pk) : Pk := sfP x (siV P) (siP t n P)
def icP (k : Nat) (P : Pk) : Pk := sfP k (P.fr k + 1) P
def inP (k : Nat) (P : Pk) : Pk := if P.f = 0 then icP k P else P
def beL (P : Pk) : Pk := if P.f = 0 then inP 5 (stS t n (11 + 2 * ix (P.fr 5) + 1) (stA t n 10 (11 + 2 * ix (P.fr 5)) 1 30 (nnP t n (4 + ix (P.fr 5)) P))) else P
def loL (P : Pk) : Pk := if P.f = 0 then inP 7 (stA t n 16 (35 + 4 * ix (P.fr 7) + 1) 0 9 (stA t n 24 (35 + 4 * ix (P.fr 7)) 0 30 (nnP t n (8 + ix (P.fr 7)) P))) else P
def hkV (P : Pk) : Int32 := if isT 5 P = true then 0 else if isT 20 P = true then 1 else if isT 22 P = true then 2 else if isT 12 P = true then 3 else -1
def hkW (P : Pk) : Pk := if 0 ≤ hkV P then P else wgP 1 P.a P
def hoM (h : Nat) (P : Pk) : Pk := if (hkW P).f = 0 then inP 6 (stA t n 19 (19 + 4 * h + 3) 1 6 (stA t n 21 (19 + 4 * h + 2) 0 50 (stS t n (19 + 4 * h + 1) (sfP (19 + 4 * h) (hkV P) (nxP t n (hkW P)))))) else hkW P
def hoL (P : Pk) : Pk := if P.f = 0 then hoM t n (ix (P.fr 6)) (nnP t n (ix (P.fr 6)) P) else P
def reW (P : Pk) : Pk := if P.fr 0 ≤ 0 then P else wgP 3 P.a P
def reM (P : Pk) : Pk := stA t n 4 4 0 9 (stA t n 13 3 0 100 (stA t n 18 2 0 30 (stA t n 3 1 1 6 (afP t n 23 1 20 (nxP t n P)))))
def reL (P : Pk) : Pk := if (reW P).f = 0 then (if (reM t n (reW P)).f = 0 then sfP 0 (afV t n 23 1 20 (nxP t n (reW P))) (reM t n (reW P)) else reM t n (reW P)) else reW P
def prL (P : Pk) : Pk := if (nuP t n 0 99 P).f = 0 then icP 9 (sfP (55 + ix (P.fr 9)) (nuV 0 99 P) (nuP t n 0 99 P)) else nuP t n 0 99 P
end PL
section PM
variable (t : Nat → Int32) (n : Nat)
def aaW (l : Nat) (Q : Pk) : Pk := if Q.f = 0 then (if Q.fr (35 + 4 * l + 2) ≤ 0 then Q else wgP 3 Q.a Q) else Q
def cnH (fr : Nat → Int32) (x : Int32) : Nat → Int32
  | 0 => 0
  | k + 1 => cnH fr x k + (if fr (35 + 4 * k + 2) = x then 1 else 0)
def abW (c : Int32) (h : Nat) (Q : Pk) : Pk := if Q.f = 0 then (if c < Q.fr (19 + 4 * h + 3) then Q else wgP 7 Q.a Q) else Q
def abE (l h : Nat) (Q : Pk) : Pk := if Q.f = 0 then sfP (35 + 4 * l + 2) (nI h + 1) Q else Q
def abQ (P : Pk) : Pk := paP t n (aaW (ix (ndV 8 12 P)) (ndP 8 12 P))
def abL (P : Pk) : Pk := abE (ix (ndV 8 12 P)) (ix (ndV 0 3 (abQ t n P))) (paP t n (abW (cnH P.fr (nI (ix (ndV 0 3 (abQ t n P))) + 1) (ix (P.fr 7))) (ix (ndV 0 3 (abQ t n P))) (ndP 0 3 (abQ t n P))))
def frW (l m : Nat) (Q : Pk) : Pk := if Q.f = 0 then (if l = m ∨ hbS (Q.fr (35 + 4 * l + 3)) (nI m) = true then wgP 3 Q.a Q else Q) else Q
def orF (a b : Nat) (Q : Pk) : Pk := sfP (35 + 4 * a + 3) (Q.fr (35 + 4 * a + 3) ||| (1 : Int32) <<< (nI b &&& 31)) Q
def frE (l m : Nat) (Q : Pk) : Pk := if Q.f = 0 then icP 8 (orF m l (orF l m Q)) else Q
def frQ (P : Pk) : Pk := paP t n (ndP 8 12 P)
def frL (P : Pk) : Pk := frE (ix (ndV 8 12 P)) (ix (ndV 8 12 (frQ t n P))) (paP t n (frW (ix (ndV 8 12 P)) (ix (ndV 8 12 (frQ t n P))) (ndP 8 12 (frQ t n P))))
def saW (h g : Nat) (Q : Pk) : Pk := if Q.f = 0 then (if h = g then wgP 3 Q.a Q else Q) else Q
def saE (v h g k : Nat) (Q : Pk) : Pk := if Q.f = 0 then icP 10 (sfP (59 + 3 * v + 2) (nI k) (sfP (59 + 3 * v + 1) (nI g) (sfP (59 + 3 * v) (nI h) Q))) else Q
def saQ (P : Pk) : Pk := paP t n (ndP 0 3 P)
def saR (P : Pk) : Pk := paP t n (saW (ix (ndV 0 3 P)) (ix (ndV 0 3 (saQ t n P))) (ndP 0 3 (saQ t n P)))
def saL (P : Pk) : Pk := saE (ix (P.fr 10)) (ix (ndV 0 3 P)) (ix (ndV 0 3 (saQ t n P))) (ix (ndV 4 7 (saR t n P))) (paP t n (ndP 4 7 (saR t n P)))
end PM
theorem fr_aa {l : Nat} {Q : Pk} : (aaW l Q).fr = Q.fr := by
  unfold aaW; split
  · split
    · rfl
    · exact fr_wg
  · rfl
theorem fr_fw {l m : Nat} {Q : Pk} : (frW l m Q).fr = Q.fr := by
  unfold frW; split
  · split
    · exact fr_wg
    · rfl
  · rfl
theorem fr_sw {l m : Nat} {Q : Pk} : (saW l m Q).fr = Q.fr := by
  unfold saW; split
  · split
    · exact fr_wg
    · rfl
  · rfl
theorem eOk_aa {n l : Nat} {Q : Pk} (h : eOk n Q) : eOk n (aaW l Q) := by
  unfold aaW; repeat' split
  all_goals first | exact h | exact eOk_wg h
theorem eOk_aw {n l : Nat} {c : Int32} {Q : Pk} (h : eOk n Q) : eOk n (abW c l Q) := by
  unfold abW; repeat' split
  all_goals first | exact h | exact eOk_wg h
theorem eOk_fw {n l m : Nat} {Q : Pk} (h : eOk n Q) : eOk n (frW l m Q) := by
  unfold frW; repeat' split
  all_goals first | exact h | exact eOk_wg h
theorem eOk_sw {n l m : Nat} {Q : Pk} (h : eOk n Q) : eOk n (saW l m Q) := by
  unfold saW; repeat' split
  all_goals first | exact h | exact eOk_wg h
