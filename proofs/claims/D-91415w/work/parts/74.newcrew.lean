/-! PURE: a new crew -/
def newC (cr : CCr) (s home : Nat) (hor : Int32) (best : Nat) (men : Int32) : CCr :=
  CCr.mk (cr.n + 1) (pup cr.sort cr.n s) (pup cr.home cr.n home) (pup cr.best cr.n best) (pup cr.men cr.n men) (pup cr.hor cr.n hor)
    (pup cr.gA cr.n (if s < 2 then 100 else if s = 2 then 1 else 0)) (pup cr.gB cr.n (if s < 2 then 10 else 0)) (pup cr.gC cr.n (if s = 1 then 1 else 0))
    (pup cr.st cr.n 0) (pup cr.post cr.n home) (pup cr.till cr.n (-1)) (pup cr.sent cr.n (-1)) (pup cr.flr cr.n (-1)) (pup cr.wk cr.n 0) cr.tir cr.got cr.beg
def crewS (cr : CCr) (a1 a2 a3 a4 a5 : Int32) : Int32 × CCr :=
  if out a1 0 3 then (-1, cr) else if inN a2 20 then if out a4 50 150 then (-1, cr) else if out a5 1 9 then (-1, cr) else if cr.n = 16 then (-1, cr) else
    (iN cr.n, newC cr a1.toNatClampNeg a2.toNatClampNeg a3 a4.toNatClampNeg a5) else (-1, cr)
theorem newC_WF {cr : CCr} {nh : Nat} (w : cr.WF nh) (h16 : cr.n ≠ 16) {s home best : Nat} {hor men : Int32} (hs : s < 4) (hh : home < 20) (hb : 50 ≤ best ∧ best ≤ 150) : (newC cr s home hor best men).WF nh := by
  have hn := w.hn
  have lt : ∀ {k : Nat}, k < (newC cr s home hor best men).n → k ≠ cr.n → k < cr.n := fun {k} hk hne => by have : k < cr.n + 1 := hk; omega
  refine CCr.WF.mk (show cr.n + 1 ≤ 16 by omega) ?_ ?_ ?_ ?_ ?_ ?_ ?_ w.tir ?_ ?_ ?_
  · intro k hk; show pup cr.sort cr.n s k < 4; by_cases e : k = cr.n
    · subst e; rw [pup_eq]; exact hs
    · rw [pup_ne e]; exact w.sort k (lt hk e)
  · intro k hk; show pup cr.home cr.n home k < 20; by_cases e : k = cr.n
    · subst e; rw [pup_eq]; exact hh
    · rw [pup_ne e]; exact w.home k (lt hk e)
  · intro k hk; show 50 ≤ pup cr.best cr.n best k ∧ pup cr.best cr.n best k ≤ 150; by_cases e : k = cr.n
    · subst e; rw [pup_eq]; exact hb
    · rw [pup_ne e]; exact w.best k (lt hk e)
  · intro k hk; show pup cr.gA cr.n _ k ≤ 3000; by_cases e : k = cr.n
    · subst e; rw [pup_eq]; split <;> (try split) <;> omega
    · rw [pup_ne e]; exact w.gA k (lt hk e)
  · intro k hk; show pup cr.gB cr.n _ k ≤ 500 ∧ (pup cr.sort cr.n s k < 2 → 10 ≤ pup cr.gB cr.n _ k); by_cases e : k = cr.n
    · subst e; rw [pup_eq, pup_eq]; split <;> omega
    · rw [pup_ne e, pup_ne e]; exact w.gB k (lt hk e)
  · intro k hk; show pup cr.gC cr.n _ k ≤ 30; by_cases e : k = cr.n
    · subst e; rw [pup_eq]; split <;> omega
    · rw [pup_ne e]; exact w.gC k (lt hk e)
  · intro k hk; show pup cr.post cr.n home k < 20; by_cases e : k = cr.n
    · subst e; rw [pup_eq]; exact hh
    · rw [pup_ne e]; exact w.post k (lt hk e)
  · intro k hk; show pup cr.wk cr.n 0 k ≤ nh ∧ (pup cr.st cr.n 0 k = 2 → pup cr.wk cr.n 0 k ≠ 0); by_cases e : k = cr.n
    · subst e; rw [pup_eq, pup_eq]; exact ⟨by omega, fun z => absurd z (by decide)⟩
    · rw [pup_ne e, pup_ne e]; exact w.wk k (lt hk e)
  · intro k hk; show (pup cr.st cr.n 0 k = 1 ∨ pup cr.st cr.n 0 k = 3) → pup cr.till cr.n (-1) k ≠ -1; by_cases e : k = cr.n
    · subst e; rw [pup_eq]; intro z; rcases z with z | z <;> exact absurd z (by decide)
    · rw [pup_ne e, pup_ne e]; exact w.till k (lt hk e)
  · intro k hk; exact w.z k (by have : cr.n + 1 ≤ k := hk; omega)
theorem RMcr.new {cr : CCr} {nh : Nat} (w : cr.WF nh) {S : amSt} (hR : RMcr cr S) {s home best : Nat} {hor men : Int32} {S' : amSt} (h16 : cr.n < 16)
    (e58 : S'.1 1 1 58 = iN (cr.n + 1)) (e : ∀ q k, 87 ≤ q → q ≤ 106 → k ≠ cr.n → S'.1 q 1 k = S.1 q 1 k)
    (f1 : S'.1 87 1 cr.n = iN s) (f2 : S'.1 88 1 cr.n = iN home) (f3 : S'.1 106 1 cr.n = hor) (f4 : S'.1 89 1 cr.n = iN best) (f5 : S'.1 90 1 cr.n = men)
    (f6 : S'.1 91 1 cr.n = iN (if s < 2 then 100 else if s = 2 then 1 else 0)) (f7 : S'.1 92 1 cr.n = iN (if s < 2 then 10 else 0)) (f8 : S'.1 93 1 cr.n = iN (if s = 1 then 1 else 0))
    (f9 : S'.1 94 1 cr.n = 0) (f10 : S'.1 95 1 cr.n = iN home) (f11 : S'.1 96 1 cr.n = -1) (f12 : S'.1 97 1 cr.n = -1) (f13 : S'.1 98 1 cr.n = -1) (f14 : S'.1 99 1 cr.n = -1)
    (f15 : ∀ q, q = 100 ∨ q = 101 ∨ q = 103 → S'.1 q 1 cr.n = S.1 q 1 cr.n) : RMcr (newC cr s home hor best men) S' := by
  have lt : ∀ {k : Nat}, k < (newC cr s home hor best men).n → k ≠ cr.n → k < cr.n := fun {k} hk hne => by have : k < cr.n + 1 := hk; omega
  refine RMcr.mk e58 ?_ ?_ ?_ ?_ ?_ ?_ ?_ ?_ ?_ ?_ ?_ ?_ ?_ ?_ ?_ ?_ ?_ ?_
  · intro k hk; show _ = iN (pup cr.sort cr.n s k); by_cases z : k = cr.n
    · subst z; rw [pup_eq]; exact f1
    · rw [pup_ne z, e _ _ (by decide) (by decide) z]; exact hR.sort k (lt hk z)
  · intro k hk; show _ = iN (pup cr.home cr.n home k); by_cases z : k = cr.n
    · subst z; rw [pup_eq]; exact f2
    · rw [pup_ne z, e _ _ (by decide) (by decide) z]; exact hR.home k (lt hk z)
  · intro k hk; show _ = iN (pup cr.best cr.n best k); by_cases z : k = cr.n
    · subst z; rw [pup_eq]; exact f4
    · rw [pup_ne z, e _ _ (by decide) (by decide) z]; exact hR.best k (lt hk z)
  · intro k hk; show _ = pup cr.men cr.n men k; by_cases z : k = cr.n
    · subst z; rw [pup_eq]; exact f5
    · rw [pup_ne z, e _ _ (by decide) (by decide) z]; exact hR.men k (lt hk z)
  · intro k hk; show _ = pup cr.hor cr.n hor k; by_cases z : k = cr.n
    · subst z; rw [pup_eq]; exact f3
    · rw [pup_ne z, e _ _ (by decide) (by decide) z]; exact hR.hor k (lt hk z)
  · intro k hk; show _ = iN (pup cr.gA cr.n _ k); by_cases z : k = cr.n
    · subst z; rw [pup_eq]; exact f6
    · rw [pup_ne z, e _ _ (by decide) (by decide) z]; exact hR.gA k (lt hk z)
  · intro k hk; show _ = iN (pup cr.gB cr.n _ k); by_cases z : k = cr.n
    · subst z; rw [pup_eq]; exact f7
    · rw [pup_ne z, e _ _ (by decide) (by decide) z]; exact hR.gB k (lt hk z)
  · intro k hk; show _ = iN (pup cr.gC cr.n _ k); by_cases z : k = cr.n
    · subst z; rw [pup_eq]; exact f8
    · rw [pup_ne z, e _ _ (by decide) (by decide) z]; exact hR.gC k (lt hk z)
  · intro k hk; show _ = pup cr.st cr.n 0 k; by_cases z : k = cr.n
    · subst z; rw [pup_eq]; exact f9
    · rw [pup_ne z, e _ _ (by decide) (by decide) z]; exact hR.st k (lt hk z)
  · intro k hk; show _ = iN (pup cr.post cr.n home k); by_cases z : k = cr.n
    · subst z; rw [pup_eq]; exact f10
    · rw [pup_ne z, e _ _ (by decide) (by decide) z]; exact hR.post k (lt hk z)
  · intro k hk; show _ = pup cr.till cr.n (-1) k; by_cases z : k = cr.n
    · subst z; rw [pup_eq]; exact f11
    · rw [pup_ne z, e _ _ (by decide) (by decide) z]; exact hR.till k (lt hk z)
  · intro k hk; show _ = pup cr.sent cr.n (-1) k; by_cases z : k = cr.n
    · subst z; rw [pup_eq]; exact f12
    · rw [pup_ne z, e _ _ (by decide) (by decide) z]; exact hR.sent k (lt hk z)
  · intro k hk; show _ = oW (pup cr.wk cr.n 0 k); by_cases z : k = cr.n
    · subst z; rw [pup_eq]; exact f13
    · rw [pup_ne z, e _ _ (by decide) (by decide) z]; exact hR.wk k (lt hk z)
  · intro k hk; show _ = pup cr.flr cr.n (-1) k; by_cases z : k = cr.n
    · subst z; rw [pup_eq]; exact f14
    · rw [pup_ne z, e _ _ (by decide) (by decide) z]; exact hR.flr k (lt hk z)
  · intro k hk; by_cases z : k = cr.n
    · subst z; rw [f15 _ (by omega)]; exact hR.tir _ hk
    · rw [e _ _ (by decide) (by decide) z]; exact hR.tir k hk
  · intro k hk; by_cases z : k = cr.n
    · subst z; rw [f15 _ (by omega)]; exact hR.got _ hk
    · rw [e _ _ (by decide) (by decide) z]; exact hR.got k hk
  · intro k hk; by_cases z : k = cr.n
    · subst z; rw [f15 _ (by omega)]; exact hR.beg _ hk
    · rw [e _ _ (by decide) (by decide) z]; exact hR.beg k hk
  · intro k hk h16; have hk2 : cr.n + 1 ≤ k := hk; rw [e _ _ (by decide) (by decide) (by omega)]; exact hR.st0 k (by omega) h16
