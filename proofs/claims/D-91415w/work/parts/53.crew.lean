/-! PURE: crews; those hurt -/
abbrev CCr : Type := (Nat) × (Nat → Nat) × (Nat → Nat) × (Nat → Nat) × (Nat → Int32) × (Nat → Int32) × (Nat → Nat) × (Nat → Nat) × (Nat → Nat) × (Nat → Int32) × (Nat → Nat) × (Nat → Int32) × (Nat → Int32) × (Nat → Int32) × (Nat → Nat) × (Nat → Nat) × (Nat → Int32) × (Nat → Int32)
def CCr.mk (n : Nat) (sort : Nat → Nat) (home : Nat → Nat) (best : Nat → Nat) (men : Nat → Int32) (hor : Nat → Int32) (gA : Nat → Nat) (gB : Nat → Nat) (gC : Nat → Nat) (st : Nat → Int32) (post : Nat → Nat) (till : Nat → Int32) (sent : Nat → Int32) (flr : Nat → Int32) (wk : Nat → Nat) (tir : Nat → Nat) (got : Nat → Int32) (beg : Nat → Int32) : CCr := (n, sort, home, best, men, hor, gA, gB, gC, st, post, till, sent, flr, wk, tir, got, beg)
def CCr.n (c : CCr) : Nat := c.1
def CCr.sort (c : CCr) : Nat → Nat := c.2.1
def CCr.home (c : CCr) : Nat → Nat := c.2.2.1
def CCr.best (c : CCr) : Nat → Nat := c.2.2.2.1
def CCr.men (c : CCr) : Nat → Int32 := c.2.2.2.2.1
def CCr.hor (c : CCr) : Nat → Int32 := c.2.2.2.2.2.1
def CCr.gA (c : CCr) : Nat → Nat := c.2.2.2.2.2.2.1
def CCr.gB (c : CCr) : Nat → Nat := c.2.2.2.2.2.2.2.1
def CCr.gC (c : CCr) : Nat → Nat := c.2.2.2.2.2.2.2.2.1
def CCr.st (c : CCr) : Nat → Int32 := c.2.2.2.2.2.2.2.2.2.1
def CCr.post (c : CCr) : Nat → Nat := c.2.2.2.2.2.2.2.2.2.2.1
def CCr.till (c : CCr) : Nat → Int32 := c.2.2.2.2.2.2.2.2.2.2.2.1
def CCr.sent (c : CCr) : Nat → Int32 := c.2.2.2.2.2.2.2.2.2.2.2.2.1
def CCr.flr (c : CCr) : Nat → Int32 := c.2.2.2.2.2.2.2.2.2.2.2.2.2.1
def CCr.wk (c : CCr) : Nat → Nat := c.2.2.2.2.2.2.2.2.2.2.2.2.2.2.1
def CCr.tir (c : CCr) : Nat → Nat := c.2.2.2.2.2.2.2.2.2.2.2.2.2.2.2.1
def CCr.got (c : CCr) : Nat → Int32 := c.2.2.2.2.2.2.2.2.2.2.2.2.2.2.2.2.1
def CCr.beg (c : CCr) : Nat → Int32 := c.2.2.2.2.2.2.2.2.2.2.2.2.2.2.2.2.2
def CCr.s_n (c : CCr) (v : Nat) : CCr := CCr.mk v c.sort c.home c.best c.men c.hor c.gA c.gB c.gC c.st c.post c.till c.sent c.flr c.wk c.tir c.got c.beg
def CCr.s_sort (c : CCr) (v : Nat → Nat) : CCr := CCr.mk c.n v c.home c.best c.men c.hor c.gA c.gB c.gC c.st c.post c.till c.sent c.flr c.wk c.tir c.got c.beg
def CCr.s_home (c : CCr) (v : Nat → Nat) : CCr := CCr.mk c.n c.sort v c.best c.men c.hor c.gA c.gB c.gC c.st c.post c.till c.sent c.flr c.wk c.tir c.got c.beg
def CCr.s_best (c : CCr) (v : Nat → Nat) : CCr := CCr.mk c.n c.sort c.home v c.men c.hor c.gA c.gB c.gC c.st c.post c.till c.sent c.flr c.wk c.tir c.got c.beg
def CCr.s_men (c : CCr) (v : Nat → Int32) : CCr := CCr.mk c.n c.sort c.home c.best v c.hor c.gA c.gB c.gC c.st c.post c.till c.sent c.flr c.wk c.tir c.got c.beg
def CCr.s_hor (c : CCr) (v : Nat → Int32) : CCr := CCr.mk c.n c.sort c.home c.best c.men v c.gA c.gB c.gC c.st c.post c.till c.sent c.flr c.wk c.tir c.got c.beg
def CCr.s_gA (c : CCr) (v : Nat → Nat) : CCr := CCr.mk c.n c.sort c.home c.best c.men c.hor v c.gB c.gC c.st c.post c.till c.sent c.flr c.wk c.tir c.got c.beg
def CCr.s_gB (c : CCr) (v : Nat → Nat) : CCr := CCr.mk c.n c.sort c.home c.best c.men c.hor c.gA v c.gC c.st c.post c.till c.sent c.flr c.wk c.tir c.got c.beg
def CCr.s_gC (c : CCr) (v : Nat → Nat) : CCr := CCr.mk c.n c.sort c.home c.best c.men c.hor c.gA c.gB v c.st c.post c.till c.sent c.flr c.wk c.tir c.got c.beg
def CCr.s_st (c : CCr) (v : Nat → Int32) : CCr := CCr.mk c.n c.sort c.home c.best c.men c.hor c.gA c.gB c.gC v c.post c.till c.sent c.flr c.wk c.tir c.got c.beg
def CCr.s_post (c : CCr) (v : Nat → Nat) : CCr := CCr.mk c.n c.sort c.home c.best c.men c.hor c.gA c.gB c.gC c.st v c.till c.sent c.flr c.wk c.tir c.got c.beg
def CCr.s_till (c : CCr) (v : Nat → Int32) : CCr := CCr.mk c.n c.sort c.home c.best c.men c.hor c.gA c.gB c.gC c.st c.post v c.sent c.flr c.wk c.tir c.got c.beg
def CCr.s_sent (c : CCr) (v : Nat → Int32) : CCr := CCr.mk c.n c.sort c.home c.best c.men c.hor c.gA c.gB c.gC c.st c.post c.till v c.flr c.wk c.tir c.got c.beg
def CCr.s_flr (c : CCr) (v : Nat → Int32) : CCr := CCr.mk c.n c.sort c.home c.best c.men c.hor c.gA c.gB c.gC c.st c.post c.till c.sent v c.wk c.tir c.got c.beg
def CCr.s_wk (c : CCr) (v : Nat → Nat) : CCr := CCr.mk c.n c.sort c.home c.best c.men c.hor c.gA c.gB c.gC c.st c.post c.till c.sent c.flr v c.tir c.got c.beg
def CCr.s_tir (c : CCr) (v : Nat → Nat) : CCr := CCr.mk c.n c.sort c.home c.best c.men c.hor c.gA c.gB c.gC c.st c.post c.till c.sent c.flr c.wk v c.got c.beg
def CCr.s_got (c : CCr) (v : Nat → Int32) : CCr := CCr.mk c.n c.sort c.home c.best c.men c.hor c.gA c.gB c.gC c.st c.post c.till c.sent c.flr c.wk c.tir v c.beg
def CCr.s_beg (c : CCr) (v : Nat → Int32) : CCr := CCr.mk c.n c.sort c.home c.best c.men c.hor c.gA c.gB c.gC c.st c.post c.till c.sent c.flr c.wk c.tir c.got v
def CCr.WF (c : CCr) (nh : Nat) : Prop := (c.n ≤ 16) ∧ (∀ k, k < c.n → c.sort k < 4) ∧ (∀ k, k < c.n → c.home k < 20) ∧ (∀ k, k < c.n → 50 ≤ c.best k ∧ c.best k ≤ 150) ∧ (∀ k, k < c.n → c.gA k ≤ 3000) ∧ (∀ k, k < c.n → c.gB k ≤ 500 ∧ (c.sort k < 2 → 10 ≤ c.gB k)) ∧ (∀ k, k < c.n → c.gC k ≤ 30) ∧ (∀ k, k < c.n → c.post k < 20) ∧ (∀ k, c.tir k ≤ 300) ∧ (∀ k, k < c.n → c.wk k ≤ nh ∧ (c.st k = 2 → c.wk k ≠ 0)) ∧ (∀ k, k < c.n → (c.st k = 1 ∨ c.st k = 3) → c.till k ≠ -1) ∧ (∀ k, c.n ≤ k → c.tir k = 0 ∧ c.got k = 0 ∧ c.beg k = 0)
theorem CCr.WF.hn {c : CCr} {nh : Nat} (hx_ : CCr.WF c nh) : c.n ≤ 16 := And.left hx_
theorem CCr.WF.sort {c : CCr} {nh : Nat} (hx_ : CCr.WF c nh) : ∀ k, k < c.n → c.sort k < 4 := And.left (And.right hx_)
theorem CCr.WF.home {c : CCr} {nh : Nat} (hx_ : CCr.WF c nh) : ∀ k, k < c.n → c.home k < 20 := And.left (And.right (And.right hx_))
theorem CCr.WF.best {c : CCr} {nh : Nat} (hx_ : CCr.WF c nh) : ∀ k, k < c.n → 50 ≤ c.best k ∧ c.best k ≤ 150 := And.left (And.right (And.right (And.right hx_)))
theorem CCr.WF.gA {c : CCr} {nh : Nat} (hx_ : CCr.WF c nh) : ∀ k, k < c.n → c.gA k ≤ 3000 := And.left (And.right (And.right (And.right (And.right hx_))))
theorem CCr.WF.gB {c : CCr} {nh : Nat} (hx_ : CCr.WF c nh) : ∀ k, k < c.n → c.gB k ≤ 500 ∧ (c.sort k < 2 → 10 ≤ c.gB k) := And.left (And.right (And.right (And.right (And.right (And.right hx_)))))
theorem CCr.WF.gC {c : CCr} {nh : Nat} (hx_ : CCr.WF c nh) : ∀ k, k < c.n → c.gC k ≤ 30 := And.left (And.right (And.right (And.right (And.right (And.right (And.right hx_))))))
theorem CCr.WF.post {c : CCr} {nh : Nat} (hx_ : CCr.WF c nh) : ∀ k, k < c.n → c.post k < 20 := And.left (And.right (And.right (And.right (And.right (And.right (And.right (And.right hx_)))))))
theorem CCr.WF.tir {c : CCr} {nh : Nat} (hx_ : CCr.WF c nh) : ∀ k, c.tir k ≤ 300 := And.left (And.right (And.right (And.right (And.right (And.right (And.right (And.right (And.right hx_))))))))
theorem CCr.WF.wk {c : CCr} {nh : Nat} (hx_ : CCr.WF c nh) : ∀ k, k < c.n → c.wk k ≤ nh ∧ (c.st k = 2 → c.wk k ≠ 0) := And.left (And.right (And.right (And.right (And.right (And.right (And.right (And.right (And.right (And.right hx_)))))))))
theorem CCr.WF.till {c : CCr} {nh : Nat} (hx_ : CCr.WF c nh) : ∀ k, k < c.n → (c.st k = 1 ∨ c.st k = 3) → c.till k ≠ -1 := And.left (And.right (And.right (And.right (And.right (And.right (And.right (And.right (And.right (And.right (And.right hx_))))))))))
theorem CCr.WF.z {c : CCr} {nh : Nat} (hx_ : CCr.WF c nh) : ∀ k, c.n ≤ k → c.tir k = 0 ∧ c.got k = 0 ∧ c.beg k = 0 := (And.right (And.right (And.right (And.right (And.right (And.right (And.right (And.right (And.right (And.right (And.right hx_)))))))))))
theorem CCr.WF.mk {c : CCr} {nh : Nat} (h_hn : c.n ≤ 16) (h_sort : ∀ k, k < c.n → c.sort k < 4) (h_home : ∀ k, k < c.n → c.home k < 20) (h_best : ∀ k, k < c.n → 50 ≤ c.best k ∧ c.best k ≤ 150) (h_gA : ∀ k, k < c.n → c.gA k ≤ 3000) (h_gB : ∀ k, k < c.n → c.gB k ≤ 500 ∧ (c.sort k < 2 → 10 ≤ c.gB k)) (h_gC : ∀ k, k < c.n → c.gC k ≤ 30) (h_post : ∀ k, k < c.n → c.post k < 20) (h_tir : ∀ k, c.tir k ≤ 300) (h_wk : ∀ k, k < c.n → c.wk k ≤ nh ∧ (c.st k = 2 → c.wk k ≠ 0)) (h_till : ∀ k, k < c.n → (c.st k = 1 ∨ c.st k = 3) → c.till k ≠ -1) (h_z : ∀ k, c.n ≤ k → c.tir k = 0 ∧ c.got k = 0 ∧ c.beg k = 0) : CCr.WF c nh := And.intro h_hn (And.intro h_sort (And.intro h_home (And.intro h_best (And.intro h_gA (And.intro h_gB (And.intro h_gC (And.intro h_post (And.intro h_tir (And.intro h_wk (And.intro h_till (h_z)))))))))))
def RMcr (c : CCr) (S : amSt) : Prop := (S.1 1 1 58 = iN c.n) ∧ (∀ k, k < c.n → S.1 87 1 k = iN (c.sort k)) ∧ (∀ k, k < c.n → S.1 88 1 k = iN (c.home k)) ∧ (∀ k, k < c.n → S.1 89 1 k = iN (c.best k)) ∧ (∀ k, k < c.n → S.1 90 1 k = c.men k) ∧ (∀ k, k < c.n → S.1 106 1 k = c.hor k) ∧ (∀ k, k < c.n → S.1 91 1 k = iN (c.gA k)) ∧ (∀ k, k < c.n → S.1 92 1 k = iN (c.gB k)) ∧ (∀ k, k < c.n → S.1 93 1 k = iN (c.gC k)) ∧ (∀ k, k < c.n → S.1 94 1 k = c.st k) ∧ (∀ k, k < c.n → S.1 95 1 k = iN (c.post k)) ∧ (∀ k, k < c.n → S.1 96 1 k = c.till k) ∧ (∀ k, k < c.n → S.1 97 1 k = c.sent k) ∧ (∀ k, k < c.n → S.1 98 1 k = oW (c.wk k)) ∧ (∀ k, k < c.n → S.1 99 1 k = c.flr k) ∧ (∀ k, k < 16 → S.1 100 1 k = iN (c.tir k)) ∧ (∀ k, k < 16 → S.1 103 1 k = c.got k) ∧ (∀ k, k < 16 → S.1 101 1 k = c.beg k) ∧ (∀ k, c.n ≤ k → k < 16 → S.1 94 1 k = 0)
theorem RMcr.n {c : CCr} {S : amSt} (hx_ : RMcr c S) : S.1 1 1 58 = iN c.n := And.left hx_
theorem RMcr.sort {c : CCr} {S : amSt} (hx_ : RMcr c S) : ∀ k, k < c.n → S.1 87 1 k = iN (c.sort k) := And.left (And.right hx_)
theorem RMcr.home {c : CCr} {S : amSt} (hx_ : RMcr c S) : ∀ k, k < c.n → S.1 88 1 k = iN (c.home k) := And.left (And.right (And.right hx_))
theorem RMcr.best {c : CCr} {S : amSt} (hx_ : RMcr c S) : ∀ k, k < c.n → S.1 89 1 k = iN (c.best k) := And.left (And.right (And.right (And.right hx_)))
theorem RMcr.men {c : CCr} {S : amSt} (hx_ : RMcr c S) : ∀ k, k < c.n → S.1 90 1 k = c.men k := And.left (And.right (And.right (And.right (And.right hx_))))
theorem RMcr.hor {c : CCr} {S : amSt} (hx_ : RMcr c S) : ∀ k, k < c.n → S.1 106 1 k = c.hor k := And.left (And.right (And.right (And.right (And.right (And.right hx_)))))
theorem RMcr.gA {c : CCr} {S : amSt} (hx_ : RMcr c S) : ∀ k, k < c.n → S.1 91 1 k = iN (c.gA k) := And.left (And.right (And.right (And.right (And.right (And.right (And.right hx_))))))
theorem RMcr.gB {c : CCr} {S : amSt} (hx_ : RMcr c S) : ∀ k, k < c.n → S.1 92 1 k = iN (c.gB k) := And.left (And.right (And.right (And.right (And.right (And.right (And.right (And.right hx_)))))))
theorem RMcr.gC {c : CCr} {S : amSt} (hx_ : RMcr c S) : ∀ k, k < c.n → S.1 93 1 k = iN (c.gC k) := And.left (And.right (And.right (And.right (And.right (And.right (And.right (And.right (And.right hx_))))))))
theorem RMcr.st {c : CCr} {S : amSt} (hx_ : RMcr c S) : ∀ k, k < c.n → S.1 94 1 k = c.st k := And.left (And.right (And.right (And.right (And.right (And.right (And.right (And.right (And.right (And.right hx_)))))))))
theorem RMcr.post {c : CCr} {S : amSt} (hx_ : RMcr c S) : ∀ k, k < c.n → S.1 95 1 k = iN (c.post k) := And.left (And.right (And.right (And.right (And.right (And.right (And.right (And.right (And.right (And.right (And.right hx_))))))))))
theorem RMcr.till {c : CCr} {S : amSt} (hx_ : RMcr c S) : ∀ k, k < c.n → S.1 96 1 k = c.till k := And.left (And.right (And.right (And.right (And.right (And.right (And.right (And.right (And.right (And.right (And.right (And.right hx_)))))))))))
theorem RMcr.sent {c : CCr} {S : amSt} (hx_ : RMcr c S) : ∀ k, k < c.n → S.1 97 1 k = c.sent k := And.left (And.right (And.right (And.right (And.right (And.right (And.right (And.right (And.right (And.right (And.right (And.right (And.right hx_))))))))))))
theorem RMcr.wk {c : CCr} {S : amSt} (hx_ : RMcr c S) : ∀ k, k < c.n → S.1 98 1 k = oW (c.wk k) := And.left (And.right (And.right (And.right (And.right (And.right (And.right (And.right (And.right (And.right (And.right (And.right (And.right (And.right hx_)))))))))))))
theorem RMcr.flr {c : CCr} {S : amSt} (hx_ : RMcr c S) : ∀ k, k < c.n → S.1 99 1 k = c.flr k := And.left (And.right (And.right (And.right (And.right (And.right (And.right (And.right (And.right (And.right (And.right (And.right (And.right (And.right (And.right hx_))))))))))))))
theorem RMcr.tir {c : CCr} {S : amSt} (hx_ : RMcr c S) : ∀ k, k < 16 → S.1 100 1 k = iN (c.tir k) := And.left (And.right (And.right (And.right (And.right (And.right (And.right (And.right (And.right (And.right (And.right (And.right (And.right (And.right (And.right (And.right hx_)))))))))))))))
theorem RMcr.got {c : CCr} {S : amSt} (hx_ : RMcr c S) : ∀ k, k < 16 → S.1 103 1 k = c.got k := And.left (And.right (And.right (And.right (And.right (And.right (And.right (And.right (And.right (And.right (And.right (And.right (And.right (And.right (And.right (And.right (And.right hx_))))))))))))))))
theorem RMcr.beg {c : CCr} {S : amSt} (hx_ : RMcr c S) : ∀ k, k < 16 → S.1 101 1 k = c.beg k := And.left (And.right (And.right (And.right (And.right (And.right (And.right (And.right (And.right (And.right (And.right (And.right (And.right (And.right (And.right (And.right (And.right (And.right hx_)))))))))))))))))
theorem RMcr.st0 {c : CCr} {S : amSt} (hx_ : RMcr c S) : ∀ k, c.n ≤ k → k < 16 → S.1 94 1 k = 0 := (And.right (And.right (And.right (And.right (And.right (And.right (And.right (And.right (And.right (And.right (And.right (And.right (And.right (And.right (And.right (And.right (And.right (And.right hx_))))))))))))))))))
theorem RMcr.mk {c : CCr} {S : amSt} (h_n : S.1 1 1 58 = iN c.n) (h_sort : ∀ k, k < c.n → S.1 87 1 k = iN (c.sort k)) (h_home : ∀ k, k < c.n → S.1 88 1 k = iN (c.home k)) (h_best : ∀ k, k < c.n → S.1 89 1 k = iN (c.best k)) (h_men : ∀ k, k < c.n → S.1 90 1 k = c.men k) (h_hor : ∀ k, k < c.n → S.1 106 1 k = c.hor k) (h_gA : ∀ k, k < c.n → S.1 91 1 k = iN (c.gA k)) (h_gB : ∀ k, k < c.n → S.1 92 1 k = iN (c.gB k)) (h_gC : ∀ k, k < c.n → S.1 93 1 k = iN (c.gC k)) (h_st : ∀ k, k < c.n → S.1 94 1 k = c.st k) (h_post : ∀ k, k < c.n → S.1 95 1 k = iN (c.post k)) (h_till : ∀ k, k < c.n → S.1 96 1 k = c.till k) (h_sent : ∀ k, k < c.n → S.1 97 1 k = c.sent k) (h_wk : ∀ k, k < c.n → S.1 98 1 k = oW (c.wk k)) (h_flr : ∀ k, k < c.n → S.1 99 1 k = c.flr k) (h_tir : ∀ k, k < 16 → S.1 100 1 k = iN (c.tir k)) (h_got : ∀ k, k < 16 → S.1 103 1 k = c.got k) (h_beg : ∀ k, k < 16 → S.1 101 1 k = c.beg k) (h_st0 : ∀ k, c.n ≤ k → k < 16 → S.1 94 1 k = 0) : RMcr c S := And.intro h_n (And.intro h_sort (And.intro h_home (And.intro h_best (And.intro h_men (And.intro h_hor (And.intro h_gA (And.intro h_gB (And.intro h_gC (And.intro h_st (And.intro h_post (And.intro h_till (And.intro h_sent (And.intro h_wk (And.intro h_flr (And.intro h_tir (And.intro h_got (And.intro h_beg (h_st0))))))))))))))))))
def KRMcr : List Nat := [2058, 87, 88, 89, 90, 106, 91, 92, 93, 94, 95, 96, 97, 98, 99, 100, 103, 101]
theorem RMcr.fr {c : CCr} {S : amSt} {S1 : amSt} (hx_ : RMcr c S) {L : List Nat} (hf : FrS L S S1) (hd : ∀ x ∈ KRMcr, x ∉ L) : RMcr c S1 :=
  RMcr.mk
    ((hf.i 1 1 58 (hd 2058 (by decide))).trans (hx_.n ))
    (fun k h0_ => (hf.i 87 1 k (hd 87 (by decide))).trans (hx_.sort k h0_))
    (fun k h0_ => (hf.i 88 1 k (hd 88 (by decide))).trans (hx_.home k h0_))
    (fun k h0_ => (hf.i 89 1 k (hd 89 (by decide))).trans (hx_.best k h0_))
    (fun k h0_ => (hf.i 90 1 k (hd 90 (by decide))).trans (hx_.men k h0_))
    (fun k h0_ => (hf.i 106 1 k (hd 106 (by decide))).trans (hx_.hor k h0_))
    (fun k h0_ => (hf.i 91 1 k (hd 91 (by decide))).trans (hx_.gA k h0_))
    (fun k h0_ => (hf.i 92 1 k (hd 92 (by decide))).trans (hx_.gB k h0_))
    (fun k h0_ => (hf.i 93 1 k (hd 93 (by decide))).trans (hx_.gC k h0_))
    (fun k h0_ => (hf.i 94 1 k (hd 94 (by decide))).trans (hx_.st k h0_))
    (fun k h0_ => (hf.i 95 1 k (hd 95 (by decide))).trans (hx_.post k h0_))
    (fun k h0_ => (hf.i 96 1 k (hd 96 (by decide))).trans (hx_.till k h0_))
    (fun k h0_ => (hf.i 97 1 k (hd 97 (by decide))).trans (hx_.sent k h0_))
    (fun k h0_ => (hf.i 98 1 k (hd 98 (by decide))).trans (hx_.wk k h0_))
    (fun k h0_ => (hf.i 99 1 k (hd 99 (by decide))).trans (hx_.flr k h0_))
    (fun k h0_ => (hf.i 100 1 k (hd 100 (by decide))).trans (hx_.tir k h0_))
    (fun k h0_ => (hf.i 103 1 k (hd 103 (by decide))).trans (hx_.got k h0_))
    (fun k h0_ => (hf.i 101 1 k (hd 101 (by decide))).trans (hx_.beg k h0_))
    (fun k h0_ h1_ => (hf.i 94 1 k (hd 94 (by decide))).trans (hx_.st0 k h0_ h1_))
def RCcr (c : CCr) (φ : amSh) (S : amSt) : Prop := (S.1 0 1 13 = iN c.n) ∧ (∀ k, k < c.n → S.2.2 28 1 k = k + 1) ∧ (∀ k, k < c.n → S.1 6 (k + 1) 0 = iN k) ∧ (∀ k, k < c.n → S.1 6 (k + 1) 1 = iN (c.home k)) ∧ (∀ k, k < c.n → S.1 6 (k + 1) 2 = iN (c.best k)) ∧ (∀ k, k < c.n → S.1 6 (k + 1) 3 = c.men k) ∧ (∀ k, k < c.n → S.1 6 (k + 1) 4 = c.hor k) ∧ (∀ k, k < c.n → S.1 6 (k + 1) 5 = c.st k) ∧ (∀ k, k < c.n → S.1 6 (k + 1) 6 = iN (c.post k)) ∧ (∀ k, k < c.n → S.1 6 (k + 1) 7 = c.till k) ∧ (∀ k, k < c.n → S.1 6 (k + 1) 8 = c.sent k) ∧ (∀ k, k < c.n → S.1 6 (k + 1) 9 = c.flr k) ∧ (∀ k, k < c.n → S.1 6 (k + 1) 10 = iN (c.tir k)) ∧ (∀ k, k < c.n → S.1 6 (k + 1) 11 = c.got k) ∧ (∀ k, k < c.n → S.1 6 (k + 1) 12 = c.beg k) ∧ (∀ k, k < c.n → S.2.2 6 (k + 1) 15 = c.wk k) ∧ (∀ k, k < c.n → c.sort k < 3 → S.1 6 (k + 1) 16 = iN (c.gA k)) ∧ (∀ k, k < c.n → c.sort k < 2 → S.1 6 (k + 1) 17 = iN (c.gB k)) ∧ (∀ k, k < c.n → c.sort k = 1 → S.1 6 (k + 1) 18 = iN (c.gC k)) ∧ (∀ k, k < c.n → φ.2.2 6 (k + 1) = 6 + c.sort k) ∧ (φ.1 6 = c.n)
theorem RCcr.n {c : CCr} {φ : amSh} {S : amSt} (hx_ : RCcr c φ S) : S.1 0 1 13 = iN c.n := And.left hx_
theorem RCcr.obj {c : CCr} {φ : amSh} {S : amSt} (hx_ : RCcr c φ S) : ∀ k, k < c.n → S.2.2 28 1 k = k + 1 := And.left (And.right hx_)
theorem RCcr.num {c : CCr} {φ : amSh} {S : amSt} (hx_ : RCcr c φ S) : ∀ k, k < c.n → S.1 6 (k + 1) 0 = iN k := And.left (And.right (And.right hx_))
theorem RCcr.home {c : CCr} {φ : amSh} {S : amSt} (hx_ : RCcr c φ S) : ∀ k, k < c.n → S.1 6 (k + 1) 1 = iN (c.home k) := And.left (And.right (And.right (And.right hx_)))
theorem RCcr.best {c : CCr} {φ : amSh} {S : amSt} (hx_ : RCcr c φ S) : ∀ k, k < c.n → S.1 6 (k + 1) 2 = iN (c.best k) := And.left (And.right (And.right (And.right (And.right hx_))))
theorem RCcr.men {c : CCr} {φ : amSh} {S : amSt} (hx_ : RCcr c φ S) : ∀ k, k < c.n → S.1 6 (k + 1) 3 = c.men k := And.left (And.right (And.right (And.right (And.right (And.right hx_)))))
theorem RCcr.hor {c : CCr} {φ : amSh} {S : amSt} (hx_ : RCcr c φ S) : ∀ k, k < c.n → S.1 6 (k + 1) 4 = c.hor k := And.left (And.right (And.right (And.right (And.right (And.right (And.right hx_))))))
theorem RCcr.st {c : CCr} {φ : amSh} {S : amSt} (hx_ : RCcr c φ S) : ∀ k, k < c.n → S.1 6 (k + 1) 5 = c.st k := And.left (And.right (And.right (And.right (And.right (And.right (And.right (And.right hx_)))))))
theorem RCcr.post {c : CCr} {φ : amSh} {S : amSt} (hx_ : RCcr c φ S) : ∀ k, k < c.n → S.1 6 (k + 1) 6 = iN (c.post k) := And.left (And.right (And.right (And.right (And.right (And.right (And.right (And.right (And.right hx_))))))))
theorem RCcr.till {c : CCr} {φ : amSh} {S : amSt} (hx_ : RCcr c φ S) : ∀ k, k < c.n → S.1 6 (k + 1) 7 = c.till k := And.left (And.right (And.right (And.right (And.right (And.right (And.right (And.right (And.right (And.right hx_)))))))))
theorem RCcr.sent {c : CCr} {φ : amSh} {S : amSt} (hx_ : RCcr c φ S) : ∀ k, k < c.n → S.1 6 (k + 1) 8 = c.sent k := And.left (And.right (And.right (And.right (And.right (And.right (And.right (And.right (And.right (And.right (And.right hx_))))))))))
theorem RCcr.flr {c : CCr} {φ : amSh} {S : amSt} (hx_ : RCcr c φ S) : ∀ k, k < c.n → S.1 6 (k + 1) 9 = c.flr k := And.left (And.right (And.right (And.right (And.right (And.right (And.right (And.right (And.right (And.right (And.right (And.right hx_)))))))))))
theorem RCcr.tir {c : CCr} {φ : amSh} {S : amSt} (hx_ : RCcr c φ S) : ∀ k, k < c.n → S.1 6 (k + 1) 10 = iN (c.tir k) := And.left (And.right (And.right (And.right (And.right (And.right (And.right (And.right (And.right (And.right (And.right (And.right (And.right hx_))))))))))))
theorem RCcr.got {c : CCr} {φ : amSh} {S : amSt} (hx_ : RCcr c φ S) : ∀ k, k < c.n → S.1 6 (k + 1) 11 = c.got k := And.left (And.right (And.right (And.right (And.right (And.right (And.right (And.right (And.right (And.right (And.right (And.right (And.right (And.right hx_)))))))))))))
theorem RCcr.beg {c : CCr} {φ : amSh} {S : amSt} (hx_ : RCcr c φ S) : ∀ k, k < c.n → S.1 6 (k + 1) 12 = c.beg k := And.left (And.right (And.right (And.right (And.right (And.right (And.right (And.right (And.right (And.right (And.right (And.right (And.right (And.right (And.right hx_))))))))))))))
theorem RCcr.wk {c : CCr} {φ : amSh} {S : amSt} (hx_ : RCcr c φ S) : ∀ k, k < c.n → S.2.2 6 (k + 1) 15 = c.wk k := And.left (And.right (And.right (And.right (And.right (And.right (And.right (And.right (And.right (And.right (And.right (And.right (And.right (And.right (And.right (And.right hx_)))))))))))))))
theorem RCcr.gA {c : CCr} {φ : amSh} {S : amSt} (hx_ : RCcr c φ S) : ∀ k, k < c.n → c.sort k < 3 → S.1 6 (k + 1) 16 = iN (c.gA k) := And.left (And.right (And.right (And.right (And.right (And.right (And.right (And.right (And.right (And.right (And.right (And.right (And.right (And.right (And.right (And.right (And.right hx_))))))))))))))))
theorem RCcr.gB {c : CCr} {φ : amSh} {S : amSt} (hx_ : RCcr c φ S) : ∀ k, k < c.n → c.sort k < 2 → S.1 6 (k + 1) 17 = iN (c.gB k) := And.left (And.right (And.right (And.right (And.right (And.right (And.right (And.right (And.right (And.right (And.right (And.right (And.right (And.right (And.right (And.right (And.right (And.right hx_)))))))))))))))))
theorem RCcr.gC {c : CCr} {φ : amSh} {S : amSt} (hx_ : RCcr c φ S) : ∀ k, k < c.n → c.sort k = 1 → S.1 6 (k + 1) 18 = iN (c.gC k) := And.left (And.right (And.right (And.right (And.right (And.right (And.right (And.right (And.right (And.right (And.right (And.right (And.right (And.right (And.right (And.right (And.right (And.right (And.right hx_))))))))))))))))))
theorem RCcr.cls {c : CCr} {φ : amSh} {S : amSt} (hx_ : RCcr c φ S) : ∀ k, k < c.n → φ.2.2 6 (k + 1) = 6 + c.sort k := And.left (And.right (And.right (And.right (And.right (And.right (And.right (And.right (And.right (And.right (And.right (And.right (And.right (And.right (And.right (And.right (And.right (And.right (And.right (And.right hx_)))))))))))))))))))
theorem RCcr.cnt {c : CCr} {φ : amSh} {S : amSt} (hx_ : RCcr c φ S) : φ.1 6 = c.n := (And.right (And.right (And.right (And.right (And.right (And.right (And.right (And.right (And.right (And.right (And.right (And.right (And.right (And.right (And.right (And.right (And.right (And.right (And.right (And.right hx_))))))))))))))))))))
theorem RCcr.mk {c : CCr} {φ : amSh} {S : amSt} (h_n : S.1 0 1 13 = iN c.n) (h_obj : ∀ k, k < c.n → S.2.2 28 1 k = k + 1) (h_num : ∀ k, k < c.n → S.1 6 (k + 1) 0 = iN k) (h_home : ∀ k, k < c.n → S.1 6 (k + 1) 1 = iN (c.home k)) (h_best : ∀ k, k < c.n → S.1 6 (k + 1) 2 = iN (c.best k)) (h_men : ∀ k, k < c.n → S.1 6 (k + 1) 3 = c.men k) (h_hor : ∀ k, k < c.n → S.1 6 (k + 1) 4 = c.hor k) (h_st : ∀ k, k < c.n → S.1 6 (k + 1) 5 = c.st k) (h_post : ∀ k, k < c.n → S.1 6 (k + 1) 6 = iN (c.post k)) (h_till : ∀ k, k < c.n → S.1 6 (k + 1) 7 = c.till k) (h_sent : ∀ k, k < c.n → S.1 6 (k + 1) 8 = c.sent k) (h_flr : ∀ k, k < c.n → S.1 6 (k + 1) 9 = c.flr k) (h_tir : ∀ k, k < c.n → S.1 6 (k + 1) 10 = iN (c.tir k)) (h_got : ∀ k, k < c.n → S.1 6 (k + 1) 11 = c.got k) (h_beg : ∀ k, k < c.n → S.1 6 (k + 1) 12 = c.beg k) (h_wk : ∀ k, k < c.n → S.2.2 6 (k + 1) 15 = c.wk k) (h_gA : ∀ k, k < c.n → c.sort k < 3 → S.1 6 (k + 1) 16 = iN (c.gA k)) (h_gB : ∀ k, k < c.n → c.sort k < 2 → S.1 6 (k + 1) 17 = iN (c.gB k)) (h_gC : ∀ k, k < c.n → c.sort k = 1 → S.1 6 (k + 1) 18 = iN (c.gC k)) (h_cls : ∀ k, k < c.n → φ.2.2 6 (k + 1) = 6 + c.sort k) (h_cnt : φ.1 6 = c.n) : RCcr c φ S := And.intro h_n (And.intro h_obj (And.intro h_num (And.intro h_home (And.intro h_best (And.intro h_men (And.intro h_hor (And.intro h_st (And.intro h_post (And.intro h_till (And.intro h_sent (And.intro h_flr (And.intro h_tir (And.intro h_got (And.intro h_beg (And.intro h_wk (And.intro h_gA (And.intro h_gB (And.intro h_gC (And.intro h_cls (h_cnt))))))))))))))))))))
def KRCcr : List Nat := [1013, 28, 7000, 7001, 7002, 7003, 7004, 7005, 7006, 7007, 7008, 7009, 7010, 7011, 7012, 7015, 7016, 7017, 7018]
theorem RCcr.fr {c : CCr} {φ : amSh} {S : amSt} {S1 : amSt} (hx_ : RCcr c φ S) {L : List Nat} (hf : FrS L S S1) (hd : ∀ x ∈ KRCcr, x ∉ L) : RCcr c φ S1 :=
  RCcr.mk
    ((hf.i 0 1 13 (hd 1013 (by decide))).trans (hx_.n ))
    (fun k h0_ => (hf.r 28 1 k (hd 28 (by decide))).trans (hx_.obj k h0_))
    (fun k h0_ => (hf.i 6 (k + 1) 0 (hd 7000 (by decide))).trans (hx_.num k h0_))
    (fun k h0_ => (hf.i 6 (k + 1) 1 (hd 7001 (by decide))).trans (hx_.home k h0_))
    (fun k h0_ => (hf.i 6 (k + 1) 2 (hd 7002 (by decide))).trans (hx_.best k h0_))
    (fun k h0_ => (hf.i 6 (k + 1) 3 (hd 7003 (by decide))).trans (hx_.men k h0_))
    (fun k h0_ => (hf.i 6 (k + 1) 4 (hd 7004 (by decide))).trans (hx_.hor k h0_))
    (fun k h0_ => (hf.i 6 (k + 1) 5 (hd 7005 (by decide))).trans (hx_.st k h0_))
    (fun k h0_ => (hf.i 6 (k + 1) 6 (hd 7006 (by decide))).trans (hx_.post k h0_))
    (fun k h0_ => (hf.i 6 (k + 1) 7 (hd 7007 (by decide))).trans (hx_.till k h0_))
    (fun k h0_ => (hf.i 6 (k + 1) 8 (hd 7008 (by decide))).trans (hx_.sent k h0_))
    (fun k h0_ => (hf.i 6 (k + 1) 9 (hd 7009 (by decide))).trans (hx_.flr k h0_))
    (fun k h0_ => (hf.i 6 (k + 1) 10 (hd 7010 (by decide))).trans (hx_.tir k h0_))
    (fun k h0_ => (hf.i 6 (k + 1) 11 (hd 7011 (by decide))).trans (hx_.got k h0_))
    (fun k h0_ => (hf.i 6 (k + 1) 12 (hd 7012 (by decide))).trans (hx_.beg k h0_))
    (fun k h0_ => (hf.r 6 (k + 1) 15 (hd 7015 (by decide))).trans (hx_.wk k h0_))
    (fun k h0_ h1_ => (hf.i 6 (k + 1) 16 (hd 7016 (by decide))).trans (hx_.gA k h0_ h1_))
    (fun k h0_ h1_ => (hf.i 6 (k + 1) 17 (hd 7017 (by decide))).trans (hx_.gB k h0_ h1_))
    (fun k h0_ h1_ => (hf.i 6 (k + 1) 18 (hd 7018 (by decide))).trans (hx_.gC k h0_ h1_))
    (hx_.cls)
    (hx_.cnt)
/-- a crew is ready at a corner, and in this state -/
def rdy (c : CCr) (k : Nat) (post : Nat) (st : Int32) : CCr := CCr.mk c.n c.sort c.home c.best c.men c.hor c.gA c.gB c.gC (pup c.st k st) (pup c.post k post) (pup c.till k (-1)) c.sent (pup c.flr k (-1)) (pup c.wk k 0) c.tir c.got c.beg
theorem oW_inj {a h : Nat} (ha : a < 2147483648) (hh : h < 2147483648) : (oW a = iN h) = (a = h + 1) := by
  unfold oW
  split
  · rename_i e
    rw [m1_iN hh]; apply propext; constructor
    · intro z; exact z.elim
    · intro z; omega
  · rw [iN_inj (by omega) hh]; apply propext; omega
theorem sp_X1_ready {c : CCr} {φ : amSh} {S : amSt} (hR : RCcr c φ S) {k p : Nat} (hk : k < c.n) : Rs (fun _ S' => RCcr (rdy c k p 0) φ S') (p_X1_ready (k + 1) (iN p) φ S) := by
  unfold p_X1_ready
  simp (disch := first | omega | assumption) only [↓bd_rt, ↓bd_bd, ↓bd_ite, ↓bd_jn, ↓jn_ap, ↓ite_ap, ↓bd_gI1, ↓bd_pI1, ↓bd_gR1, ↓bd_pR1, ↓bd_gM, rt_ap, ↓reduceIte, iN_div, iN_divL, iN_add, iN_mul, iN_addL, iN_Ladd, iN_mulL, iN_Lmul, iN_subL, iN_sub, iN_le_T, iN_le_F, iN_lt_T, iN_lt_F, iN_eq_F, iN_leL_T, iN_leL_F, iN_Lle_T, iN_Lle_F, iN_ltL_T, iN_ltL_F, iN_Llt_T, iN_Llt_F, iN_eqL_T, iN_eqL_F, iN_m1, m1_iN, iN_le_m1, m1_le_iN, iN_neg, iN_pos, i10, i01, i00, i11, u3_op, u3_or, u3_same, pup_eq, pup_ne, ↓bd_pI, ↓bd_pR]
  refine Rs.mk ?_
  refine RCcr.mk ?_ ?_ ?_ ?_ ?_ ?_ ?_ ?_ ?_ ?_ ?_ ?_ ?_ ?_ ?_ ?_ ?_ ?_ ?_ hR.cls hR.cnt
  · refine Eq.trans ?_ hR.n; simp [u3]
  · intro j hj; refine Eq.trans ?_ (hR.obj j hj); simp [u3]
  · intro j hj; refine Eq.trans ?_ (hR.num j hj); simp [u3]
  · intro j hj; refine Eq.trans ?_ (hR.home j hj); simp [u3]
  · intro j hj; refine Eq.trans ?_ (hR.best j hj); simp [u3]
  · intro j hj; refine Eq.trans ?_ (hR.men j hj); simp [u3]
  · intro j hj; refine Eq.trans ?_ (hR.hor j hj); simp [u3]
  · intro j hj; show _ = pup c.st k 0 j; by_cases e : j = k
    · subst e; simp [u3, pup]
    · rw [pup_ne e]; refine Eq.trans ?_ (hR.st j hj); simp [u3, e]
  · intro j hj; show _ = iN (pup c.post k p j); by_cases e : j = k
    · subst e; simp [u3, pup]
    · rw [pup_ne e]; refine Eq.trans ?_ (hR.post j hj); simp [u3, e]
  · intro j hj; show _ = pup c.till k (-1) j; by_cases e : j = k
    · subst e; simp [u3, pup]
    · rw [pup_ne e]; refine Eq.trans ?_ (hR.till j hj); simp [u3, e]
  · intro j hj; refine Eq.trans ?_ (hR.sent j hj); simp [u3]
  · intro j hj; show _ = pup c.flr k (-1) j; by_cases e : j = k
    · subst e; simp [u3, pup]
    · rw [pup_ne e]; refine Eq.trans ?_ (hR.flr j hj); simp [u3, e]
  · intro j hj; refine Eq.trans ?_ (hR.tir j hj); simp [u3]
  · intro j hj; refine Eq.trans ?_ (hR.got j hj); simp [u3]
  · intro j hj; refine Eq.trans ?_ (hR.beg j hj); simp [u3]
  · intro j hj; show _ = pup c.wk k 0 j; by_cases e : j = k
    · subst e; simp [u3, pup]
    · rw [pup_ne e]; refine Eq.trans ?_ (hR.wk j hj); simp [u3, e]
  · intro j hj h2; refine Eq.trans ?_ (hR.gA j hj h2); simp [u3]
  · intro j hj h2; refine Eq.trans ?_ (hR.gB j hj h2); simp [u3]
  · intro j hj h2; refine Eq.trans ?_ (hR.gC j hj h2); simp [u3]
theorem RCcr.set_st {c : CCr} {φ : amSh} {S : amSt} (hR : RCcr c φ S) {k : Nat} {v : Int32} : RCcr (c.s_st (pup c.st k v)) φ (u3 S.1 6 (k + 1) 5 v, S.2) := by
  refine RCcr.mk ?_ hR.obj ?_ ?_ ?_ ?_ ?_ ?_ ?_ ?_ ?_ ?_ ?_ ?_ ?_ hR.wk ?_ ?_ ?_ hR.cls hR.cnt
  · refine Eq.trans ?_ hR.n; simp [u3]
  · intro j hj; refine Eq.trans ?_ (hR.num j hj); simp [u3]
  · intro j hj; refine Eq.trans ?_ (hR.home j hj); simp [u3]
  · intro j hj; refine Eq.trans ?_ (hR.best j hj); simp [u3]
  · intro j hj; refine Eq.trans ?_ (hR.men j hj); simp [u3]
  · intro j hj; refine Eq.trans ?_ (hR.hor j hj); simp [u3]
  · intro j hj; show _ = pup c.st k v j; by_cases e : j = k
    · subst e; simp [u3, pup]
    · rw [pup_ne e]; refine Eq.trans ?_ (hR.st j hj); simp [u3, e]
  · intro j hj; refine Eq.trans ?_ (hR.post j hj); simp [u3]
  · intro j hj; refine Eq.trans ?_ (hR.till j hj); simp [u3]
  · intro j hj; refine Eq.trans ?_ (hR.sent j hj); simp [u3]
  · intro j hj; refine Eq.trans ?_ (hR.flr j hj); simp [u3]
  · intro j hj; refine Eq.trans ?_ (hR.tir j hj); simp [u3]
  · intro j hj; refine Eq.trans ?_ (hR.got j hj); simp [u3]
  · intro j hj; refine Eq.trans ?_ (hR.beg j hj); simp [u3]
  · intro j hj h2; refine Eq.trans ?_ (hR.gA j hj h2); simp [u3]
  · intro j hj h2; refine Eq.trans ?_ (hR.gB j hj h2); simp [u3]
  · intro j hj h2; refine Eq.trans ?_ (hR.gC j hj h2); simp [u3]
/-- those hurt when a floor falls -/
def hurtC (c : CCr) (h f k : Nat) : CCr := if c.st k = 2 ∧ c.wk k = h + 1 ∧ c.flr k = iN f then rdy c k (c.home k) 4 else c
def hurtS (c : CCr) (h f : Nat) : CCr := itn (fun k c => hurtC c h f k) c c.n
theorem hurtC_n {c : CCr} {h f k : Nat} : (hurtC c h f k).n = c.n := by unfold hurtC; split <;> rfl
theorem hurt_n {c : CCr} {h f : Nat} : ∀ j, (itn (fun k c => hurtC c h f k) c j).n = c.n := by
  intro j
  induction j with
  | zero => rfl
  | succ j ih => exact hurtC_n.trans ih
theorem sp_X1_hurt {c : CCr} {φ : amSh} {S : amSt} (hφ : φ.1 255 ≠ 0) (hn : c.n ≤ 16) (hR : RCcr c φ S) {h f : Nat} : Rs (fun _ S' => RCcr (hurtS c h f) φ S') (p_X1_hurt (h + 1) (iN f) φ S) := by
  unfold p_X1_hurt
  rw [bd_gM hφ]
  refine bdR (Q := fun _ S' => RCcr (hurtS c h f) φ S') ?_ fun _ S1 h1 => Rs.mk h1
  refine alp_I (fun j x S => x = iN j ∧ RCcr (itn (fun k c => hurtC c h f k) c j) φ S) c.n (amFu_lt (by omega)) ⟨rfl, hR⟩ ?_ ?_
  · rintro j x S hj ⟨rfl, hR⟩ rec
    have hnj := hurt_n (c := c) (h := h) (f := f) j
    show Lz rec φ (fun x S => x = iN (j + 1) ∧ RCcr (hurtC (itn (fun k c => hurtC c h f k) c j) h f j) φ S) _ _
    generalize itn (fun k c => hurtC c h f k) c j = d at *
    have hjd : j < d.n := by omega
    unfold p_X1_hurt_L2 hurtC
    by_cases c1 : d.st j = 2
    · by_cases c2 : d.wk j = h + 1
      · by_cases c3 : d.flr j = iN f
        · rw [if_pos ⟨c1, c2, c3⟩]
          simp (disch := first | omega | assumption) only [↓bd_rt, ↓bd_bd, ↓bd_ite, ↓bd_jn, ↓jn_ap, ↓ite_ap, ↓bd_gI1, ↓bd_pI1, ↓bd_gR1, ↓bd_pR1, ↓bd_gM, rt_ap, ↓reduceIte, iN_div, iN_divL, iN_add, iN_mul, iN_addL, iN_Ladd, iN_mulL, iN_Lmul, iN_subL, iN_sub, iN_le_T, iN_le_F, iN_lt_T, iN_lt_F, iN_eq_F, iN_leL_T, iN_leL_F, iN_Lle_T, iN_Lle_F, iN_ltL_T, iN_ltL_F, iN_Llt_T, iN_Llt_F, iN_eqL_T, iN_eqL_F, iN_m1, m1_iN, iN_le_m1, m1_le_iN, iN_neg, iN_pos, i10, i01, i00, i11, u3_op, u3_or, u3_same, pup_eq, pup_ne, hR.n, ↓rR28_1, hR.obj j hjd, ↓bd_gI, ↓bd_gR, hR.st j hjd, hR.wk j hjd, hR.flr j hjd, hR.home j hjd, c1, c2, c3, if_true]
          refine bdR (sp_X1_ready hR hjd) fun _ S1 h1 => ?_
          simp (disch := first | omega | assumption) only [↓bd_rt, ↓bd_bd, ↓bd_ite, ↓bd_jn, ↓jn_ap, ↓ite_ap, ↓bd_gI1, ↓bd_pI1, ↓bd_gR1, ↓bd_pR1, ↓bd_gM, rt_ap, ↓reduceIte, iN_div, iN_divL, iN_add, iN_mul, iN_addL, iN_Ladd, iN_mulL, iN_Lmul, iN_subL, iN_sub, iN_le_T, iN_le_F, iN_lt_T, iN_lt_F, iN_eq_F, iN_leL_T, iN_leL_F, iN_Lle_T, iN_Lle_F, iN_ltL_T, iN_ltL_F, iN_Llt_T, iN_Llt_F, iN_eqL_T, iN_eqL_F, iN_m1, m1_iN, iN_le_m1, m1_le_iN, iN_neg, iN_pos, i10, i01, i00, i11, u3_op, u3_or, u3_same, pup_eq, pup_ne, ↓bd_pI]
          refine Lz.go ⟨rfl, ?_⟩
          have := h1.set_st (k := j) (v := 4)
          have e : ∀ {g : Nat → Int32} {a v : Int32}, pup (pup g j a) j v = pup g j v := fun {g a v} => by funext q; unfold pup; split <;> rfl
          have e2 : (rdy d j (d.home j) 0).s_st (pup (rdy d j (d.home j) 0).st j 4) = rdy d j (d.home j) 4 := by
            show CCr.mk d.n d.sort d.home d.best d.men d.hor d.gA d.gB d.gC (pup (pup d.st j 0) j 4) (pup d.post j (d.home j)) (pup d.till j (-1)) d.sent (pup d.flr j (-1)) (pup d.wk j 0) d.tir d.got d.beg = _
            rw [e]; rfl
          rw [e2] at this
          exact this
        · rw [if_neg (fun z => c3 z.2.2)]
          simp (disch := first | omega | assumption) only [↓bd_rt, ↓bd_bd, ↓bd_ite, ↓bd_jn, ↓jn_ap, ↓ite_ap, ↓bd_gI1, ↓bd_pI1, ↓bd_gR1, ↓bd_pR1, ↓bd_gM, rt_ap, ↓reduceIte, iN_div, iN_divL, iN_add, iN_mul, iN_addL, iN_Ladd, iN_mulL, iN_Lmul, iN_subL, iN_sub, iN_le_T, iN_le_F, iN_lt_T, iN_lt_F, iN_eq_F, iN_leL_T, iN_leL_F, iN_Lle_T, iN_Lle_F, iN_ltL_T, iN_ltL_F, iN_Llt_T, iN_Llt_F, iN_eqL_T, iN_eqL_F, iN_m1, m1_iN, iN_le_m1, m1_le_iN, iN_neg, iN_pos, i10, i01, i00, i11, u3_op, u3_or, u3_same, pup_eq, pup_ne, hR.n, ↓rR28_1, hR.obj j hjd, ↓bd_gI, ↓bd_gR, hR.st j hjd, hR.wk j hjd, hR.flr j hjd, c1, c2, if_true, if_neg c3]
          exact Lz.go ⟨rfl, hR⟩
      · rw [if_neg (fun z => c2 z.2.1)]
        simp (disch := first | omega | assumption) only [↓bd_rt, ↓bd_bd, ↓bd_ite, ↓bd_jn, ↓jn_ap, ↓ite_ap, ↓bd_gI1, ↓bd_pI1, ↓bd_gR1, ↓bd_pR1, ↓bd_gM, rt_ap, ↓reduceIte, iN_div, iN_divL, iN_add, iN_mul, iN_addL, iN_Ladd, iN_mulL, iN_Lmul, iN_subL, iN_sub, iN_le_T, iN_le_F, iN_lt_T, iN_lt_F, iN_eq_F, iN_leL_T, iN_leL_F, iN_Lle_T, iN_Lle_F, iN_ltL_T, iN_ltL_F, iN_Llt_T, iN_Llt_F, iN_eqL_T, iN_eqL_F, iN_m1, m1_iN, iN_le_m1, m1_le_iN, iN_neg, iN_pos, i10, i01, i00, i11, u3_op, u3_or, u3_same, pup_eq, pup_ne, hR.n, ↓rR28_1, hR.obj j hjd, ↓bd_gI, ↓bd_gR, hR.st j hjd, hR.wk j hjd, c1, if_true, if_neg c2]
        exact Lz.go ⟨rfl, hR⟩
    · rw [if_neg (fun z => c1 z.1)]
      simp (disch := first | omega | assumption) only [↓bd_rt, ↓bd_bd, ↓bd_ite, ↓bd_jn, ↓jn_ap, ↓ite_ap, ↓bd_gI1, ↓bd_pI1, ↓bd_gR1, ↓bd_pR1, ↓bd_gM, rt_ap, ↓reduceIte, iN_div, iN_divL, iN_add, iN_mul, iN_addL, iN_Ladd, iN_mulL, iN_Lmul, iN_subL, iN_sub, iN_le_T, iN_le_F, iN_lt_T, iN_lt_F, iN_eq_F, iN_leL_T, iN_leL_F, iN_Lle_T, iN_Lle_F, iN_ltL_T, iN_ltL_F, iN_Llt_T, iN_Llt_F, iN_eqL_T, iN_eqL_F, iN_m1, m1_iN, iN_le_m1, m1_le_iN, iN_neg, iN_pos, i10, i01, i00, i11, u3_op, u3_or, u3_same, pup_eq, pup_ne, hR.n, ↓rR28_1, hR.obj j hjd, ↓bd_gI, hR.st j hjd, if_neg c1]
      exact Lz.go ⟨rfl, hR⟩
  · rintro x S ⟨rfl, hR⟩ rec
    have hnj := hurt_n (c := c) (h := h) (f := f) c.n
    unfold p_X1_hurt_L2
    simp (disch := first | omega | assumption) only [↓bd_rt, ↓bd_bd, ↓bd_ite, ↓bd_jn, ↓jn_ap, ↓ite_ap, ↓bd_gI1, ↓bd_pI1, ↓bd_gR1, ↓bd_pR1, ↓bd_gM, rt_ap, ↓reduceIte, iN_div, iN_divL, iN_add, iN_mul, iN_addL, iN_Ladd, iN_mulL, iN_Lmul, iN_subL, iN_sub, iN_le_T, iN_le_F, iN_lt_T, iN_lt_F, iN_eq_F, iN_leL_T, iN_leL_F, iN_Lle_T, iN_Lle_F, iN_ltL_T, iN_ltL_F, iN_Llt_T, iN_Llt_F, iN_eqL_T, iN_eqL_F, iN_m1, m1_iN, iN_le_m1, m1_le_iN, iN_neg, iN_pos, i10, i01, i00, i11, u3_op, u3_or, u3_same, pup_eq, pup_ne, hR.n, hnj]
    exact Rs.mk hR
theorem RMcr.rdy {c : CCr} {S S1 : amSt} (hR : RMcr c S) {k p : Nat} {v : Int32} (hk : k < c.n) (h94 : S1.1 94 1 = pup (S.1 94 1) k v) (h95 : S1.1 95 1 = pup (S.1 95 1) k (iN p)) (h96 : S1.1 96 1 = pup (S.1 96 1) k (-1)) (h98 : S1.1 98 1 = pup (S.1 98 1) k (-1)) (h99 : S1.1 99 1 = pup (S.1 99 1) k (-1)) (ho : ∀ q r j, q ≠ 94 → q ≠ 95 → q ≠ 96 → q ≠ 98 → q ≠ 99 → S1.1 q r j = S.1 q r j) : RMcr (rdy c k p v) S1 := by
  refine RMcr.mk ?_ ?_ ?_ ?_ ?_ ?_ ?_ ?_ ?_ ?_ ?_ ?_ ?_ ?_ ?_ ?_ ?_ ?_ ?_
  · rw [ho _ _ _ (by decide) (by decide) (by decide) (by decide) (by decide)]; exact hR.n
  · intro j hj; rw [ho _ _ _ (by decide) (by decide) (by decide) (by decide) (by decide)]; exact hR.sort j hj
  · intro j hj; rw [ho _ _ _ (by decide) (by decide) (by decide) (by decide) (by decide)]; exact hR.home j hj
  · intro j hj; rw [ho _ _ _ (by decide) (by decide) (by decide) (by decide) (by decide)]; exact hR.best j hj
  · intro j hj; rw [ho _ _ _ (by decide) (by decide) (by decide) (by decide) (by decide)]; exact hR.men j hj
  · intro j hj; rw [ho _ _ _ (by decide) (by decide) (by decide) (by decide) (by decide)]; exact hR.hor j hj
  · intro j hj; rw [ho _ _ _ (by decide) (by decide) (by decide) (by decide) (by decide)]; exact hR.gA j hj
  · intro j hj; rw [ho _ _ _ (by decide) (by decide) (by decide) (by decide) (by decide)]; exact hR.gB j hj
  · intro j hj; rw [ho _ _ _ (by decide) (by decide) (by decide) (by decide) (by decide)]; exact hR.gC j hj
  · intro j hj; rw [h94]; show _ = pup c.st k v j; unfold pup; split
    · rfl
    · exact hR.st j hj
  · intro j hj; rw [h95]; show _ = iN (pup c.post k p j); unfold pup; split
    · rfl
    · exact hR.post j hj
  · intro j hj; rw [h96]; show _ = pup c.till k (-1) j; unfold pup; split
    · rfl
    · exact hR.till j hj
  · intro j hj; rw [ho _ _ _ (by decide) (by decide) (by decide) (by decide) (by decide)]; exact hR.sent j hj
  · intro j hj; rw [h98]; show _ = oW (pup c.wk k 0 j); unfold pup; split
    · rfl
    · exact hR.wk j hj
  · intro j hj; rw [h99]; show _ = pup c.flr k (-1) j; unfold pup; split
    · rfl
    · exact hR.flr j hj
  · intro j hj; rw [ho _ _ _ (by decide) (by decide) (by decide) (by decide) (by decide)]; exact hR.tir j hj
  · intro j hj; rw [ho _ _ _ (by decide) (by decide) (by decide) (by decide) (by decide)]; exact hR.got j hj
  · intro j hj; rw [ho _ _ _ (by decide) (by decide) (by decide) (by decide) (by decide)]; exact hR.beg j hj
  · intro j hj h16; have hj2 : c.n ≤ j := hj; rw [h94, pup_ne (by omega)]; exact hR.st0 j hj2 h16
theorem hurt_bd {c : CCr} {h f nh : Nat} (w : ∀ k, k < c.n → c.wk k ≤ nh) : ∀ j, ∀ k, k < c.n → (itn (fun k c => hurtC c h f k) c j).wk k ≤ nh := by
  intro j
  induction j with
  | zero => exact w
  | succ j ih =>
    intro k hk
    show (hurtC (itn (fun k c => hurtC c h f k) c j) h f j).wk k ≤ nh
    unfold hurtC
    split
    · show pup _ j 0 k ≤ nh
      unfold pup
      split
      · omega
      · exact ih k hk
    · exact ih k hk
theorem sp_X3_hurt {c : CCr} {φ : amSh} {S : amSt} (hn : c.n ≤ 16) (hw : ∀ k, k < c.n → c.wk k ≤ 12) (hR : RMcr c S) {h f : Nat} (hh : h < 12) : Rs (fun _ S' => RMcr (hurtS c h f) S') (alp (p_X3_falls_L185 (iN h) (iN f)) amFu 0 φ S) := by
  refine alp_I (fun j x S => x = iN j ∧ RMcr (itn (fun k c => hurtC c h f k) c j) S) c.n (amFu_lt (by omega)) ⟨rfl, hR⟩ ?_ ?_
  · rintro j x S hj ⟨rfl, hR⟩ rec
    have hnj := hurt_n (c := c) (h := h) (f := f) j
    have hwj := hurt_bd (h := h) (f := f) hw j j (by omega)
    show Lz rec φ (fun x S => x = iN (j + 1) ∧ RMcr (hurtC (itn (fun k c => hurtC c h f k) c j) h f j) S) _ _
    generalize itn (fun k c => hurtC c h f k) c j = d at *
    have hjd : j < d.n := by omega
    have eo := oW_inj (a := d.wk j) (h := h) (by omega) (by omega)
    unfold p_X3_falls_L185 hurtC
    by_cases c1 : d.st j = 2
    · by_cases c2 : d.wk j = h + 1
      · have eo2 : oW (d.wk j) = iN h := by rw [eo]; exact c2
        by_cases c3 : d.flr j = iN f
        · rw [if_pos ⟨c1, c2, c3⟩]
          simp (disch := first | omega | assumption) only [↓bd_rt, ↓bd_bd, ↓bd_ite, ↓bd_jn, ↓jn_ap, ↓ite_ap, ↓bd_gI1, ↓bd_pI1, ↓bd_gR1, ↓bd_pR1, ↓bd_gM, rt_ap, ↓reduceIte, iN_div, iN_divL, iN_add, iN_mul, iN_addL, iN_Ladd, iN_mulL, iN_Lmul, iN_subL, iN_sub, iN_le_T, iN_le_F, iN_lt_T, iN_lt_F, iN_eq_F, iN_leL_T, iN_leL_F, iN_Lle_T, iN_Lle_F, iN_ltL_T, iN_ltL_F, iN_Llt_T, iN_Llt_F, iN_eqL_T, iN_eqL_F, iN_m1, m1_iN, iN_le_m1, m1_le_iN, iN_neg, iN_pos, i10, i01, i00, i11, u3_op, u3_or, u3_same, pup_eq, pup_ne, hR.n, ↓rI94_1, ↓rI98_1, ↓rI99_1, ↓rI88_1, ↓wI94_1, ↓wI95_1, ↓wI96_1, ↓wI98_1, ↓wI99_1, hR.st j hjd, hR.wk j hjd, hR.flr j hjd, hR.home j hjd, c1, eo2, c3, if_true]
          refine Lz.go ⟨rfl, hR.rdy hjd ?_ ?_ ?_ ?_ ?_ ?_⟩
          · simp (disch := first | omega | assumption) only [↓bd_rt, ↓bd_bd, ↓bd_ite, ↓bd_jn, ↓jn_ap, ↓ite_ap, ↓bd_gI1, ↓bd_pI1, ↓bd_gR1, ↓bd_pR1, ↓bd_gM, rt_ap, ↓reduceIte, iN_div, iN_divL, iN_add, iN_mul, iN_addL, iN_Ladd, iN_mulL, iN_Lmul, iN_subL, iN_sub, iN_le_T, iN_le_F, iN_lt_T, iN_lt_F, iN_eq_F, iN_leL_T, iN_leL_F, iN_Lle_T, iN_Lle_F, iN_ltL_T, iN_ltL_F, iN_Llt_T, iN_Llt_F, iN_eqL_T, iN_eqL_F, iN_m1, m1_iN, iN_le_m1, m1_le_iN, iN_neg, iN_pos, i10, i01, i00, i11, u3_op, u3_or, u3_same, pup_eq, pup_ne]
          · simp (disch := first | omega | assumption) only [↓bd_rt, ↓bd_bd, ↓bd_ite, ↓bd_jn, ↓jn_ap, ↓ite_ap, ↓bd_gI1, ↓bd_pI1, ↓bd_gR1, ↓bd_pR1, ↓bd_gM, rt_ap, ↓reduceIte, iN_div, iN_divL, iN_add, iN_mul, iN_addL, iN_Ladd, iN_mulL, iN_Lmul, iN_subL, iN_sub, iN_le_T, iN_le_F, iN_lt_T, iN_lt_F, iN_eq_F, iN_leL_T, iN_leL_F, iN_Lle_T, iN_Lle_F, iN_ltL_T, iN_ltL_F, iN_Llt_T, iN_Llt_F, iN_eqL_T, iN_eqL_F, iN_m1, m1_iN, iN_le_m1, m1_le_iN, iN_neg, iN_pos, i10, i01, i00, i11, u3_op, u3_or, u3_same, pup_eq, pup_ne]
          · simp (disch := first | omega | assumption) only [↓bd_rt, ↓bd_bd, ↓bd_ite, ↓bd_jn, ↓jn_ap, ↓ite_ap, ↓bd_gI1, ↓bd_pI1, ↓bd_gR1, ↓bd_pR1, ↓bd_gM, rt_ap, ↓reduceIte, iN_div, iN_divL, iN_add, iN_mul, iN_addL, iN_Ladd, iN_mulL, iN_Lmul, iN_subL, iN_sub, iN_le_T, iN_le_F, iN_lt_T, iN_lt_F, iN_eq_F, iN_leL_T, iN_leL_F, iN_Lle_T, iN_Lle_F, iN_ltL_T, iN_ltL_F, iN_Llt_T, iN_Llt_F, iN_eqL_T, iN_eqL_F, iN_m1, m1_iN, iN_le_m1, m1_le_iN, iN_neg, iN_pos, i10, i01, i00, i11, u3_op, u3_or, u3_same, pup_eq, pup_ne]
          · simp (disch := first | omega | assumption) only [↓bd_rt, ↓bd_bd, ↓bd_ite, ↓bd_jn, ↓jn_ap, ↓ite_ap, ↓bd_gI1, ↓bd_pI1, ↓bd_gR1, ↓bd_pR1, ↓bd_gM, rt_ap, ↓reduceIte, iN_div, iN_divL, iN_add, iN_mul, iN_addL, iN_Ladd, iN_mulL, iN_Lmul, iN_subL, iN_sub, iN_le_T, iN_le_F, iN_lt_T, iN_lt_F, iN_eq_F, iN_leL_T, iN_leL_F, iN_Lle_T, iN_Lle_F, iN_ltL_T, iN_ltL_F, iN_Llt_T, iN_Llt_F, iN_eqL_T, iN_eqL_F, iN_m1, m1_iN, iN_le_m1, m1_le_iN, iN_neg, iN_pos, i10, i01, i00, i11, u3_op, u3_or, u3_same, pup_eq, pup_ne]
          · simp (disch := first | omega | assumption) only [↓bd_rt, ↓bd_bd, ↓bd_ite, ↓bd_jn, ↓jn_ap, ↓ite_ap, ↓bd_gI1, ↓bd_pI1, ↓bd_gR1, ↓bd_pR1, ↓bd_gM, rt_ap, ↓reduceIte, iN_div, iN_divL, iN_add, iN_mul, iN_addL, iN_Ladd, iN_mulL, iN_Lmul, iN_subL, iN_sub, iN_le_T, iN_le_F, iN_lt_T, iN_lt_F, iN_eq_F, iN_leL_T, iN_leL_F, iN_Lle_T, iN_Lle_F, iN_ltL_T, iN_ltL_F, iN_Llt_T, iN_Llt_F, iN_eqL_T, iN_eqL_F, iN_m1, m1_iN, iN_le_m1, m1_le_iN, iN_neg, iN_pos, i10, i01, i00, i11, u3_op, u3_or, u3_same, pup_eq, pup_ne]
          · intro q r i q1 q2 q3 q4 q5; simp (disch := first | omega | assumption) only [↓bd_rt, ↓bd_bd, ↓bd_ite, ↓bd_jn, ↓jn_ap, ↓ite_ap, ↓bd_gI1, ↓bd_pI1, ↓bd_gR1, ↓bd_pR1, ↓bd_gM, rt_ap, ↓reduceIte, iN_div, iN_divL, iN_add, iN_mul, iN_addL, iN_Ladd, iN_mulL, iN_Lmul, iN_subL, iN_sub, iN_le_T, iN_le_F, iN_lt_T, iN_lt_F, iN_eq_F, iN_leL_T, iN_leL_F, iN_Lle_T, iN_Lle_F, iN_ltL_T, iN_ltL_F, iN_Llt_T, iN_Llt_F, iN_eqL_T, iN_eqL_F, iN_m1, m1_iN, iN_le_m1, m1_le_iN, iN_neg, iN_pos, i10, i01, i00, i11, u3_op, u3_or, u3_same, pup_eq, pup_ne]
        · rw [if_neg (fun z => c3 z.2.2)]
          simp (disch := first | omega | assumption) only [↓bd_rt, ↓bd_bd, ↓bd_ite, ↓bd_jn, ↓jn_ap, ↓ite_ap, ↓bd_gI1, ↓bd_pI1, ↓bd_gR1, ↓bd_pR1, ↓bd_gM, rt_ap, ↓reduceIte, iN_div, iN_divL, iN_add, iN_mul, iN_addL, iN_Ladd, iN_mulL, iN_Lmul, iN_subL, iN_sub, iN_le_T, iN_le_F, iN_lt_T, iN_lt_F, iN_eq_F, iN_leL_T, iN_leL_F, iN_Lle_T, iN_Lle_F, iN_ltL_T, iN_ltL_F, iN_Llt_T, iN_Llt_F, iN_eqL_T, iN_eqL_F, iN_m1, m1_iN, iN_le_m1, m1_le_iN, iN_neg, iN_pos, i10, i01, i00, i11, u3_op, u3_or, u3_same, pup_eq, pup_ne, hR.n, ↓rI94_1, ↓rI98_1, ↓rI99_1, hR.st j hjd, hR.wk j hjd, hR.flr j hjd, c1, eo2, if_true, if_neg c3]
          exact Lz.go ⟨rfl, hR⟩
      · rw [if_neg (fun z => c2 z.2.1)]
        simp (disch := first | omega | assumption) only [↓bd_rt, ↓bd_bd, ↓bd_ite, ↓bd_jn, ↓jn_ap, ↓ite_ap, ↓bd_gI1, ↓bd_pI1, ↓bd_gR1, ↓bd_pR1, ↓bd_gM, rt_ap, ↓reduceIte, iN_div, iN_divL, iN_add, iN_mul, iN_addL, iN_Ladd, iN_mulL, iN_Lmul, iN_subL, iN_sub, iN_le_T, iN_le_F, iN_lt_T, iN_lt_F, iN_eq_F, iN_leL_T, iN_leL_F, iN_Lle_T, iN_Lle_F, iN_ltL_T, iN_ltL_F, iN_Llt_T, iN_Llt_F, iN_eqL_T, iN_eqL_F, iN_m1, m1_iN, iN_le_m1, m1_le_iN, iN_neg, iN_pos, i10, i01, i00, i11, u3_op, u3_or, u3_same, pup_eq, pup_ne, hR.n, ↓rI94_1, ↓rI98_1, hR.st j hjd, hR.wk j hjd, c1, eo, c2, if_true, if_false]
        exact Lz.go ⟨rfl, hR⟩
    · rw [if_neg (fun z => c1 z.1)]
      simp (disch := first | omega | assumption) only [↓bd_rt, ↓bd_bd, ↓bd_ite, ↓bd_jn, ↓jn_ap, ↓ite_ap, ↓bd_gI1, ↓bd_pI1, ↓bd_gR1, ↓bd_pR1, ↓bd_gM, rt_ap, ↓reduceIte, iN_div, iN_divL, iN_add, iN_mul, iN_addL, iN_Ladd, iN_mulL, iN_Lmul, iN_subL, iN_sub, iN_le_T, iN_le_F, iN_lt_T, iN_lt_F, iN_eq_F, iN_leL_T, iN_leL_F, iN_Lle_T, iN_Lle_F, iN_ltL_T, iN_ltL_F, iN_Llt_T, iN_Llt_F, iN_eqL_T, iN_eqL_F, iN_m1, m1_iN, iN_le_m1, m1_le_iN, iN_neg, iN_pos, i10, i01, i00, i11, u3_op, u3_or, u3_same, pup_eq, pup_ne, hR.n, ↓rI94_1, hR.st j hjd, c1, if_false]
      exact Lz.go ⟨rfl, hR⟩
  · rintro x S ⟨rfl, hR⟩ rec
    have hnj := hurt_n (c := c) (h := h) (f := f) c.n
    unfold p_X3_falls_L185
    simp (disch := first | omega | assumption) only [↓bd_rt, ↓bd_bd, ↓bd_ite, ↓bd_jn, ↓jn_ap, ↓ite_ap, ↓bd_gI1, ↓bd_pI1, ↓bd_gR1, ↓bd_pR1, ↓bd_gM, rt_ap, ↓reduceIte, iN_div, iN_divL, iN_add, iN_mul, iN_addL, iN_Ladd, iN_mulL, iN_Lmul, iN_subL, iN_sub, iN_le_T, iN_le_F, iN_lt_T, iN_lt_F, iN_eq_F, iN_leL_T, iN_leL_F, iN_Lle_T, iN_Lle_F, iN_ltL_T, iN_ltL_F, iN_Llt_T, iN_Llt_F, iN_eqL_T, iN_eqL_F, iN_m1, m1_iN, iN_le_m1, m1_le_iN, iN_neg, iN_pos, i10, i01, i00, i11, u3_op, u3_or, u3_same, pup_eq, pup_ne, hR.n, hnj]
    exact Rs.mk hR
