/-! PURE: houses and their rooms -/
abbrev CHo : Type := (Nat) × (Nat → Nat) × (Nat → Int32) × (Nat → Nat) × (Nat → Nat) × (Nat → Int32) × (Nat → Int32) × (Nat → Nat) × (Nat → Int32) × (Nat → Int32) × (Nat → Int32) × (Nat → Int32) × (Nat → Int32) × (Nat → Int32) × (Nat → Int32)
def CHo.mk (n : Nat) (cor : Nat → Nat) (kind : Nat → Int32) (fl : Nat → Nat) (wd : Nat → Nat) (sh : Nat → Int32) (dr : Nat → Int32) (wl : Nat → Nat) (yr : Nat → Int32) (use : Nat → Int32) (sav : Nat → Int32) (lost : Nat → Int32) (gal : Nat → Int32) (ppl : Nat → Int32) (told : Nat → Int32) : CHo := (n, cor, kind, fl, wd, sh, dr, wl, yr, use, sav, lost, gal, ppl, told)
def CHo.n (c : CHo) : Nat := c.1
def CHo.cor (c : CHo) : Nat → Nat := c.2.1
def CHo.kind (c : CHo) : Nat → Int32 := c.2.2.1
def CHo.fl (c : CHo) : Nat → Nat := c.2.2.2.1
def CHo.wd (c : CHo) : Nat → Nat := c.2.2.2.2.1
def CHo.sh (c : CHo) : Nat → Int32 := c.2.2.2.2.2.1
def CHo.dr (c : CHo) : Nat → Int32 := c.2.2.2.2.2.2.1
def CHo.wl (c : CHo) : Nat → Nat := c.2.2.2.2.2.2.2.1
def CHo.yr (c : CHo) : Nat → Int32 := c.2.2.2.2.2.2.2.2.1
def CHo.use (c : CHo) : Nat → Int32 := c.2.2.2.2.2.2.2.2.2.1
def CHo.sav (c : CHo) : Nat → Int32 := c.2.2.2.2.2.2.2.2.2.2.1
def CHo.lost (c : CHo) : Nat → Int32 := c.2.2.2.2.2.2.2.2.2.2.2.1
def CHo.gal (c : CHo) : Nat → Int32 := c.2.2.2.2.2.2.2.2.2.2.2.2.1
def CHo.ppl (c : CHo) : Nat → Int32 := c.2.2.2.2.2.2.2.2.2.2.2.2.2.1
def CHo.told (c : CHo) : Nat → Int32 := c.2.2.2.2.2.2.2.2.2.2.2.2.2.2
def CHo.s_n (c : CHo) (v : Nat) : CHo := CHo.mk v c.cor c.kind c.fl c.wd c.sh c.dr c.wl c.yr c.use c.sav c.lost c.gal c.ppl c.told
def CHo.s_cor (c : CHo) (v : Nat → Nat) : CHo := CHo.mk c.n v c.kind c.fl c.wd c.sh c.dr c.wl c.yr c.use c.sav c.lost c.gal c.ppl c.told
def CHo.s_kind (c : CHo) (v : Nat → Int32) : CHo := CHo.mk c.n c.cor v c.fl c.wd c.sh c.dr c.wl c.yr c.use c.sav c.lost c.gal c.ppl c.told
def CHo.s_fl (c : CHo) (v : Nat → Nat) : CHo := CHo.mk c.n c.cor c.kind v c.wd c.sh c.dr c.wl c.yr c.use c.sav c.lost c.gal c.ppl c.told
def CHo.s_wd (c : CHo) (v : Nat → Nat) : CHo := CHo.mk c.n c.cor c.kind c.fl v c.sh c.dr c.wl c.yr c.use c.sav c.lost c.gal c.ppl c.told
def CHo.s_sh (c : CHo) (v : Nat → Int32) : CHo := CHo.mk c.n c.cor c.kind c.fl c.wd v c.dr c.wl c.yr c.use c.sav c.lost c.gal c.ppl c.told
def CHo.s_dr (c : CHo) (v : Nat → Int32) : CHo := CHo.mk c.n c.cor c.kind c.fl c.wd c.sh v c.wl c.yr c.use c.sav c.lost c.gal c.ppl c.told
def CHo.s_wl (c : CHo) (v : Nat → Nat) : CHo := CHo.mk c.n c.cor c.kind c.fl c.wd c.sh c.dr v c.yr c.use c.sav c.lost c.gal c.ppl c.told
def CHo.s_yr (c : CHo) (v : Nat → Int32) : CHo := CHo.mk c.n c.cor c.kind c.fl c.wd c.sh c.dr c.wl v c.use c.sav c.lost c.gal c.ppl c.told
def CHo.s_use (c : CHo) (v : Nat → Int32) : CHo := CHo.mk c.n c.cor c.kind c.fl c.wd c.sh c.dr c.wl c.yr v c.sav c.lost c.gal c.ppl c.told
def CHo.s_sav (c : CHo) (v : Nat → Int32) : CHo := CHo.mk c.n c.cor c.kind c.fl c.wd c.sh c.dr c.wl c.yr c.use v c.lost c.gal c.ppl c.told
def CHo.s_lost (c : CHo) (v : Nat → Int32) : CHo := CHo.mk c.n c.cor c.kind c.fl c.wd c.sh c.dr c.wl c.yr c.use c.sav v c.gal c.ppl c.told
def CHo.s_gal (c : CHo) (v : Nat → Int32) : CHo := CHo.mk c.n c.cor c.kind c.fl c.wd c.sh c.dr c.wl c.yr c.use c.sav c.lost v c.ppl c.told
def CHo.s_ppl (c : CHo) (v : Nat → Int32) : CHo := CHo.mk c.n c.cor c.kind c.fl c.wd c.sh c.dr c.wl c.yr c.use c.sav c.lost c.gal v c.told
def CHo.s_told (c : CHo) (v : Nat → Int32) : CHo := CHo.mk c.n c.cor c.kind c.fl c.wd c.sh c.dr c.wl c.yr c.use c.sav c.lost c.gal c.ppl v
abbrev CBz : Type := (Nat → Int32) × (Nat → Int32) × (Nat → Int32) × (Nat → Int32) × (Nat → Int32)
def CBz.mk (heat : Nat → Int32) (stuff : Nat → Int32) (water : Nat → Int32) (bnt : Nat → Int32) (fal : Nat → Int32) : CBz := (heat, stuff, water, bnt, fal)
def CBz.heat (c : CBz) : Nat → Int32 := c.1
def CBz.stuff (c : CBz) : Nat → Int32 := c.2.1
def CBz.water (c : CBz) : Nat → Int32 := c.2.2.1
def CBz.bnt (c : CBz) : Nat → Int32 := c.2.2.2.1
def CBz.fal (c : CBz) : Nat → Int32 := c.2.2.2.2
def CBz.s_heat (c : CBz) (v : Nat → Int32) : CBz := CBz.mk v c.stuff c.water c.bnt c.fal
def CBz.s_stuff (c : CBz) (v : Nat → Int32) : CBz := CBz.mk c.heat v c.water c.bnt c.fal
def CBz.s_water (c : CBz) (v : Nat → Int32) : CBz := CBz.mk c.heat c.stuff v c.bnt c.fal
def CBz.s_bnt (c : CBz) (v : Nat → Int32) : CBz := CBz.mk c.heat c.stuff c.water v c.fal
def CBz.s_fal (c : CBz) (v : Nat → Int32) : CBz := CBz.mk c.heat c.stuff c.water c.bnt v
def CHo.WF (c : CHo) : Prop := (c.n ≤ 12) ∧ (∀ h, h < c.n → c.cor h < 20) ∧ (∀ h, h < c.n → 1 ≤ c.fl h ∧ c.fl h ≤ 6) ∧ (∀ h, h < c.n → 1 ≤ c.wd h ∧ c.wd h ≤ 4) ∧ (∀ h, c.wl h ≤ 3) ∧ (∀ h, c.n ≤ h → c.dr h = 0 ∧ c.wl h = 0 ∧ c.use h = 0 ∧ c.sav h = 0 ∧ c.lost h = 0 ∧ c.gal h = 0) ∧ (∀ k, 6 * c.n ≤ k → c.ppl k = 0 ∧ c.told k = 0)
theorem CHo.WF.hn {c : CHo} (hx_ : CHo.WF c) : c.n ≤ 12 := And.left hx_
theorem CHo.WF.cor {c : CHo} (hx_ : CHo.WF c) : ∀ h, h < c.n → c.cor h < 20 := And.left (And.right hx_)
theorem CHo.WF.fl {c : CHo} (hx_ : CHo.WF c) : ∀ h, h < c.n → 1 ≤ c.fl h ∧ c.fl h ≤ 6 := And.left (And.right (And.right hx_))
theorem CHo.WF.wd {c : CHo} (hx_ : CHo.WF c) : ∀ h, h < c.n → 1 ≤ c.wd h ∧ c.wd h ≤ 4 := And.left (And.right (And.right (And.right hx_)))
theorem CHo.WF.wl {c : CHo} (hx_ : CHo.WF c) : ∀ h, c.wl h ≤ 3 := And.left (And.right (And.right (And.right (And.right hx_))))
theorem CHo.WF.z {c : CHo} (hx_ : CHo.WF c) : ∀ h, c.n ≤ h → c.dr h = 0 ∧ c.wl h = 0 ∧ c.use h = 0 ∧ c.sav h = 0 ∧ c.lost h = 0 ∧ c.gal h = 0 := And.left (And.right (And.right (And.right (And.right (And.right hx_)))))
theorem CHo.WF.zf {c : CHo} (hx_ : CHo.WF c) : ∀ k, 6 * c.n ≤ k → c.ppl k = 0 ∧ c.told k = 0 := (And.right (And.right (And.right (And.right (And.right (And.right hx_))))))
theorem CHo.WF.mk {c : CHo} (h_hn : c.n ≤ 12) (h_cor : ∀ h, h < c.n → c.cor h < 20) (h_fl : ∀ h, h < c.n → 1 ≤ c.fl h ∧ c.fl h ≤ 6) (h_wd : ∀ h, h < c.n → 1 ≤ c.wd h ∧ c.wd h ≤ 4) (h_wl : ∀ h, c.wl h ≤ 3) (h_z : ∀ h, c.n ≤ h → c.dr h = 0 ∧ c.wl h = 0 ∧ c.use h = 0 ∧ c.sav h = 0 ∧ c.lost h = 0 ∧ c.gal h = 0) (h_zf : ∀ k, 6 * c.n ≤ k → c.ppl k = 0 ∧ c.told k = 0) : CHo.WF c := And.intro h_hn (And.intro h_cor (And.intro h_fl (And.intro h_wd (And.intro h_wl (And.intro h_z (h_zf))))))
def CBz.WF (b : CBz) (n : Nat) : Prop := (∀ k, 24 * n ≤ k → b.heat k = 0 ∧ b.stuff k = 0 ∧ b.water k = 0) ∧ (∀ k, 6 * n ≤ k → b.bnt k = 0 ∧ b.fal k = 0)
theorem CBz.WF.z {b : CBz} {n : Nat} (hx_ : CBz.WF b n) : ∀ k, 24 * n ≤ k → b.heat k = 0 ∧ b.stuff k = 0 ∧ b.water k = 0 := And.left hx_
theorem CBz.WF.zf {b : CBz} {n : Nat} (hx_ : CBz.WF b n) : ∀ k, 6 * n ≤ k → b.bnt k = 0 ∧ b.fal k = 0 := (And.right hx_)
theorem CBz.WF.mk {b : CBz} {n : Nat} (h_z : ∀ k, 24 * n ≤ k → b.heat k = 0 ∧ b.stuff k = 0 ∧ b.water k = 0) (h_zf : ∀ k, 6 * n ≤ k → b.bnt k = 0 ∧ b.fal k = 0) : CBz.WF b n := And.intro h_z (h_zf)
def RMho (c : CHo) (S : amSt) : Prop := (S.1 1 1 31 = iN c.n) ∧ (∀ h, h < c.n → S.1 62 1 h = iN (c.cor h)) ∧ (∀ h, h < c.n → S.1 63 1 h = c.kind h) ∧ (∀ h, h < c.n → S.1 64 1 h = iN (c.fl h)) ∧ (∀ h, h < c.n → S.1 65 1 h = iN (c.wd h)) ∧ (∀ h, h < c.n → S.1 66 1 h = c.sh h) ∧ (∀ h, h < 12 → S.1 67 1 h = iN (c.wl h)) ∧ (∀ h, h < c.n → S.1 68 1 h = c.yr h) ∧ (∀ h, h < 12 → S.1 69 1 h = c.use h) ∧ (∀ h, h < 12 → S.1 70 1 h = c.sav h) ∧ (∀ h, h < 12 → S.1 71 1 h = c.lost h) ∧ (∀ h, h < 12 → S.1 72 1 h = c.gal h) ∧ (∀ h, h < 12 → S.1 73 1 h = c.dr h) ∧ (∀ k, k < 72 → S.1 80 1 k = c.ppl k) ∧ (∀ k, k < 72 → S.1 81 1 k = c.told k)
theorem RMho.n {c : CHo} {S : amSt} (hx_ : RMho c S) : S.1 1 1 31 = iN c.n := And.left hx_
theorem RMho.cor {c : CHo} {S : amSt} (hx_ : RMho c S) : ∀ h, h < c.n → S.1 62 1 h = iN (c.cor h) := And.left (And.right hx_)
theorem RMho.kind {c : CHo} {S : amSt} (hx_ : RMho c S) : ∀ h, h < c.n → S.1 63 1 h = c.kind h := And.left (And.right (And.right hx_))
theorem RMho.fl {c : CHo} {S : amSt} (hx_ : RMho c S) : ∀ h, h < c.n → S.1 64 1 h = iN (c.fl h) := And.left (And.right (And.right (And.right hx_)))
theorem RMho.wd {c : CHo} {S : amSt} (hx_ : RMho c S) : ∀ h, h < c.n → S.1 65 1 h = iN (c.wd h) := And.left (And.right (And.right (And.right (And.right hx_))))
theorem RMho.sh {c : CHo} {S : amSt} (hx_ : RMho c S) : ∀ h, h < c.n → S.1 66 1 h = c.sh h := And.left (And.right (And.right (And.right (And.right (And.right hx_)))))
theorem RMho.wl {c : CHo} {S : amSt} (hx_ : RMho c S) : ∀ h, h < 12 → S.1 67 1 h = iN (c.wl h) := And.left (And.right (And.right (And.right (And.right (And.right (And.right hx_))))))
theorem RMho.yr {c : CHo} {S : amSt} (hx_ : RMho c S) : ∀ h, h < c.n → S.1 68 1 h = c.yr h := And.left (And.right (And.right (And.right (And.right (And.right (And.right (And.right hx_)))))))
theorem RMho.use {c : CHo} {S : amSt} (hx_ : RMho c S) : ∀ h, h < 12 → S.1 69 1 h = c.use h := And.left (And.right (And.right (And.right (And.right (And.right (And.right (And.right (And.right hx_))))))))
theorem RMho.sav {c : CHo} {S : amSt} (hx_ : RMho c S) : ∀ h, h < 12 → S.1 70 1 h = c.sav h := And.left (And.right (And.right (And.right (And.right (And.right (And.right (And.right (And.right (And.right hx_)))))))))
theorem RMho.lost {c : CHo} {S : amSt} (hx_ : RMho c S) : ∀ h, h < 12 → S.1 71 1 h = c.lost h := And.left (And.right (And.right (And.right (And.right (And.right (And.right (And.right (And.right (And.right (And.right hx_))))))))))
theorem RMho.gal {c : CHo} {S : amSt} (hx_ : RMho c S) : ∀ h, h < 12 → S.1 72 1 h = c.gal h := And.left (And.right (And.right (And.right (And.right (And.right (And.right (And.right (And.right (And.right (And.right (And.right hx_)))))))))))
theorem RMho.dr {c : CHo} {S : amSt} (hx_ : RMho c S) : ∀ h, h < 12 → S.1 73 1 h = c.dr h := And.left (And.right (And.right (And.right (And.right (And.right (And.right (And.right (And.right (And.right (And.right (And.right (And.right hx_))))))))))))
theorem RMho.ppl {c : CHo} {S : amSt} (hx_ : RMho c S) : ∀ k, k < 72 → S.1 80 1 k = c.ppl k := And.left (And.right (And.right (And.right (And.right (And.right (And.right (And.right (And.right (And.right (And.right (And.right (And.right (And.right hx_)))))))))))))
theorem RMho.told {c : CHo} {S : amSt} (hx_ : RMho c S) : ∀ k, k < 72 → S.1 81 1 k = c.told k := (And.right (And.right (And.right (And.right (And.right (And.right (And.right (And.right (And.right (And.right (And.right (And.right (And.right (And.right hx_))))))))))))))
theorem RMho.mk {c : CHo} {S : amSt} (h_n : S.1 1 1 31 = iN c.n) (h_cor : ∀ h, h < c.n → S.1 62 1 h = iN (c.cor h)) (h_kind : ∀ h, h < c.n → S.1 63 1 h = c.kind h) (h_fl : ∀ h, h < c.n → S.1 64 1 h = iN (c.fl h)) (h_wd : ∀ h, h < c.n → S.1 65 1 h = iN (c.wd h)) (h_sh : ∀ h, h < c.n → S.1 66 1 h = c.sh h) (h_wl : ∀ h, h < 12 → S.1 67 1 h = iN (c.wl h)) (h_yr : ∀ h, h < c.n → S.1 68 1 h = c.yr h) (h_use : ∀ h, h < 12 → S.1 69 1 h = c.use h) (h_sav : ∀ h, h < 12 → S.1 70 1 h = c.sav h) (h_lost : ∀ h, h < 12 → S.1 71 1 h = c.lost h) (h_gal : ∀ h, h < 12 → S.1 72 1 h = c.gal h) (h_dr : ∀ h, h < 12 → S.1 73 1 h = c.dr h) (h_ppl : ∀ k, k < 72 → S.1 80 1 k = c.ppl k) (h_told : ∀ k, k < 72 → S.1 81 1 k = c.told k) : RMho c S := And.intro h_n (And.intro h_cor (And.intro h_kind (And.intro h_fl (And.intro h_wd (And.intro h_sh (And.intro h_wl (And.intro h_yr (And.intro h_use (And.intro h_sav (And.intro h_lost (And.intro h_gal (And.intro h_dr (And.intro h_ppl (h_told))))))))))))))
def KRMho : List Nat := [2031, 62, 63, 64, 65, 66, 67, 68, 69, 70, 71, 72, 73, 80, 81]
theorem RMho.fr {c : CHo} {S : amSt} {S1 : amSt} (hx_ : RMho c S) {L : List Nat} (hf : FrS L S S1) (hd : ∀ x ∈ KRMho, x ∉ L) : RMho c S1 :=
  RMho.mk
    ((hf.i 1 1 31 (hd 2031 (by decide))).trans (hx_.n ))
    (fun h h0_ => (hf.i 62 1 h (hd 62 (by decide))).trans (hx_.cor h h0_))
    (fun h h0_ => (hf.i 63 1 h (hd 63 (by decide))).trans (hx_.kind h h0_))
    (fun h h0_ => (hf.i 64 1 h (hd 64 (by decide))).trans (hx_.fl h h0_))
    (fun h h0_ => (hf.i 65 1 h (hd 65 (by decide))).trans (hx_.wd h h0_))
    (fun h h0_ => (hf.i 66 1 h (hd 66 (by decide))).trans (hx_.sh h h0_))
    (fun h h0_ => (hf.i 67 1 h (hd 67 (by decide))).trans (hx_.wl h h0_))
    (fun h h0_ => (hf.i 68 1 h (hd 68 (by decide))).trans (hx_.yr h h0_))
    (fun h h0_ => (hf.i 69 1 h (hd 69 (by decide))).trans (hx_.use h h0_))
    (fun h h0_ => (hf.i 70 1 h (hd 70 (by decide))).trans (hx_.sav h h0_))
    (fun h h0_ => (hf.i 71 1 h (hd 71 (by decide))).trans (hx_.lost h h0_))
    (fun h h0_ => (hf.i 72 1 h (hd 72 (by decide))).trans (hx_.gal h h0_))
    (fun h h0_ => (hf.i 73 1 h (hd 73 (by decide))).trans (hx_.dr h h0_))
    (fun k h0_ => (hf.i 80 1 k (hd 80 (by decide))).trans (hx_.ppl k h0_))
    (fun k h0_ => (hf.i 81 1 k (hd 81 (by decide))).trans (hx_.told k h0_))
def RMbz (b : CBz) (S : amSt) : Prop := (∀ k, k < 288 → S.1 74 1 k = b.heat k) ∧ (∀ k, k < 288 → S.1 75 1 k = b.stuff k) ∧ (∀ k, k < 288 → S.1 76 1 k = b.water k) ∧ (∀ k, k < 72 → S.1 79 1 k = b.bnt k) ∧ (∀ k, k < 72 → S.1 82 1 k = b.fal k)
theorem RMbz.heat {b : CBz} {S : amSt} (hx_ : RMbz b S) : ∀ k, k < 288 → S.1 74 1 k = b.heat k := And.left hx_
theorem RMbz.stuff {b : CBz} {S : amSt} (hx_ : RMbz b S) : ∀ k, k < 288 → S.1 75 1 k = b.stuff k := And.left (And.right hx_)
theorem RMbz.water {b : CBz} {S : amSt} (hx_ : RMbz b S) : ∀ k, k < 288 → S.1 76 1 k = b.water k := And.left (And.right (And.right hx_))
theorem RMbz.bnt {b : CBz} {S : amSt} (hx_ : RMbz b S) : ∀ k, k < 72 → S.1 79 1 k = b.bnt k := And.left (And.right (And.right (And.right hx_)))
theorem RMbz.fal {b : CBz} {S : amSt} (hx_ : RMbz b S) : ∀ k, k < 72 → S.1 82 1 k = b.fal k := (And.right (And.right (And.right (And.right hx_))))
theorem RMbz.mk {b : CBz} {S : amSt} (h_heat : ∀ k, k < 288 → S.1 74 1 k = b.heat k) (h_stuff : ∀ k, k < 288 → S.1 75 1 k = b.stuff k) (h_water : ∀ k, k < 288 → S.1 76 1 k = b.water k) (h_bnt : ∀ k, k < 72 → S.1 79 1 k = b.bnt k) (h_fal : ∀ k, k < 72 → S.1 82 1 k = b.fal k) : RMbz b S := And.intro h_heat (And.intro h_stuff (And.intro h_water (And.intro h_bnt (h_fal))))
def KRMbz : List Nat := [74, 75, 76, 79, 82]
theorem RMbz.fr {b : CBz} {S : amSt} {S1 : amSt} (hx_ : RMbz b S) {L : List Nat} (hf : FrS L S S1) (hd : ∀ x ∈ KRMbz, x ∉ L) : RMbz b S1 :=
  RMbz.mk
    (fun k h0_ => (hf.i 74 1 k (hd 74 (by decide))).trans (hx_.heat k h0_))
    (fun k h0_ => (hf.i 75 1 k (hd 75 (by decide))).trans (hx_.stuff k h0_))
    (fun k h0_ => (hf.i 76 1 k (hd 76 (by decide))).trans (hx_.water k h0_))
    (fun k h0_ => (hf.i 79 1 k (hd 79 (by decide))).trans (hx_.bnt k h0_))
    (fun k h0_ => (hf.i 82 1 k (hd 82 (by decide))).trans (hx_.fal k h0_))
def RCho (c : CHo) (φ : amSh) (S : amSt) : Prop := (S.1 0 1 6 = iN c.n) ∧ (∀ h, h < c.n → S.2.2 24 1 h = h + 1) ∧ (∀ h, h < c.n → S.1 3 (h + 1) 0 = iN (c.cor h)) ∧ (∀ h, h < c.n → S.1 3 (h + 1) 1 = c.kind h) ∧ (∀ h, h < c.n → S.1 3 (h + 1) 2 = iN (c.fl h)) ∧ (∀ h, h < c.n → S.1 3 (h + 1) 3 = iN (c.wd h)) ∧ (∀ h, h < c.n → S.1 3 (h + 1) 4 = c.sh h) ∧ (∀ h, h < c.n → S.1 3 (h + 1) 5 = c.dr h) ∧ (∀ h, h < c.n → S.1 3 (h + 1) 6 = iN (c.wl h)) ∧ (∀ h, h < c.n → S.1 3 (h + 1) 7 = c.yr h) ∧ (∀ h, h < c.n → S.1 3 (h + 1) 8 = c.use h) ∧ (∀ h, h < c.n → S.1 3 (h + 1) 9 = c.sav h) ∧ (∀ h, h < c.n → S.1 3 (h + 1) 10 = c.lost h) ∧ (∀ h, h < c.n → S.1 3 (h + 1) 11 = c.gal h) ∧ (∀ h f, h < c.n → f < 6 → S.1 143 (h + 1) f = c.ppl (6 * h + f)) ∧ (∀ h f, h < c.n → f < 6 → S.1 144 (h + 1) f = c.told (6 * h + f)) ∧ (∀ h, h < c.n → 3 < φ.2.1 3 (h + 1)) ∧ (∀ h, h < c.n → 6 < φ.2.1 4 (2 * (h + 1) - 1)) ∧ (∀ h, h < c.n → 6 < φ.2.1 4 (2 * (h + 1))) ∧ (φ.1 3 = c.n ∧ φ.1 143 = c.n ∧ φ.1 144 = c.n) ∧ (∀ p, p = 4 ∨ (145 ≤ p ∧ p ≤ 151) → φ.1 p = 2 * c.n)
theorem RCho.n {c : CHo} {φ : amSh} {S : amSt} (hx_ : RCho c φ S) : S.1 0 1 6 = iN c.n := And.left hx_
theorem RCho.obj {c : CHo} {φ : amSh} {S : amSt} (hx_ : RCho c φ S) : ∀ h, h < c.n → S.2.2 24 1 h = h + 1 := And.left (And.right hx_)
theorem RCho.cor {c : CHo} {φ : amSh} {S : amSt} (hx_ : RCho c φ S) : ∀ h, h < c.n → S.1 3 (h + 1) 0 = iN (c.cor h) := And.left (And.right (And.right hx_))
theorem RCho.kind {c : CHo} {φ : amSh} {S : amSt} (hx_ : RCho c φ S) : ∀ h, h < c.n → S.1 3 (h + 1) 1 = c.kind h := And.left (And.right (And.right (And.right hx_)))
theorem RCho.fl {c : CHo} {φ : amSh} {S : amSt} (hx_ : RCho c φ S) : ∀ h, h < c.n → S.1 3 (h + 1) 2 = iN (c.fl h) := And.left (And.right (And.right (And.right (And.right hx_))))
theorem RCho.wd {c : CHo} {φ : amSh} {S : amSt} (hx_ : RCho c φ S) : ∀ h, h < c.n → S.1 3 (h + 1) 3 = iN (c.wd h) := And.left (And.right (And.right (And.right (And.right (And.right hx_)))))
theorem RCho.sh {c : CHo} {φ : amSh} {S : amSt} (hx_ : RCho c φ S) : ∀ h, h < c.n → S.1 3 (h + 1) 4 = c.sh h := And.left (And.right (And.right (And.right (And.right (And.right (And.right hx_))))))
theorem RCho.dr {c : CHo} {φ : amSh} {S : amSt} (hx_ : RCho c φ S) : ∀ h, h < c.n → S.1 3 (h + 1) 5 = c.dr h := And.left (And.right (And.right (And.right (And.right (And.right (And.right (And.right hx_)))))))
theorem RCho.wl {c : CHo} {φ : amSh} {S : amSt} (hx_ : RCho c φ S) : ∀ h, h < c.n → S.1 3 (h + 1) 6 = iN (c.wl h) := And.left (And.right (And.right (And.right (And.right (And.right (And.right (And.right (And.right hx_))))))))
theorem RCho.yr {c : CHo} {φ : amSh} {S : amSt} (hx_ : RCho c φ S) : ∀ h, h < c.n → S.1 3 (h + 1) 7 = c.yr h := And.left (And.right (And.right (And.right (And.right (And.right (And.right (And.right (And.right (And.right hx_)))))))))
theorem RCho.use {c : CHo} {φ : amSh} {S : amSt} (hx_ : RCho c φ S) : ∀ h, h < c.n → S.1 3 (h + 1) 8 = c.use h := And.left (And.right (And.right (And.right (And.right (And.right (And.right (And.right (And.right (And.right (And.right hx_))))))))))
theorem RCho.sav {c : CHo} {φ : amSh} {S : amSt} (hx_ : RCho c φ S) : ∀ h, h < c.n → S.1 3 (h + 1) 9 = c.sav h := And.left (And.right (And.right (And.right (And.right (And.right (And.right (And.right (And.right (And.right (And.right (And.right hx_)))))))))))
theorem RCho.lost {c : CHo} {φ : amSh} {S : amSt} (hx_ : RCho c φ S) : ∀ h, h < c.n → S.1 3 (h + 1) 10 = c.lost h := And.left (And.right (And.right (And.right (And.right (And.right (And.right (And.right (And.right (And.right (And.right (And.right (And.right hx_))))))))))))
theorem RCho.gal {c : CHo} {φ : amSh} {S : amSt} (hx_ : RCho c φ S) : ∀ h, h < c.n → S.1 3 (h + 1) 11 = c.gal h := And.left (And.right (And.right (And.right (And.right (And.right (And.right (And.right (And.right (And.right (And.right (And.right (And.right (And.right hx_)))))))))))))
theorem RCho.ppl {c : CHo} {φ : amSh} {S : amSt} (hx_ : RCho c φ S) : ∀ h f, h < c.n → f < 6 → S.1 143 (h + 1) f = c.ppl (6 * h + f) := And.left (And.right (And.right (And.right (And.right (And.right (And.right (And.right (And.right (And.right (And.right (And.right (And.right (And.right (And.right hx_))))))))))))))
theorem RCho.told {c : CHo} {φ : amSh} {S : amSt} (hx_ : RCho c φ S) : ∀ h f, h < c.n → f < 6 → S.1 144 (h + 1) f = c.told (6 * h + f) := And.left (And.right (And.right (And.right (And.right (And.right (And.right (And.right (And.right (And.right (And.right (And.right (And.right (And.right (And.right (And.right hx_)))))))))))))))
theorem RCho.stg {c : CHo} {φ : amSh} {S : amSt} (hx_ : RCho c φ S) : ∀ h, h < c.n → 3 < φ.2.1 3 (h + 1) := And.left (And.right (And.right (And.right (And.right (And.right (And.right (And.right (And.right (And.right (And.right (And.right (And.right (And.right (And.right (And.right (And.right hx_))))))))))))))))
theorem RCho.stb {c : CHo} {φ : amSh} {S : amSt} (hx_ : RCho c φ S) : ∀ h, h < c.n → 6 < φ.2.1 4 (2 * (h + 1) - 1) := And.left (And.right (And.right (And.right (And.right (And.right (And.right (And.right (And.right (And.right (And.right (And.right (And.right (And.right (And.right (And.right (And.right (And.right hx_)))))))))))))))))
theorem RCho.stc {c : CHo} {φ : amSh} {S : amSt} (hx_ : RCho c φ S) : ∀ h, h < c.n → 6 < φ.2.1 4 (2 * (h + 1)) := And.left (And.right (And.right (And.right (And.right (And.right (And.right (And.right (And.right (And.right (And.right (And.right (And.right (And.right (And.right (And.right (And.right (And.right (And.right hx_))))))))))))))))))
theorem RCho.cnt {c : CHo} {φ : amSh} {S : amSt} (hx_ : RCho c φ S) : φ.1 3 = c.n ∧ φ.1 143 = c.n ∧ φ.1 144 = c.n := And.left (And.right (And.right (And.right (And.right (And.right (And.right (And.right (And.right (And.right (And.right (And.right (And.right (And.right (And.right (And.right (And.right (And.right (And.right (And.right hx_)))))))))))))))))))
theorem RCho.cnb {c : CHo} {φ : amSh} {S : amSt} (hx_ : RCho c φ S) : ∀ p, p = 4 ∨ (145 ≤ p ∧ p ≤ 151) → φ.1 p = 2 * c.n := (And.right (And.right (And.right (And.right (And.right (And.right (And.right (And.right (And.right (And.right (And.right (And.right (And.right (And.right (And.right (And.right (And.right (And.right (And.right (And.right hx_))))))))))))))))))))
theorem RCho.mk {c : CHo} {φ : amSh} {S : amSt} (h_n : S.1 0 1 6 = iN c.n) (h_obj : ∀ h, h < c.n → S.2.2 24 1 h = h + 1) (h_cor : ∀ h, h < c.n → S.1 3 (h + 1) 0 = iN (c.cor h)) (h_kind : ∀ h, h < c.n → S.1 3 (h + 1) 1 = c.kind h) (h_fl : ∀ h, h < c.n → S.1 3 (h + 1) 2 = iN (c.fl h)) (h_wd : ∀ h, h < c.n → S.1 3 (h + 1) 3 = iN (c.wd h)) (h_sh : ∀ h, h < c.n → S.1 3 (h + 1) 4 = c.sh h) (h_dr : ∀ h, h < c.n → S.1 3 (h + 1) 5 = c.dr h) (h_wl : ∀ h, h < c.n → S.1 3 (h + 1) 6 = iN (c.wl h)) (h_yr : ∀ h, h < c.n → S.1 3 (h + 1) 7 = c.yr h) (h_use : ∀ h, h < c.n → S.1 3 (h + 1) 8 = c.use h) (h_sav : ∀ h, h < c.n → S.1 3 (h + 1) 9 = c.sav h) (h_lost : ∀ h, h < c.n → S.1 3 (h + 1) 10 = c.lost h) (h_gal : ∀ h, h < c.n → S.1 3 (h + 1) 11 = c.gal h) (h_ppl : ∀ h f, h < c.n → f < 6 → S.1 143 (h + 1) f = c.ppl (6 * h + f)) (h_told : ∀ h f, h < c.n → f < 6 → S.1 144 (h + 1) f = c.told (6 * h + f)) (h_stg : ∀ h, h < c.n → 3 < φ.2.1 3 (h + 1)) (h_stb : ∀ h, h < c.n → 6 < φ.2.1 4 (2 * (h + 1) - 1)) (h_stc : ∀ h, h < c.n → 6 < φ.2.1 4 (2 * (h + 1))) (h_cnt : φ.1 3 = c.n ∧ φ.1 143 = c.n ∧ φ.1 144 = c.n) (h_cnb : ∀ p, p = 4 ∨ (145 ≤ p ∧ p ≤ 151) → φ.1 p = 2 * c.n) : RCho c φ S := And.intro h_n (And.intro h_obj (And.intro h_cor (And.intro h_kind (And.intro h_fl (And.intro h_wd (And.intro h_sh (And.intro h_dr (And.intro h_wl (And.intro h_yr (And.intro h_use (And.intro h_sav (And.intro h_lost (And.intro h_gal (And.intro h_ppl (And.intro h_told (And.intro h_stg (And.intro h_stb (And.intro h_stc (And.intro h_cnt (h_cnb))))))))))))))))))))
def KRCho : List Nat := [1006, 24, 4000, 4001, 4002, 4003, 4004, 4005, 4006, 4007, 4008, 4009, 4010, 4011, 143, 144]
theorem RCho.fr {c : CHo} {φ : amSh} {S : amSt} {S1 : amSt} (hx_ : RCho c φ S) {L : List Nat} (hf : FrS L S S1) (hd : ∀ x ∈ KRCho, x ∉ L) : RCho c φ S1 :=
  RCho.mk
    ((hf.i 0 1 6 (hd 1006 (by decide))).trans (hx_.n ))
    (fun h h0_ => (hf.r 24 1 h (hd 24 (by decide))).trans (hx_.obj h h0_))
    (fun h h0_ => (hf.i 3 (h + 1) 0 (hd 4000 (by decide))).trans (hx_.cor h h0_))
    (fun h h0_ => (hf.i 3 (h + 1) 1 (hd 4001 (by decide))).trans (hx_.kind h h0_))
    (fun h h0_ => (hf.i 3 (h + 1) 2 (hd 4002 (by decide))).trans (hx_.fl h h0_))
    (fun h h0_ => (hf.i 3 (h + 1) 3 (hd 4003 (by decide))).trans (hx_.wd h h0_))
    (fun h h0_ => (hf.i 3 (h + 1) 4 (hd 4004 (by decide))).trans (hx_.sh h h0_))
    (fun h h0_ => (hf.i 3 (h + 1) 5 (hd 4005 (by decide))).trans (hx_.dr h h0_))
    (fun h h0_ => (hf.i 3 (h + 1) 6 (hd 4006 (by decide))).trans (hx_.wl h h0_))
    (fun h h0_ => (hf.i 3 (h + 1) 7 (hd 4007 (by decide))).trans (hx_.yr h h0_))
    (fun h h0_ => (hf.i 3 (h + 1) 8 (hd 4008 (by decide))).trans (hx_.use h h0_))
    (fun h h0_ => (hf.i 3 (h + 1) 9 (hd 4009 (by decide))).trans (hx_.sav h h0_))
    (fun h h0_ => (hf.i 3 (h + 1) 10 (hd 4010 (by decide))).trans (hx_.lost h h0_))
    (fun h h0_ => (hf.i 3 (h + 1) 11 (hd 4011 (by decide))).trans (hx_.gal h h0_))
    (fun h f h0_ h1_ => (hf.i 143 (h + 1) f (hd 143 (by decide))).trans (hx_.ppl h f h0_ h1_))
    (fun h f h0_ h1_ => (hf.i 144 (h + 1) f (hd 144 (by decide))).trans (hx_.told h f h0_ h1_))
    (hx_.stg)
    (hx_.stb)
    (hx_.stc)
    (hx_.cnt)
    (hx_.cnb)
/-- a blaze numbered r holds the rooms of house h -/
def RCb1 (b : CBz) (h r : Nat) (S : amSt) : Prop := (∀ k, k < 24 → S.1 145 r k = b.heat (24 * h + k)) ∧ (∀ k, k < 24 → S.1 146 r k = b.stuff (24 * h + k)) ∧ (∀ k, k < 24 → S.1 147 r k = b.water (24 * h + k)) ∧ (∀ f, f < 6 → S.1 148 r f = b.bnt (6 * h + f)) ∧ (∀ f, f < 6 → S.1 149 r f = b.fal (6 * h + f))
theorem RCb1.heat {b : CBz} {h r : Nat} {S : amSt} (hx_ : RCb1 b h r S) : ∀ k, k < 24 → S.1 145 r k = b.heat (24 * h + k) := And.left hx_
theorem RCb1.stuff {b : CBz} {h r : Nat} {S : amSt} (hx_ : RCb1 b h r S) : ∀ k, k < 24 → S.1 146 r k = b.stuff (24 * h + k) := And.left (And.right hx_)
theorem RCb1.water {b : CBz} {h r : Nat} {S : amSt} (hx_ : RCb1 b h r S) : ∀ k, k < 24 → S.1 147 r k = b.water (24 * h + k) := And.left (And.right (And.right hx_))
theorem RCb1.bnt {b : CBz} {h r : Nat} {S : amSt} (hx_ : RCb1 b h r S) : ∀ f, f < 6 → S.1 148 r f = b.bnt (6 * h + f) := And.left (And.right (And.right (And.right hx_)))
theorem RCb1.fal {b : CBz} {h r : Nat} {S : amSt} (hx_ : RCb1 b h r S) : ∀ f, f < 6 → S.1 149 r f = b.fal (6 * h + f) := (And.right (And.right (And.right (And.right hx_))))
theorem RCb1.mk {b : CBz} {h r : Nat} {S : amSt} (h_heat : ∀ k, k < 24 → S.1 145 r k = b.heat (24 * h + k)) (h_stuff : ∀ k, k < 24 → S.1 146 r k = b.stuff (24 * h + k)) (h_water : ∀ k, k < 24 → S.1 147 r k = b.water (24 * h + k)) (h_bnt : ∀ f, f < 6 → S.1 148 r f = b.bnt (6 * h + f)) (h_fal : ∀ f, f < 6 → S.1 149 r f = b.fal (6 * h + f)) : RCb1 b h r S := And.intro h_heat (And.intro h_stuff (And.intro h_water (And.intro h_bnt (h_fal))))
def KRCb1 : List Nat := [145, 146, 147, 148, 149]
theorem RCb1.fr {b : CBz} {h r : Nat} {S : amSt} {S1 : amSt} (hx_ : RCb1 b h r S) {L : List Nat} (hf : FrS L S S1) (hd : ∀ x ∈ KRCb1, x ∉ L) : RCb1 b h r S1 :=
  RCb1.mk
    (fun k h0_ => (hf.i 145 r k (hd 145 (by decide))).trans (hx_.heat k h0_))
    (fun k h0_ => (hf.i 146 r k (hd 146 (by decide))).trans (hx_.stuff k h0_))
    (fun k h0_ => (hf.i 147 r k (hd 147 (by decide))).trans (hx_.water k h0_))
    (fun f h0_ => (hf.i 148 r f (hd 148 (by decide))).trans (hx_.bnt f h0_))
    (fun f h0_ => (hf.i 149 r f (hd 149 (by decide))).trans (hx_.fal f h0_))
def RCbz (b : CBz) (n : Nat) (S : amSt) : Prop := ∀ h, h < n → RCb1 b h (2 * (h + 1) - 1) S
theorem CHo.WF.fw {c : CHo} (w : c.WF) {h : Nat} (hh : h < c.n) : c.fl h * c.wd h ≤ 24 := Nat.mul_le_mul (w.fl h hh).2 (w.wd h hh).2
theorem CHo.WF.dv {c : CHo} (w : c.WF) {h k : Nat} (hh : h < c.n) (hk : k < c.fl h * c.wd h) : k / c.wd h < c.fl h := by
  rw [Nat.mul_comm] at hk
  exact Nat.div_lt_of_lt_mul hk
def brn (c : CHo) (b : CBz) (h k : Nat) : Bool := !decide (b.heat (24 * h + k) < 300) && (!decide (b.stuff (24 * h + k) ≤ 0) && decide (b.fal (6 * h + k / c.wd h) = 0))
theorem sp_X5_floorOf {c : CHo} (w : c.WF) {φ : amSh} {S : amSt} (hR : RCho c φ S) {h k : Nat} (hh : h < c.n) (hk : k < 2147483648) : p_X5_floorOf (h + 1) (iN k) φ S = some (iN (k / c.wd h), S) := by
  have hw := w.wd h hh
  unfold p_X5_floorOf
  simp (disch := first | omega | assumption) only [↓bd_rt, ↓bd_bd, ↓bd_ite, ↓bd_jn, ↓jn_ap, ↓ite_ap, ↓bd_gI1, ↓bd_pI1, ↓bd_gR1, ↓bd_pR1, ↓bd_gM, rt_ap, ↓reduceIte, iN_div, iN_divL, iN_add, iN_mul, iN_addL, iN_Ladd, iN_mulL, iN_Lmul, iN_subL, iN_sub, iN_le_T, iN_le_F, iN_lt_T, iN_lt_F, iN_eq_F, iN_leL_T, iN_leL_F, iN_Lle_T, iN_Lle_F, iN_ltL_T, iN_ltL_F, iN_Llt_T, iN_Llt_F, iN_eqL_T, iN_eqL_F, iN_m1, m1_iN, iN_le_m1, m1_le_iN, iN_neg, iN_pos, i10, i01, i00, i11, u3_op, u3_or, u3_same, pup_eq, pup_ne, ↓bd_gI, hR.wd h hh, ↓bd_nz]
theorem sp_X3_floorOf {c : CHo} (w : c.WF) {φ : amSh} {S : amSt} (hφ : φ.1 255 ≠ 0) (hR : RMho c S) {h k : Nat} (hh : h < c.n) (hk : k < 2147483648) : p_X3_floorOf (iN h) (iN k) φ S = some (iN (k / c.wd h), S) := by
  have hw := w.wd h hh
  have hn := w.hn
  unfold p_X3_floorOf
  simp (disch := first | omega | assumption) only [↓bd_rt, ↓bd_bd, ↓bd_ite, ↓bd_jn, ↓jn_ap, ↓ite_ap, ↓bd_gI1, ↓bd_pI1, ↓bd_gR1, ↓bd_pR1, ↓bd_gM, rt_ap, ↓reduceIte, iN_div, iN_divL, iN_add, iN_mul, iN_addL, iN_Ladd, iN_mulL, iN_Lmul, iN_subL, iN_sub, iN_le_T, iN_le_F, iN_lt_T, iN_lt_F, iN_eq_F, iN_leL_T, iN_leL_F, iN_Lle_T, iN_Lle_F, iN_ltL_T, iN_ltL_F, iN_Llt_T, iN_Llt_F, iN_eqL_T, iN_eqL_F, iN_m1, m1_iN, iN_le_m1, m1_le_iN, iN_neg, iN_pos, i10, i01, i00, i11, u3_op, u3_or, u3_same, pup_eq, pup_ne, ↓rI65_1, hR.wd h hh, ↓bd_nz]
theorem sp_X5_burns {c : CHo} (w : c.WF) {b : CBz} {φ : amSh} {S : amSt} (hR : RCho c φ S) {h r k : Nat} (hh : h < c.n) (hb : RCb1 b h r S) (hr : r ≠ 0) (hst : 6 < φ.2.1 4 r) (hk : k < c.fl h * c.wd h) : p_X5_burns (h + 1) r (iN k) φ S = some (b01 (brn c b h k), S) := by
  have hfw := w.fw hh
  have hdv := w.dv hh hk
  have hfl := w.fl h hh
  unfold p_X5_burns brn
  by_cases h1 : b.heat (24 * h + k) < 300
  · simp (disch := first | omega | assumption) only [↓bd_rt, ↓bd_bd, ↓bd_ite, ↓bd_jn, ↓jn_ap, ↓ite_ap, ↓bd_gI1, ↓bd_pI1, ↓bd_gR1, ↓bd_pR1, ↓bd_gM, rt_ap, ↓reduceIte, iN_div, iN_divL, iN_add, iN_mul, iN_addL, iN_Ladd, iN_mulL, iN_Lmul, iN_subL, iN_sub, iN_le_T, iN_le_F, iN_lt_T, iN_lt_F, iN_eq_F, iN_leL_T, iN_leL_F, iN_Lle_T, iN_Lle_F, iN_ltL_T, iN_ltL_F, iN_Llt_T, iN_Llt_F, iN_eqL_T, iN_eqL_F, iN_m1, m1_iN, iN_le_m1, m1_le_iN, iN_neg, iN_pos, i10, i01, i00, i11, u3_op, u3_or, u3_same, pup_eq, pup_ne, ↓bd_gC hr (show 0 < φ.2.1 4 r by omega), ↓rI145, hb.heat k (by omega), if_pos h1]
    simp [h1, b01]
  · by_cases h2 : b.stuff (24 * h + k) ≤ 0
    · simp (disch := first | omega | assumption) only [↓bd_rt, ↓bd_bd, ↓bd_ite, ↓bd_jn, ↓jn_ap, ↓ite_ap, ↓bd_gI1, ↓bd_pI1, ↓bd_gR1, ↓bd_pR1, ↓bd_gM, rt_ap, ↓reduceIte, iN_div, iN_divL, iN_add, iN_mul, iN_addL, iN_Ladd, iN_mulL, iN_Lmul, iN_subL, iN_sub, iN_le_T, iN_le_F, iN_lt_T, iN_lt_F, iN_eq_F, iN_leL_T, iN_leL_F, iN_Lle_T, iN_Lle_F, iN_ltL_T, iN_ltL_F, iN_Llt_T, iN_Llt_F, iN_eqL_T, iN_eqL_F, iN_m1, m1_iN, iN_le_m1, m1_le_iN, iN_neg, iN_pos, i10, i01, i00, i11, u3_op, u3_or, u3_same, pup_eq, pup_ne, ↓bd_gC hr (show 0 < φ.2.1 4 r by omega), ↓bd_gC hr (show 1 < φ.2.1 4 r by omega), ↓rI145, ↓rI146, hb.heat k (by omega), hb.stuff k (by omega), if_neg h1, if_pos h2]
      simp [h1, h2, b01]
    · by_cases h3 : b.fal (6 * h + k / c.wd h) = 0
      · simp (disch := first | omega | assumption) only [↓bd_rt, ↓bd_bd, ↓bd_ite, ↓bd_jn, ↓jn_ap, ↓ite_ap, ↓bd_gI1, ↓bd_pI1, ↓bd_gR1, ↓bd_pR1, ↓bd_gM, rt_ap, ↓reduceIte, iN_div, iN_divL, iN_add, iN_mul, iN_addL, iN_Ladd, iN_mulL, iN_Lmul, iN_subL, iN_sub, iN_le_T, iN_le_F, iN_lt_T, iN_lt_F, iN_eq_F, iN_leL_T, iN_leL_F, iN_Lle_T, iN_Lle_F, iN_ltL_T, iN_ltL_F, iN_Llt_T, iN_Llt_F, iN_eqL_T, iN_eqL_F, iN_m1, m1_iN, iN_le_m1, m1_le_iN, iN_neg, iN_pos, i10, i01, i00, i11, u3_op, u3_or, u3_same, pup_eq, pup_ne, ↓bd_gC hr (show 0 < φ.2.1 4 r by omega), ↓bd_gC hr (show 1 < φ.2.1 4 r by omega), ↓bd_gC hr (show 4 < φ.2.1 4 r by omega), ↓rI145, ↓rI146, ↓rI149, hb.heat k (by omega), hb.stuff k (by omega), if_neg h1, if_neg h2, ↓bd_nn, ↓bd_of (sp_X5_floorOf w hR hh (k := k) (by omega)), hb.fal (k / c.wd h) (by omega), if_pos h3]
        simp [h1, h2, h3, b01]
      · simp (disch := first | omega | assumption) only [↓bd_rt, ↓bd_bd, ↓bd_ite, ↓bd_jn, ↓jn_ap, ↓ite_ap, ↓bd_gI1, ↓bd_pI1, ↓bd_gR1, ↓bd_pR1, ↓bd_gM, rt_ap, ↓reduceIte, iN_div, iN_divL, iN_add, iN_mul, iN_addL, iN_Ladd, iN_mulL, iN_Lmul, iN_subL, iN_sub, iN_le_T, iN_le_F, iN_lt_T, iN_lt_F, iN_eq_F, iN_leL_T, iN_leL_F, iN_Lle_T, iN_Lle_F, iN_ltL_T, iN_ltL_F, iN_Llt_T, iN_Llt_F, iN_eqL_T, iN_eqL_F, iN_m1, m1_iN, iN_le_m1, m1_le_iN, iN_neg, iN_pos, i10, i01, i00, i11, u3_op, u3_or, u3_same, pup_eq, pup_ne, ↓bd_gC hr (show 0 < φ.2.1 4 r by omega), ↓bd_gC hr (show 1 < φ.2.1 4 r by omega), ↓bd_gC hr (show 4 < φ.2.1 4 r by omega), ↓rI145, ↓rI146, ↓rI149, hb.heat k (by omega), hb.stuff k (by omega), if_neg h1, if_neg h2, ↓bd_nn, ↓bd_of (sp_X5_floorOf w hR hh (k := k) (by omega)), hb.fal (k / c.wd h) (by omega), if_neg h3]
        simp [h1, h2, h3, b01]
theorem sp_X3_burns {c : CHo} (w : c.WF) {b : CBz} {φ : amSh} {S : amSt} (hφ : φ.1 255 ≠ 0) (hR : RMho c S) (hb : RMbz b S) {h k : Nat} (hh : h < c.n) (hk : k < c.fl h * c.wd h) : p_X3_burns (iN h) (iN k) φ S = some (b01 (brn c b h k), S) := by
  have hfw := w.fw hh
  have hdv := w.dv hh hk
  have hfl := w.fl h hh
  have hn := w.hn
  unfold p_X3_burns brn
  by_cases h1 : b.heat (24 * h + k) < 300
  · simp (disch := first | omega | assumption) only [↓bd_rt, ↓bd_bd, ↓bd_ite, ↓bd_jn, ↓jn_ap, ↓ite_ap, ↓bd_gI1, ↓bd_pI1, ↓bd_gR1, ↓bd_pR1, ↓bd_gM, rt_ap, ↓reduceIte, iN_div, iN_divL, iN_add, iN_mul, iN_addL, iN_Ladd, iN_mulL, iN_Lmul, iN_subL, iN_sub, iN_le_T, iN_le_F, iN_lt_T, iN_lt_F, iN_eq_F, iN_leL_T, iN_leL_F, iN_Lle_T, iN_Lle_F, iN_ltL_T, iN_ltL_F, iN_Llt_T, iN_Llt_F, iN_eqL_T, iN_eqL_F, iN_m1, m1_iN, iN_le_m1, m1_le_iN, iN_neg, iN_pos, i10, i01, i00, i11, u3_op, u3_or, u3_same, pup_eq, pup_ne, ↓rI74_1, hb.heat (24 * h + k) (by omega), if_pos h1]
    simp [h1, b01]
  · by_cases h2 : b.stuff (24 * h + k) ≤ 0
    · simp (disch := first | omega | assumption) only [↓bd_rt, ↓bd_bd, ↓bd_ite, ↓bd_jn, ↓jn_ap, ↓ite_ap, ↓bd_gI1, ↓bd_pI1, ↓bd_gR1, ↓bd_pR1, ↓bd_gM, rt_ap, ↓reduceIte, iN_div, iN_divL, iN_add, iN_mul, iN_addL, iN_Ladd, iN_mulL, iN_Lmul, iN_subL, iN_sub, iN_le_T, iN_le_F, iN_lt_T, iN_lt_F, iN_eq_F, iN_leL_T, iN_leL_F, iN_Lle_T, iN_Lle_F, iN_ltL_T, iN_ltL_F, iN_Llt_T, iN_Llt_F, iN_eqL_T, iN_eqL_F, iN_m1, m1_iN, iN_le_m1, m1_le_iN, iN_neg, iN_pos, i10, i01, i00, i11, u3_op, u3_or, u3_same, pup_eq, pup_ne, ↓rI74_1, ↓rI75_1, hb.heat (24 * h + k) (by omega), hb.stuff (24 * h + k) (by omega), if_neg h1, if_pos h2]
      simp [h1, h2, b01]
    · by_cases h3 : b.fal (6 * h + k / c.wd h) = 0
      · simp (disch := first | omega | assumption) only [↓bd_rt, ↓bd_bd, ↓bd_ite, ↓bd_jn, ↓jn_ap, ↓ite_ap, ↓bd_gI1, ↓bd_pI1, ↓bd_gR1, ↓bd_pR1, ↓bd_gM, rt_ap, ↓reduceIte, iN_div, iN_divL, iN_add, iN_mul, iN_addL, iN_Ladd, iN_mulL, iN_Lmul, iN_subL, iN_sub, iN_le_T, iN_le_F, iN_lt_T, iN_lt_F, iN_eq_F, iN_leL_T, iN_leL_F, iN_Lle_T, iN_Lle_F, iN_ltL_T, iN_ltL_F, iN_Llt_T, iN_Llt_F, iN_eqL_T, iN_eqL_F, iN_m1, m1_iN, iN_le_m1, m1_le_iN, iN_neg, iN_pos, i10, i01, i00, i11, u3_op, u3_or, u3_same, pup_eq, pup_ne, ↓rI74_1, ↓rI75_1, ↓rI82_1, hb.heat (24 * h + k) (by omega), hb.stuff (24 * h + k) (by omega), if_neg h1, if_neg h2, ↓bd_of (sp_X3_floorOf w hφ hR hh (k := k) (by omega)), hb.fal (6 * h + k / c.wd h) (by omega), if_pos h3]
        simp [h1, h2, h3, b01]
      · simp (disch := first | omega | assumption) only [↓bd_rt, ↓bd_bd, ↓bd_ite, ↓bd_jn, ↓jn_ap, ↓ite_ap, ↓bd_gI1, ↓bd_pI1, ↓bd_gR1, ↓bd_pR1, ↓bd_gM, rt_ap, ↓reduceIte, iN_div, iN_divL, iN_add, iN_mul, iN_addL, iN_Ladd, iN_mulL, iN_Lmul, iN_subL, iN_sub, iN_le_T, iN_le_F, iN_lt_T, iN_lt_F, iN_eq_F, iN_leL_T, iN_leL_F, iN_Lle_T, iN_Lle_F, iN_ltL_T, iN_ltL_F, iN_Llt_T, iN_Llt_F, iN_eqL_T, iN_eqL_F, iN_m1, m1_iN, iN_le_m1, m1_le_iN, iN_neg, iN_pos, i10, i01, i00, i11, u3_op, u3_or, u3_same, pup_eq, pup_ne, ↓rI74_1, ↓rI75_1, ↓rI82_1, hb.heat (24 * h + k) (by omega), hb.stuff (24 * h + k) (by omega), if_neg h1, if_neg h2, ↓bd_of (sp_X3_floorOf w hφ hR hh (k := k) (by omega)), hb.fal (6 * h + k / c.wd h) (by omega), if_neg h3]
        simp [h1, h2, h3, b01]
/-! how many rooms burn -/
def brnN (c : CHo) (b : CBz) (h : Nat) : Nat := itn (fun k a => if brn c b h k then a + 1 else a) 0 (c.fl h * c.wd h)
theorem itn_le {p : Nat → Bool} : ∀ n, itn (fun k a => if p k then a + 1 else a) 0 n ≤ n := by
  intro n
  induction n with
  | zero => exact Nat.le_refl _
  | succ n ih => show (if p n then _ + 1 else _) ≤ n + 1; split <;> omega
theorem brnN_le {c : CHo} (w : c.WF) {b : CBz} {h : Nat} (hh : h < c.n) : brnN c b h ≤ 24 := Nat.le_trans (itn_le _) (w.fw hh)
theorem sp_X5_all {c : CHo} {φ : amSh} {S : amSt} (hR : RCho c φ S) {h : Nat} (hh : h < c.n) : p_X5_all (h + 1) φ S = some (iN (c.fl h * c.wd h), S) := by
  unfold p_X5_all
  simp (disch := first | omega | assumption) only [↓bd_rt, ↓bd_bd, ↓bd_ite, ↓bd_jn, ↓jn_ap, ↓ite_ap, ↓bd_gI1, ↓bd_pI1, ↓bd_gR1, ↓bd_pR1, ↓bd_gM, rt_ap, ↓reduceIte, iN_div, iN_divL, iN_add, iN_mul, iN_addL, iN_Ladd, iN_mulL, iN_Lmul, iN_subL, iN_sub, iN_le_T, iN_le_F, iN_lt_T, iN_lt_F, iN_eq_F, iN_leL_T, iN_leL_F, iN_Lle_T, iN_Lle_F, iN_ltL_T, iN_ltL_F, iN_Llt_T, iN_Llt_F, iN_eqL_T, iN_eqL_F, iN_m1, m1_iN, iN_le_m1, m1_le_iN, iN_neg, iN_pos, i10, i01, i00, i11, u3_op, u3_or, u3_same, pup_eq, pup_ne, ↓bd_gI, hR.fl h hh, hR.wd h hh]
theorem sp_X5_burning {c : CHo} (w : c.WF) {b : CBz} {φ : amSh} {S : amSt} (hR : RCho c φ S) {h : Nat} (hh : h < c.n) (hb : RCb1 b h (2 * (h + 1) - 1) S) : p_X5_burning (h + 1) φ S = some (iN (brnN c b h), S) := by
  have hfw := w.fw hh
  have hst := hR.stb h hh
  have hst2 := hR.stg h hh
  unfold p_X5_burning
  rw [bd_of (a := iN (brnN c b h)) (S1 := S), rt_ap]
  refine alp_st (fun k => (iN (itn (fun k a => if brn c b h k then a + 1 else a) 0 k), iN k)) (fun _ => S) (c.fl h * c.wd h) ?_ ?_ (amFu_lt (by omega))
  · intro k hk rec
    have hle := itn_le (p := brn c b h) k
    unfold p_X5_burning_L4
    dsimp only
    show _ = rec (iN (if brn c b h k then itn (fun k a => if brn c b h k then a + 1 else a) 0 k + 1 else itn (fun k a => if brn c b h k then a + 1 else a) 0 k), iN (k + 1)) φ S
    generalize itn (fun k a => if brn c b h k then a + 1 else a) 0 k = m at *
    cases q : brn c b h k <;> simp (disch := first | omega | assumption) only [↓bd_rt, ↓bd_bd, ↓bd_ite, ↓bd_jn, ↓jn_ap, ↓ite_ap, ↓bd_gI1, ↓bd_pI1, ↓bd_gR1, ↓bd_pR1, ↓bd_gM, rt_ap, ↓reduceIte, iN_div, iN_divL, iN_add, iN_mul, iN_addL, iN_Ladd, iN_mulL, iN_Lmul, iN_subL, iN_sub, iN_le_T, iN_le_F, iN_lt_T, iN_lt_F, iN_eq_F, iN_leL_T, iN_leL_F, iN_Lle_T, iN_Lle_F, iN_ltL_T, iN_ltL_F, iN_Llt_T, iN_Llt_F, iN_eqL_T, iN_eqL_F, iN_m1, m1_iN, iN_le_m1, m1_le_iN, iN_neg, iN_pos, i10, i01, i00, i11, u3_op, u3_or, u3_same, pup_eq, pup_ne, ↓bd_nn, ↓bd_of (sp_X5_all hR hh), ↓bd_gC (show h + 1 ≠ 0 by omega) (show 2 < φ.2.1 3 (h + 1) by omega), ↓bd_of (sp_X5_burns w hR hh hb (by omega) hst hk), q, b01_f, b01_t] <;> simp
  · intro rec
    unfold p_X5_burning_L4
    dsimp only
    simp (disch := first | omega | assumption) only [↓bd_rt, ↓bd_bd, ↓bd_ite, ↓bd_jn, ↓jn_ap, ↓ite_ap, ↓bd_gI1, ↓bd_pI1, ↓bd_gR1, ↓bd_pR1, ↓bd_gM, rt_ap, ↓reduceIte, iN_div, iN_divL, iN_add, iN_mul, iN_addL, iN_Ladd, iN_mulL, iN_Lmul, iN_subL, iN_sub, iN_le_T, iN_le_F, iN_lt_T, iN_lt_F, iN_eq_F, iN_leL_T, iN_leL_F, iN_Lle_T, iN_Lle_F, iN_ltL_T, iN_ltL_F, iN_Llt_T, iN_Llt_F, iN_eqL_T, iN_eqL_F, iN_m1, m1_iN, iN_le_m1, m1_le_iN, iN_neg, iN_pos, i10, i01, i00, i11, u3_op, u3_or, u3_same, pup_eq, pup_ne, ↓bd_nn, ↓bd_of (sp_X5_all hR hh)]
    rfl
theorem sp_X3_burning {c : CHo} (w : c.WF) {b : CBz} {φ : amSh} {S : amSt} (hφ : φ.1 255 ≠ 0) (hR : RMho c S) (hb : RMbz b S) {h : Nat} (hh : h < c.n) : p_X3_burning (iN h) φ S = some (iN (brnN c b h), S) := by
  have hfw := w.fw hh
  have hn := w.hn
  unfold p_X3_burning
  rw [bd_gM hφ, bd_of (a := iN (brnN c b h)) (S1 := S), rt_ap]
  refine alp_st (fun k => (iN (itn (fun k a => if brn c b h k then a + 1 else a) 0 k), iN k)) (fun _ => S) (c.fl h * c.wd h) ?_ ?_ (amFu_lt (by omega))
  · intro k hk rec
    have hle := itn_le (p := brn c b h) k
    unfold p_X3_burning_L4
    dsimp only
    show _ = rec (iN (if brn c b h k then itn (fun k a => if brn c b h k then a + 1 else a) 0 k + 1 else itn (fun k a => if brn c b h k then a + 1 else a) 0 k), iN (k + 1)) φ S
    generalize itn (fun k a => if brn c b h k then a + 1 else a) 0 k = m at *
    cases q : brn c b h k <;> simp (disch := first | omega | assumption) only [↓bd_rt, ↓bd_bd, ↓bd_ite, ↓bd_jn, ↓jn_ap, ↓ite_ap, ↓bd_gI1, ↓bd_pI1, ↓bd_gR1, ↓bd_pR1, ↓bd_gM, rt_ap, ↓reduceIte, iN_div, iN_divL, iN_add, iN_mul, iN_addL, iN_Ladd, iN_mulL, iN_Lmul, iN_subL, iN_sub, iN_le_T, iN_le_F, iN_lt_T, iN_lt_F, iN_eq_F, iN_leL_T, iN_leL_F, iN_Lle_T, iN_Lle_F, iN_ltL_T, iN_ltL_F, iN_Llt_T, iN_Llt_F, iN_eqL_T, iN_eqL_F, iN_m1, m1_iN, iN_le_m1, m1_le_iN, iN_neg, iN_pos, i10, i01, i00, i11, u3_op, u3_or, u3_same, pup_eq, pup_ne, ↓rI64_1, ↓rI65_1, hR.fl h hh, hR.wd h hh, ↓bd_of (sp_X3_burns w hφ hR hb hh hk), q, b01_f, b01_t] <;> simp
  · intro rec
    unfold p_X3_burning_L4
    dsimp only
    simp (disch := first | omega | assumption) only [↓bd_rt, ↓bd_bd, ↓bd_ite, ↓bd_jn, ↓jn_ap, ↓ite_ap, ↓bd_gI1, ↓bd_pI1, ↓bd_gR1, ↓bd_pR1, ↓bd_gM, rt_ap, ↓reduceIte, iN_div, iN_divL, iN_add, iN_mul, iN_addL, iN_Ladd, iN_mulL, iN_Lmul, iN_subL, iN_sub, iN_le_T, iN_le_F, iN_lt_T, iN_lt_F, iN_eq_F, iN_leL_T, iN_leL_F, iN_Lle_T, iN_Lle_F, iN_ltL_T, iN_ltL_F, iN_Llt_T, iN_Llt_F, iN_eqL_T, iN_eqL_F, iN_m1, m1_iN, iN_le_m1, m1_le_iN, iN_neg, iN_pos, i10, i01, i00, i11, u3_op, u3_or, u3_same, pup_eq, pup_ne, ↓rI64_1, ↓rI65_1, hR.fl h hh, hR.wd h hh]
    rfl
