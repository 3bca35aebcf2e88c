/-! PURE: turning home, recalls -/
theorem comeL_le {c : CSt} {to t slow : Nat} : ∀ d k th x, comeL c to t slow d k th = some x → t + k ≤ x ∧ x < t + k + d := by
  intro d
  induction d with
  | zero => intro k th x h; cases h
  | succ d ih =>
    intro k th x h
    unfold comeL at h
    split at h
    · cases h; omega
    · have := ih _ _ _ h; omega
theorem comeS_le {c : CSt} {fr to t slow x : Nat} (h : comeS c fr to t slow = some x) : t ≤ x ∧ x < t + 601 := by
  have := comeL_le _ _ _ _ h
  omega
theorem RCcr.go {c : CCr} {φ : amSh} {S : amSt} (hR : RCcr c φ S) {k : Nat} {v w : Int32} : RCcr (goC c k v w) φ (u3 (u3 S.1 6 (k + 1) 5 v) 6 (k + 1) 7 w, S.2) := by
  refine RCcr.mk ?_ hR.obj ?_ ?_ ?_ ?_ ?_ ?_ ?_ ?_ ?_ ?_ ?_ ?_ ?_ hR.wk ?_ ?_ ?_ hR.cls hR.cnt
  · refine Eq.trans ?_ hR.n; simp [u3]
  · intro j hj; refine Eq.trans ?_ (hR.num j hj); simp [u3]
  · intro j hj; refine Eq.trans ?_ (hR.home j hj); simp [u3]
  · intro j hj; refine Eq.trans ?_ (hR.best j hj); simp [u3]
  · intro j hj; refine Eq.trans ?_ (hR.men j hj); simp [u3]
  · intro j hj; refine Eq.trans ?_ (hR.hor j hj); simp [u3]
  · intro j hj; show _ = pup c.st k v j; by_cases e : j = k
    · subst e; simp [u3, pup]
    · rw [pup_ne e]; refine Eq.trans ?_ (hR.st j hj); simp [u3, e]
  · intro j hj; refine Eq.trans ?_ (hR.post j hj); simp [u3]
  · intro j hj; show _ = pup c.till k w j; by_cases e : j = k
    · subst e; simp [u3, pup]
    · rw [pup_ne e]; refine Eq.trans ?_ (hR.till j hj); simp [u3, e]
  · intro j hj; refine Eq.trans ?_ (hR.sent j hj); simp [u3]
  · intro j hj; refine Eq.trans ?_ (hR.flr j hj); simp [u3]
  · intro j hj; refine Eq.trans ?_ (hR.tir j hj); simp [u3]
  · intro j hj; refine Eq.trans ?_ (hR.got j hj); simp [u3]
  · intro j hj; refine Eq.trans ?_ (hR.beg j hj); simp [u3]
  · intro j hj h2; refine Eq.trans ?_ (hR.gA j hj h2); simp [u3]
  · intro j hj h2; refine Eq.trans ?_ (hR.gB j hj h2); simp [u3]
  · intro j hj h2; refine Eq.trans ?_ (hR.gC j hj h2); simp [u3]
theorem RMcr.go {c : CCr} {S : amSt} (hR : RMcr c S) {k : Nat} {v w : Int32} (hk : k < c.n) : RMcr (goC c k v w) (u3 (u3 S.1 94 1 k v) 96 1 k w, S.2) := by
  refine RMcr.mk ?_ ?_ ?_ ?_ ?_ ?_ ?_ ?_ ?_ ?_ ?_ ?_ ?_ ?_ ?_ ?_ ?_ ?_ ?_
  · refine Eq.trans ?_ hR.n; simp [u3]
  · intro j hj; refine Eq.trans ?_ (hR.sort j hj); simp [u3]
  · intro j hj; refine Eq.trans ?_ (hR.home j hj); simp [u3]
  · intro j hj; refine Eq.trans ?_ (hR.best j hj); simp [u3]
  · intro j hj; refine Eq.trans ?_ (hR.men j hj); simp [u3]
  · intro j hj; refine Eq.trans ?_ (hR.hor j hj); simp [u3]
  · intro j hj; refine Eq.trans ?_ (hR.gA j hj); simp [u3]
  · intro j hj; refine Eq.trans ?_ (hR.gB j hj); simp [u3]
  · intro j hj; refine Eq.trans ?_ (hR.gC j hj); simp [u3]
  · intro j hj; show _ = pup c.st k v j; by_cases e : j = k
    · subst e; simp [u3, pup]
    · rw [pup_ne e]; refine Eq.trans ?_ (hR.st j hj); simp [u3, e]
  · intro j hj; refine Eq.trans ?_ (hR.post j hj); simp [u3]
  · intro j hj; show _ = pup c.till k w j; by_cases e : j = k
    · subst e; simp [u3, pup]
    · rw [pup_ne e]; refine Eq.trans ?_ (hR.till j hj); simp [u3, e]
  · intro j hj; refine Eq.trans ?_ (hR.sent j hj); simp [u3]
  · intro j hj; refine Eq.trans ?_ (hR.wk j hj); simp [u3]
  · intro j hj; refine Eq.trans ?_ (hR.flr j hj); simp [u3]
  · intro j hj; refine Eq.trans ?_ (hR.tir j hj); simp [u3]
  · intro j hj; refine Eq.trans ?_ (hR.got j hj); simp [u3]
  · intro j hj; refine Eq.trans ?_ (hR.beg j hj); simp [u3]
  · intro j hj h16; have hj2 : c.n ≤ j := hj; refine Eq.trans ?_ (hR.st0 j hj2 h16); have : j ≠ k := by omega
    simp [u3, this]
theorem goC_WF {cr : CCr} {nh : Nat} (w : cr.WF nh) {k t : Nat} (ht : t < 2147483648) : (goC cr k 3 (iN t)).WF nh := by
  refine CCr.WF.mk w.hn w.sort w.home w.best w.gA w.gB w.gC w.post w.tir ?_ ?_ w.z
  · intro j hj
    refine ⟨(w.wk j hj).1, ?_⟩
    show pup cr.st k 3 j = 2 → cr.wk j ≠ 0
    by_cases e : j = k
    · subst e; rw [pup_eq]; intro z; exact absurd z (by decide)
    · rw [pup_ne e]; exact (w.wk j hj).2
  · intro j hj
    show (pup cr.st k 3 j = 1 ∨ pup cr.st k 3 j = 3) → pup cr.till k (iN t) j ≠ -1
    by_cases e : j = k
    · subst e; rw [pup_eq, pup_eq]; intro _ z; rw [iN_m1 ht] at z; exact z
    · rw [pup_ne e, pup_ne e]; exact w.till j hj
theorem turnS_WF {c : CSt} {cr : CCr} {nh now k : Nat} (w : cr.WF nh) (hk : k < cr.n) (hnow : now ≤ 20000) : (turnS c cr now k).WF nh := by
  have hr := rdy_WF w (k := k) (p := cr.home k) (v := 0) (w.home k hk) (Or.inl rfl)
  unfold turnS
  cases e : comeS c (cr.post k) (cr.home k) now (slowS cr k) with
  | none => exact hr
  | some t =>
    dsimp only
    have := comeS_le e
    split
    · exact hr
    · exact goC_WF hr (by omega)
theorem turnS_n {c : CSt} {cr : CCr} {now k : Nat} : (turnS c cr now k).n = cr.n := by
  unfold turnS
  cases comeS c (cr.post k) (cr.home k) now (slowS cr k) with
  | none => rfl
  | some t => dsimp only; split <;> rfl
theorem sp_X1_turnHome {c : CSt} (h : c.WF) {cr : CCr} {nh : Nat} (w : cr.WF nh) {φ : amSh} {S : amSt} (hφ : φ.1 255 ≠ 0) (hR : RCst c φ S) (hC : RCcr cr φ S) {now k : Nat} (hw : S.1 0 1 0 = iN now) (hnow : now ≤ 20000) (hk : k < cr.n) :
    Rs (fun _ S' => RCcr (turnS c cr now k) φ S') (p_X1_turnHome (k + 1) φ S) := by
  have hs := slowS_le w hk
  unfold p_X1_turnHome
  rw [bd_gI (by omega), hC.post k hk, bd_gI (by omega), hC.home k hk, bd_gI1, hw, bd_of (sp_X1_slow4 w hC hk)]
  refine bdR (sp_X1_comeOn h hφ hR (w.post k hk) (w.home k hk) (t := now) (by omega) hs.1 (by omega)) fun v S1 h1 => ?_
  obtain ⟨rfl, hF⟩ := h1
  have hC1 := hC.fr hF (by decide)
  rw [bd_gI (by omega), hC1.home k hk]
  have hw1 : S1.1 0 1 0 = iN now := (hF.i 0 1 0 (by decide)).trans hw
  refine bdRF (fr_p_X1_ready _ _) (sp_X1_ready hC1 hk (p := cr.home k)) fun _ S2 h2 hF2 => ?_
  have hw2 : S2.1 0 1 0 = iN now := (hF2.i 0 1 0 (by decide)).trans hw1
  unfold turnS
  cases e : comeS c (cr.post k) (cr.home k) now (slowS cr k) with
  | none =>
    rw [if_pos (show oN none = -1 from rfl), rt_ap]
    exact Rs.mk h2
  | some t =>
    have := comeS_le e
    dsimp only
    have eo : oN (some t) = iN t := rfl
    rw [eo]
    by_cases et : t = now
    · rw [if_pos et, if_neg (show ¬ iN t = -1 by rw [iN_m1 (by omega)]; exact id), bd_gI1, hw2, if_pos (by rw [et]), rt_ap]
      exact Rs.mk h2
    · rw [if_neg et, if_neg (show ¬ iN t = -1 by rw [iN_m1 (by omega)]; exact id), bd_gI1, hw2, if_neg (by rw [iN_inj (by omega) (by omega)]; exact et), bd_pI (by omega), bd_pI (by omega), rt_ap]
      exact Rs.mk h2.go
theorem sp_X3_turns {c : CSt} (h : c.WF) {cr : CCr} {nh : Nat} (w : cr.WF nh) {φ : amSh} {S : amSt} (hφ : φ.1 255 ≠ 0) (hR : RMst c S) (hC : RMcr cr S) {now k : Nat} (hw : S.1 1 1 1 = iN now) (hnow : now ≤ 20000) (hk : k < cr.n) :
    Rs (fun _ S' => RMcr (turnS c cr now k) S') (p_X3_turns (iN k) (iN (cr.post k)) φ S) := by
  have hs := slowS_le w hk
  have hn := w.hn
  unfold p_X3_turns
  rw [bd_gM hφ, rI88_1 (by omega), hC.home k hk, bd_gI1, hw, bd_of (sp_X3_slowOf w hφ hC hk)]
  refine bdR (sp_X3_comeBy h hφ hR (w.post k hk) (w.home k hk) (t := now) (by omega) hs.1 (by omega)) fun v S1 h1 => ?_
  obtain ⟨rfl, hF⟩ := h1
  have hC1 := hC.fr hF (by decide)
  rw [rI88_1 (by omega), hC1.home k hk]
  have hw1 : S1.1 1 1 1 = iN now := (hF.i 1 1 1 (by decide)).trans hw
  refine bdRF (fr_p_X3_rests _ _) (sp_X3_rests hφ hC1 hk hn (p := cr.home k)) fun _ S2 h2 hF2 => ?_
  have hw2 : S2.1 1 1 1 = iN now := (hF2.i 1 1 1 (by decide)).trans hw1
  unfold turnS
  cases e : comeS c (cr.post k) (cr.home k) now (slowS cr k) with
  | none =>
    rw [if_pos (show oN none = -1 from rfl), rt_ap]
    exact Rs.mk h2
  | some t =>
    have := comeS_le e
    dsimp only
    have eo : oN (some t) = iN t := rfl
    rw [eo]
    by_cases et : t = now
    · rw [if_pos et, if_neg (show ¬ iN t = -1 by rw [iN_m1 (by omega)]; exact id), bd_gI1, hw2, if_pos (by rw [et]), rt_ap]
      exact Rs.mk h2
    · rw [if_neg et, if_neg (show ¬ iN t = -1 by rw [iN_m1 (by omega)]; exact id), bd_gI1, hw2, if_neg (by rw [iN_inj (by omega) (by omega)]; exact et), wI94_1 (by omega), wI96_1 (by omega), rt_ap]
      exact Rs.mk (h2.go hk)
def recallS (c : CSt) (cr : CCr) (now : Nat) (a : Int32) : Int32 × CCr := if inN a cr.n then if cr.st a.toNatClampNeg = 0 then if cr.post a.toNatClampNeg = cr.home a.toNatClampNeg then (0, cr) else (1, turnS c cr now a.toNatClampNeg) else (0, cr) else (0, cr)
theorem op_X1_recall {c : CSt} (h : c.WF) {cr : CCr} {nh : Nat} (w : cr.WF nh) {φ : amSh} {S : amSt} (hφ : φ.1 255 ≠ 0) (hR : RCst c φ S) (hC : RCcr cr φ S) {now : Nat} (hw : S.1 0 1 0 = iN now) (hnow : now ≤ 20000) {a : Int32} :
    Rs (fun v S' => v = (recallS c cr now a).1 ∧ RCcr (recallS c cr now a).2 φ S') (p_X1_recall a φ S) := by
  have hn := w.hn
  unfold p_X1_recall
  rw [bd_gM hφ, bd_of (sp_X1_isCrew w hC)]
  by_cases h1 : inN a cr.n
  · rw [ip h1, if_neg (by decide)]
    obtain ⟨k, hk, rfl⟩ := h1.ex (by omega)
    have en : (iN k).toNatClampNeg = k := iN_nat (by omega)
    have hp := w.post k hk
    have hh := w.home k hk
    rw [rR28_1 (by omega), hC.obj k hk, bd_gI (by omega), hC.st k hk]
    by_cases h2 : cr.st k = 0
    · rw [if_pos h2, rR28_1 (by omega), hC.obj k hk, bd_gI (by omega), hC.post k hk, rR28_1 (by omega), hC.obj k hk, bd_gI (by omega), hC.home k hk]
      by_cases h3 : cr.post k = cr.home k
      · rw [show recallS c cr now (iN k) = (0, cr) by unfold recallS; rw [if_pos h1, en, if_pos h2, if_pos h3], if_pos (by rw [h3]), rt_ap]
        exact Rs.mk ⟨rfl, hC⟩
      · rw [show recallS c cr now (iN k) = (1, turnS c cr now k) by unfold recallS; rw [if_pos h1, en, if_pos h2, if_neg h3], if_neg (by rw [iN_inj (by omega) (by omega)]; exact h3), rR28_1 (by omega), hC.obj k hk]
        exact bdR (sp_X1_turnHome h w hφ hR hC hw hnow hk) fun _ S1 h4 => Rs.mk ⟨rfl, h4⟩
    · rw [show recallS c cr now (iN k) = (0, cr) by unfold recallS; rw [if_pos h1, en, if_neg h2], if_neg h2, rt_ap]
      exact Rs.mk ⟨rfl, hC⟩
  · rw [show recallS c cr now a = (0, cr) by unfold recallS; rw [if_neg h1], iq h1, if_pos rfl, rt_ap]
    exact Rs.mk ⟨rfl, hC⟩
theorem op_X3_recall {c : CSt} (h : c.WF) {cr : CCr} {nh : Nat} (w : cr.WF nh) {φ : amSh} {S : amSt} (hφ : φ.1 255 ≠ 0) (hR0 : RMst c S) (hC0 : RMcr cr S) {now : Nat} (hw0 : S.1 1 1 1 = iN now) (hnow : now ≤ 20000) {a : Int32} :
    Rs (fun v S' => v = (recallS c cr now a).1 ∧ RMcr (recallS c cr now a).2 S') (p_X3_recall a φ S) := by
  have hn := w.hn
  have hR := hR0.fr th0 (by decide)
  have hC := hC0.fr th0 (by decide)
  have hw : (u3 S.1 1 1 0 0, S.2).1 1 1 1 = iN now := (th0.i 1 1 1 (by decide)).trans hw0
  unfold p_X3_recall
  rw [bd_gM hφ, bd_pI1, bd_of (sp_X3_isCrew hC)]
  by_cases h1 : inN a cr.n
  · rw [ip h1, if_neg (by decide)]
    obtain ⟨k, hk, rfl⟩ := h1.ex (by omega)
    have en : (iN k).toNatClampNeg = k := iN_nat (by omega)
    have hp := w.post k hk
    have hh := w.home k hk
    rw [rI94_1 (by omega), hC.st k hk]
    by_cases h2 : cr.st k = 0
    · rw [if_pos h2, rI95_1 (by omega), hC.post k hk, rI88_1 (by omega), hC.home k hk]
      by_cases h3 : cr.post k = cr.home k
      · rw [show recallS c cr now (iN k) = (0, cr) by unfold recallS; rw [if_pos h1, en, if_pos h2, if_pos h3], if_pos (by rw [h3]), rt_ap]
        exact Rs.mk ⟨rfl, hC⟩
      · rw [show recallS c cr now (iN k) = (1, turnS c cr now k) by unfold recallS; rw [if_pos h1, en, if_pos h2, if_neg h3], if_neg (by rw [iN_inj (by omega) (by omega)]; exact h3), rI95_1 (by omega), hC.post k hk]
        exact bdR (sp_X3_turns h w hφ hR hC hw hnow hk) fun _ S1 h4 => Rs.mk ⟨rfl, h4⟩
    · rw [show recallS c cr now (iN k) = (0, cr) by unfold recallS; rw [if_pos h1, en, if_neg h2], if_neg h2, rt_ap]
      exact Rs.mk ⟨rfl, hC⟩
  · rw [show recallS c cr now a = (0, cr) by unfold recallS; rw [if_neg h1], iq h1, if_pos rfl, rt_ap]
    exact Rs.mk ⟨rfl, hC⟩
