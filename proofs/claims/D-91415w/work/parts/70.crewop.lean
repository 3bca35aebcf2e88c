/-! PURE: crews rest, turn home -/
theorem vc4 {α : Type} {cr : CCr} {φ : amSh} {S : amSt} (hC : RCcr cr φ S) {k : Nat} (hk : k < cr.n) (hs : cr.sort k < 4) {A B C D : am0 α} : vc 6 (k + 1) (fun c => if c = 6 then A else if c = 7 then B else if c = 8 then C else if c = 9 then D else fl0) φ S = (if cr.sort k = 0 then A else if cr.sort k = 1 then B else if cr.sort k = 2 then C else D) φ S := by
  have hcls : amK φ 6 (k + 1) = 6 + cr.sort k := hC.cls k hk
  unfold vc
  rw [if_neg (by omega), hcls]
  have : cr.sort k = 0 ∨ cr.sort k = 1 ∨ cr.sort k = 2 ∨ cr.sort k = 3 := by omega
  rcases this with e | e | e | e <;> rw [e] <;> rfl
def slowS (cr : CCr) (k : Nat) : Nat := if cr.hor k = 0 then cr.best k else cr.best k + cr.tir k / 3
theorem slowS_le {cr : CCr} {nh : Nat} (w : cr.WF nh) {k : Nat} (hk : k < cr.n) : 50 ≤ slowS cr k ∧ slowS cr k ≤ 250 := by
  have h1 := w.best k hk
  have h2 := w.tir k
  unfold slowS
  split <;> omega
theorem sp_X8_slowNow {cr : CCr} {nh : Nat} (w : cr.WF nh) {φ : amSh} {S : amSt} (hC : RCcr cr φ S) {k : Nat} (hk : k < cr.n) : p_X8_slowNow (k + 1) φ S = some (iN (slowS cr k), S) := by
  have hs := w.sort k hk
  have h2 := w.tir k
  have hbest : p_X8_best (k + 1) φ S = some (iN (cr.best k), S) := by
    unfold p_X8_best
    simp (disch := first | omega | assumption) only [↓bd_rt, ↓bd_bd, ↓bd_ite, ↓bd_jn, ↓jn_ap, ↓ite_ap, ↓bd_gI1, ↓bd_pI1, ↓bd_gR1, ↓bd_pR1, ↓bd_gM, rt_ap, ↓reduceIte, iN_div, iN_divL, iN_add, iN_mul, iN_addL, iN_Ladd, iN_mulL, iN_Lmul, iN_subL, iN_sub, iN_le_T, iN_le_F, iN_lt_T, iN_lt_F, iN_eq_F, iN_leL_T, iN_leL_F, iN_Lle_T, iN_Lle_F, iN_ltL_T, iN_ltL_F, iN_Llt_T, iN_Llt_F, iN_eqL_T, iN_eqL_F, iN_m1, m1_iN, iN_le_m1, m1_le_iN, iN_neg, iN_pos, i10, i01, i00, i11, u3_op, u3_or, u3_same, pup_eq, pup_ne, ↓bd_gI, hC.best k hk]
  have h28 : ∀ v, p_X28_slow (k + 1) v φ S = some (iN (cr.best k), S) := fun v => by
    unfold p_X28_slow
    rw [bd_of (a := iN (cr.best k)) (S1 := S), rt_ap]
    rw [vc4 hC hk hs]
    split
    · exact hbest
    · split
      · exact hbest
      · split <;> exact hbest
  have hslow : p_X8_slow (k + 1) (iN (cr.tir k)) φ S = some (iN (slowS cr k), S) := by
    unfold p_X8_slow slowS
    by_cases h : cr.hor k = 0
    · simp (disch := first | omega | assumption) only [↓bd_rt, ↓bd_bd, ↓bd_ite, ↓bd_jn, ↓jn_ap, ↓ite_ap, ↓bd_gI1, ↓bd_pI1, ↓bd_gR1, ↓bd_pR1, ↓bd_gM, rt_ap, ↓reduceIte, iN_div, iN_divL, iN_add, iN_mul, iN_addL, iN_Ladd, iN_mulL, iN_Lmul, iN_subL, iN_sub, iN_le_T, iN_le_F, iN_lt_T, iN_lt_F, iN_eq_F, iN_leL_T, iN_leL_F, iN_Lle_T, iN_Lle_F, iN_ltL_T, iN_ltL_F, iN_Llt_T, iN_Llt_F, iN_eqL_T, iN_eqL_F, iN_m1, m1_iN, iN_le_m1, m1_le_iN, iN_neg, iN_pos, i10, i01, i00, i11, u3_op, u3_or, u3_same, pup_eq, pup_ne, ↓bd_gI, hC.hor k hk, h, if_true, ↓bd_nn, ↓bd_of (h28 _)]
    · simp (disch := first | omega | assumption) only [↓bd_rt, ↓bd_bd, ↓bd_ite, ↓bd_jn, ↓jn_ap, ↓ite_ap, ↓bd_gI1, ↓bd_pI1, ↓bd_gR1, ↓bd_pR1, ↓bd_gM, rt_ap, ↓reduceIte, iN_div, iN_divL, iN_add, iN_mul, iN_addL, iN_Ladd, iN_mulL, iN_Lmul, iN_subL, iN_sub, iN_le_T, iN_le_F, iN_lt_T, iN_lt_F, iN_eq_F, iN_leL_T, iN_leL_F, iN_Lle_T, iN_Lle_F, iN_ltL_T, iN_ltL_F, iN_Llt_T, iN_Llt_F, iN_eqL_T, iN_eqL_F, iN_m1, m1_iN, iN_le_m1, m1_le_iN, iN_neg, iN_pos, i10, i01, i00, i11, u3_op, u3_or, u3_same, pup_eq, pup_ne, ↓bd_gI, hC.hor k hk, if_neg h, hC.best k hk]
  unfold p_X8_slowNow
  rw [bd_gI (by omega), hC.tir k hk, bd_of (a := iN (slowS cr k)) (S1 := S), rt_ap]
  rw [vc4 hC hk hs]
  split
  · exact hslow
  · split
    · exact hslow
    · split <;> exact hslow
theorem sp_X1_slow4 {cr : CCr} {nh : Nat} (w : cr.WF nh) {φ : amSh} {S : amSt} (hC : RCcr cr φ S) {k : Nat} (hk : k < cr.n) : vc 6 (k + 1) (fun c => if c = 6 then p_X8_slowNow (k + 1) else if c = 7 then p_X8_slowNow (k + 1) else if c = 8 then p_X8_slowNow (k + 1) else if c = 9 then p_X8_slowNow (k + 1) else fl0) φ S = some (iN (slowS cr k), S) := by
  rw [vc4 hC hk (w.sort k hk)]
  have := sp_X8_slowNow w hC hk
  split
  · exact this
  · split
    · exact this
    · split <;> exact this
theorem sp_X3_slowOf {cr : CCr} {nh : Nat} (w : cr.WF nh) {φ : amSh} {S : amSt} (hφ : φ.1 255 ≠ 0) (hC : RMcr cr S) {k : Nat} (hk : k < cr.n) : p_X3_slowOf (iN k) φ S = some (iN (slowS cr k), S) := by
  have hn := w.hn
  have h2 := w.tir k
  unfold p_X3_slowOf slowS
  by_cases h : cr.hor k = 0
  · simp (disch := first | omega | assumption) only [↓bd_rt, ↓bd_bd, ↓bd_ite, ↓bd_jn, ↓jn_ap, ↓ite_ap, ↓bd_gI1, ↓bd_pI1, ↓bd_gR1, ↓bd_pR1, ↓bd_gM, rt_ap, ↓reduceIte, iN_div, iN_divL, iN_add, iN_mul, iN_addL, iN_Ladd, iN_mulL, iN_Lmul, iN_subL, iN_sub, iN_le_T, iN_le_F, iN_lt_T, iN_lt_F, iN_eq_F, iN_leL_T, iN_leL_F, iN_Lle_T, iN_Lle_F, iN_ltL_T, iN_ltL_F, iN_Llt_T, iN_Llt_F, iN_eqL_T, iN_eqL_F, iN_m1, m1_iN, iN_le_m1, m1_le_iN, iN_neg, iN_pos, i10, i01, i00, i11, u3_op, u3_or, u3_same, pup_eq, pup_ne, ↓rI89_1, ↓rI106_1, hC.best k hk, hC.hor k hk, h, if_true]
    rfl
  · simp (disch := first | omega | assumption) only [↓bd_rt, ↓bd_bd, ↓bd_ite, ↓bd_jn, ↓jn_ap, ↓ite_ap, ↓bd_gI1, ↓bd_pI1, ↓bd_gR1, ↓bd_pR1, ↓bd_gM, rt_ap, ↓reduceIte, iN_div, iN_divL, iN_add, iN_mul, iN_addL, iN_Ladd, iN_mulL, iN_Lmul, iN_subL, iN_sub, iN_le_T, iN_le_F, iN_lt_T, iN_lt_F, iN_eq_F, iN_leL_T, iN_leL_F, iN_Lle_T, iN_Lle_F, iN_ltL_T, iN_ltL_F, iN_Llt_T, iN_Llt_F, iN_eqL_T, iN_eqL_F, iN_m1, m1_iN, iN_le_m1, m1_le_iN, iN_neg, iN_pos, i10, i01, i00, i11, u3_op, u3_or, u3_same, pup_eq, pup_ne, ↓rI89_1, ↓rI106_1, ↓rI100_1, hC.best k hk, hC.hor k hk, if_neg h, hC.tir k (by omega)]
theorem sp_X1_isCrew {cr : CCr} {nh : Nat} (w : cr.WF nh) {φ : amSh} {S : amSt} (hC : RCcr cr φ S) {a : Int32} : p_X1_isCrew a φ S = some (if inN a cr.n then 1 else 0, S) := by
  have hn := w.hn
  unfold p_X1_isCrew
  rw [bd_gI1, hC.n, bd_of (in_n (by omega))]
  by_cases h : inN a cr.n
  · rw [if_pos h, bd_gd (Or.inr rfl), rt_ap]
  · rw [if_neg h, bd_gd (Or.inl rfl), rt_ap]
theorem sp_X3_isCrew {cr : CCr} {φ : amSh} {S : amSt} (hC : RMcr cr S) {a : Int32} : p_X3_isCrew a φ S = some (if inN a cr.n then 1 else 0, S) := by
  unfold p_X3_isCrew
  by_cases h1 : a < 0
  · simp [inN, h1, jn_ap, rt_ap]
  · by_cases h2 : a < iN cr.n
    · have h3 : ¬ iN cr.n ≤ a := by rw [i32_nle]; exact fun z => z h2
      rw [if_pos ⟨h1, h2⟩, jn_ap, ite_ap, if_neg h1, bd_gI1, hC.n, ite_ap, if_neg h3, rt_ap]
    · have h3 : iN cr.n ≤ a := by rw [i32_nle]; exact h2
      rw [if_neg (fun z => h2 z.2), jn_ap, ite_ap, if_neg h1, bd_gI1, hC.n, ite_ap, if_pos h3]; exact rt_ap
/-! reach -/
def reachOp (c : CSt) (wa : CWa) (ho : CHo) (cr : CCr) (a1 a2 : Int32) : Int32 := if inN a1 cr.n then if inN a2 ho.n then oW (reaN c wa ho cr a1.toNatClampNeg a2.toNatClampNeg) else -1 else -1
theorem op_X1_reach {c : CSt} (h : c.WF) {wa : CWa} (ww : wa.WF) {ho : CHo} (wh : ho.WF) {cr : CCr} {nh : Nat} (wc : cr.WF nh) {φ : amSh} {S : amSt} (hφ : φ.1 255 ≠ 0) (hR : RCst c φ S) (hA : RCwa wa φ S) (hH : RCho ho φ S) (hC : RCcr cr φ S) {a1 a2 : Int32} :
    Rs (fun v S' => v = reachOp c wa ho cr a1 a2 ∧ FrS [23] S S') (p_X1_reach a1 a2 φ S) := by
  have hcn := wc.hn
  have hhn := wh.hn
  unfold p_X1_reach
  rw [bd_gM hφ, bd_of (sp_X1_isCrew wc hC), jn_ap]
  by_cases h1 : inN a1 cr.n
  · rw [ip h1, if_neg (by decide), bd_of (sp_X1_isHouse wh hH)]
    by_cases h2 : inN a2 ho.n
    · rw [show reachOp c wa ho cr a1 a2 = oW (reaN c wa ho cr a1.toNatClampNeg a2.toNatClampNeg) by unfold reachOp; rw [if_pos h1, if_pos h2], ip h2, if_neg (by decide)]
      obtain ⟨k, hk, rfl⟩ := h1.ex (by omega)
      obtain ⟨x, hx, rfl⟩ := h2.ex (by omega)
      rw [iN_nat (by omega), iN_nat (by omega), rR28_1 (by omega), hC.obj k hk]
      have hcls : amK φ 6 (k + 1) = 6 + cr.sort k := hC.cls k hk
      by_cases hs : cr.sort k < 2
      · have hmem : k + 1 ≠ 0 ∧ amK φ 6 (k + 1) ∈ [6, 7] := ⟨by omega, by
          rw [hcls]
          have : cr.sort k = 0 ∨ cr.sort k = 1 := by omega
          rcases this with e | e <;> rw [e] <;> decide⟩
        have hio : io [6, 7] 6 (k + 1) φ S = some (1, S) := by unfold io; rw [if_pos hmem]
        have hck : ck [6, 7] 6 (k + 1) φ S = some ((), S) := by unfold ck; rw [if_pos (Or.inr hmem.2)]
        rw [bd_of hio, if_neg (by decide), rR28_1 (by omega), hC.obj k hk, bd_of hck, rR24_1 (by omega), hH.obj x hx]
        exact bdR (sp_X1_reachOf h ww wh wc hφ hR hA hH hC hk hs hx) fun v S1 h1 => Rs.mk h1
      · have hsk := wc.sort k hk
        have hmem : ¬ (k + 1 ≠ 0 ∧ amK φ 6 (k + 1) ∈ [6, 7]) := fun z => by
          have := z.2
          rw [hcls] at this
          have e : cr.sort k = 2 ∨ cr.sort k = 3 := by omega
          rcases e with e | e <;> rw [e] at this <;> revert this <;> decide
        have hio : io [6, 7] 6 (k + 1) φ S = some (0, S) := by unfold io; rw [if_neg hmem]
        have er : reaN c wa ho cr k x = 0 := if_pos (by omega)
        rw [bd_of hio, if_pos rfl, er]
        exact Rs.mk ⟨rfl, FrS.rf⟩
    · rw [show reachOp c wa ho cr a1 a2 = -1 by unfold reachOp; rw [if_pos h1, if_neg h2], iq h2, if_pos rfl]
      exact Rs.mk ⟨rfl, FrS.rf⟩
  · rw [show reachOp c wa ho cr a1 a2 = -1 by unfold reachOp; rw [if_neg h1], iq h1, if_pos rfl]
    exact Rs.mk ⟨rfl, FrS.rf⟩
theorem op_X3_reach {c : CSt} (h : c.WF) {wa : CWa} (ww : wa.WF) {ho : CHo} (wh : ho.WF) {cr : CCr} {nh : Nat} (wc : cr.WF nh) {φ : amSh} {S : amSt} (hφ : φ.1 255 ≠ 0) (hR : RMst c S) (hA : RMwa wa S) (hH : RMho ho S) (hC : RMcr cr S) {a1 a2 : Int32} :
    Rs (fun v S' => v = reachOp c wa ho cr a1 a2 ∧ FrS [2000] S S') (p_X3_reach a1 a2 φ S) := by
  have hcn := wc.hn
  have hhn := wh.hn
  have hR1 := hR.fr th0 (by decide)
  have hA1 := hA.fr th0 (by decide)
  have hH1 := hH.fr th0 (by decide)
  have hC1 := hC.fr th0 (by decide)
  unfold p_X3_reach
  rw [bd_pI1, bd_of (sp_X3_isCrew hC1), jn_ap]
  by_cases h1 : inN a1 cr.n
  · rw [ip h1, if_neg (by decide), bd_of (sp_X3_isHouse hH1)]
    by_cases h2 : inN a2 ho.n
    · rw [show reachOp c wa ho cr a1 a2 = oW (reaN c wa ho cr a1.toNatClampNeg a2.toNatClampNeg) by unfold reachOp; rw [if_pos h1, if_pos h2], ip h2, if_neg (by decide)]
      obtain ⟨k, hk, rfl⟩ := h1.ex (by omega)
      obtain ⟨x, hx, rfl⟩ := h2.ex (by omega)
      rw [iN_nat (by omega), iN_nat (by omega), bd_of (sp_X3_reachOf h ww wh wc hφ hR1 hA1 hH1 hC1 hk hx), rt_ap]
      exact Rs.mk ⟨rfl, th0⟩
    · rw [show reachOp c wa ho cr a1 a2 = -1 by unfold reachOp; rw [if_pos h1, if_neg h2], iq h2, if_pos rfl]
      exact Rs.mk ⟨rfl, th0⟩
  · rw [show reachOp c wa ho cr a1 a2 = -1 by unfold reachOp; rw [if_neg h1], iq h1, if_pos rfl]
    exact Rs.mk ⟨rfl, th0⟩
/-! resting, healing -/
theorem sp_X3_rests {cr : CCr} {φ : amSh} {S : amSt} (hφ : φ.1 255 ≠ 0) (hC : RMcr cr S) {k p : Nat} (hk : k < cr.n) (hn : cr.n ≤ 16) : Rs (fun _ S' => RMcr (rdy cr k p 0) S') (p_X3_rests (iN k) (iN p) φ S) := by
  unfold p_X3_rests
  simp (disch := first | omega | assumption) only [↓bd_rt, ↓bd_bd, ↓bd_ite, ↓bd_jn, ↓jn_ap, ↓ite_ap, ↓bd_gI1, ↓bd_pI1, ↓bd_gR1, ↓bd_pR1, ↓bd_gM, rt_ap, ↓reduceIte, iN_div, iN_divL, iN_add, iN_mul, iN_addL, iN_Ladd, iN_mulL, iN_Lmul, iN_subL, iN_sub, iN_le_T, iN_le_F, iN_lt_T, iN_lt_F, iN_eq_F, iN_leL_T, iN_leL_F, iN_Lle_T, iN_Lle_F, iN_ltL_T, iN_ltL_F, iN_Llt_T, iN_Llt_F, iN_eqL_T, iN_eqL_F, iN_m1, m1_iN, iN_le_m1, m1_le_iN, iN_neg, iN_pos, i10, i01, i00, i11, u3_op, u3_or, u3_same, pup_eq, pup_ne, ↓wI94_1, ↓wI95_1, ↓wI96_1, ↓wI98_1, ↓wI99_1]
  refine Rs.mk (hC.rdy hk ?_ ?_ ?_ ?_ ?_ ?_)
  · simp (disch := first | omega | assumption) only [↓bd_rt, ↓bd_bd, ↓bd_ite, ↓bd_jn, ↓jn_ap, ↓ite_ap, ↓bd_gI1, ↓bd_pI1, ↓bd_gR1, ↓bd_pR1, ↓bd_gM, rt_ap, ↓reduceIte, iN_div, iN_divL, iN_add, iN_mul, iN_addL, iN_Ladd, iN_mulL, iN_Lmul, iN_subL, iN_sub, iN_le_T, iN_le_F, iN_lt_T, iN_lt_F, iN_eq_F, iN_leL_T, iN_leL_F, iN_Lle_T, iN_Lle_F, iN_ltL_T, iN_ltL_F, iN_Llt_T, iN_Llt_F, iN_eqL_T, iN_eqL_F, iN_m1, m1_iN, iN_le_m1, m1_le_iN, iN_neg, iN_pos, i10, i01, i00, i11, u3_op, u3_or, u3_same, pup_eq, pup_ne]
  · simp (disch := first | omega | assumption) only [↓bd_rt, ↓bd_bd, ↓bd_ite, ↓bd_jn, ↓jn_ap, ↓ite_ap, ↓bd_gI1, ↓bd_pI1, ↓bd_gR1, ↓bd_pR1, ↓bd_gM, rt_ap, ↓reduceIte, iN_div, iN_divL, iN_add, iN_mul, iN_addL, iN_Ladd, iN_mulL, iN_Lmul, iN_subL, iN_sub, iN_le_T, iN_le_F, iN_lt_T, iN_lt_F, iN_eq_F, iN_leL_T, iN_leL_F, iN_Lle_T, iN_Lle_F, iN_ltL_T, iN_ltL_F, iN_Llt_T, iN_Llt_F, iN_eqL_T, iN_eqL_F, iN_m1, m1_iN, iN_le_m1, m1_le_iN, iN_neg, iN_pos, i10, i01, i00, i11, u3_op, u3_or, u3_same, pup_eq, pup_ne]
  · simp (disch := first | omega | assumption) only [↓bd_rt, ↓bd_bd, ↓bd_ite, ↓bd_jn, ↓jn_ap, ↓ite_ap, ↓bd_gI1, ↓bd_pI1, ↓bd_gR1, ↓bd_pR1, ↓bd_gM, rt_ap, ↓reduceIte, iN_div, iN_divL, iN_add, iN_mul, iN_addL, iN_Ladd, iN_mulL, iN_Lmul, iN_subL, iN_sub, iN_le_T, iN_le_F, iN_lt_T, iN_lt_F, iN_eq_F, iN_leL_T, iN_leL_F, iN_Lle_T, iN_Lle_F, iN_ltL_T, iN_ltL_F, iN_Llt_T, iN_Llt_F, iN_eqL_T, iN_eqL_F, iN_m1, m1_iN, iN_le_m1, m1_le_iN, iN_neg, iN_pos, i10, i01, i00, i11, u3_op, u3_or, u3_same, pup_eq, pup_ne]
  · simp (disch := first | omega | assumption) only [↓bd_rt, ↓bd_bd, ↓bd_ite, ↓bd_jn, ↓jn_ap, ↓ite_ap, ↓bd_gI1, ↓bd_pI1, ↓bd_gR1, ↓bd_pR1, ↓bd_gM, rt_ap, ↓reduceIte, iN_div, iN_divL, iN_add, iN_mul, iN_addL, iN_Ladd, iN_mulL, iN_Lmul, iN_subL, iN_sub, iN_le_T, iN_le_F, iN_lt_T, iN_lt_F, iN_eq_F, iN_leL_T, iN_leL_F, iN_Lle_T, iN_Lle_F, iN_ltL_T, iN_ltL_F, iN_Llt_T, iN_Llt_F, iN_eqL_T, iN_eqL_F, iN_m1, m1_iN, iN_le_m1, m1_le_iN, iN_neg, iN_pos, i10, i01, i00, i11, u3_op, u3_or, u3_same, pup_eq, pup_ne]
  · simp (disch := first | omega | assumption) only [↓bd_rt, ↓bd_bd, ↓bd_ite, ↓bd_jn, ↓jn_ap, ↓ite_ap, ↓bd_gI1, ↓bd_pI1, ↓bd_gR1, ↓bd_pR1, ↓bd_gM, rt_ap, ↓reduceIte, iN_div, iN_divL, iN_add, iN_mul, iN_addL, iN_Ladd, iN_mulL, iN_Lmul, iN_subL, iN_sub, iN_le_T, iN_le_F, iN_lt_T, iN_lt_F, iN_eq_F, iN_leL_T, iN_leL_F, iN_Lle_T, iN_Lle_F, iN_ltL_T, iN_ltL_F, iN_Llt_T, iN_Llt_F, iN_eqL_T, iN_eqL_F, iN_m1, m1_iN, iN_le_m1, m1_le_iN, iN_neg, iN_pos, i10, i01, i00, i11, u3_op, u3_or, u3_same, pup_eq, pup_ne]
  · intro q r j q1 q2 q3 q4 q5; simp (disch := first | omega | assumption) only [↓bd_rt, ↓bd_bd, ↓bd_ite, ↓bd_jn, ↓jn_ap, ↓ite_ap, ↓bd_gI1, ↓bd_pI1, ↓bd_gR1, ↓bd_pR1, ↓bd_gM, rt_ap, ↓reduceIte, iN_div, iN_divL, iN_add, iN_mul, iN_addL, iN_Ladd, iN_mulL, iN_Lmul, iN_subL, iN_sub, iN_le_T, iN_le_F, iN_lt_T, iN_lt_F, iN_eq_F, iN_leL_T, iN_leL_F, iN_Lle_T, iN_Lle_F, iN_ltL_T, iN_ltL_F, iN_Llt_T, iN_Llt_F, iN_eqL_T, iN_eqL_F, iN_m1, m1_iN, iN_le_m1, m1_le_iN, iN_neg, iN_pos, i10, i01, i00, i11, u3_op, u3_or, u3_same, pup_eq, pup_ne]
theorem rdy_WF {cr : CCr} {nh : Nat} (w : cr.WF nh) {k p : Nat} {v : Int32} (hp : p < 20) (hv : v = 0 ∨ v = 4) : (rdy cr k p v).WF nh := by
  refine CCr.WF.mk w.hn w.sort w.home w.best w.gA w.gB w.gC ?_ w.tir ?_ ?_ w.z
  · intro j hj
    show pup cr.post k p j < 20
    unfold pup; split
    · exact hp
    · exact w.post j hj
  · intro j hj
    show pup cr.wk k 0 j ≤ nh ∧ (pup cr.st k v j = 2 → pup cr.wk k 0 j ≠ 0)
    by_cases e : j = k
    · subst e
      rw [pup_eq, pup_eq]
      refine ⟨by omega, fun z => ?_⟩
      rcases hv with rfl | rfl <;> exact absurd z (by decide)
    · rw [pup_ne e, pup_ne e]; exact w.wk j hj
  · intro j hj
    show (pup cr.st k v j = 1 ∨ pup cr.st k v j = 3) → pup cr.till k (-1) j ≠ -1
    by_cases e : j = k
    · subst e
      rw [pup_eq]
      intro z
      rcases hv with rfl | rfl <;> rcases z with z | z <;> exact absurd z (by decide)
    · rw [pup_ne e, pup_ne e]; exact w.till j hj
def healS (cr : CCr) (a : Int32) : Int32 × CCr := if inN a cr.n then if cr.st a.toNatClampNeg = 4 then (1, rdy cr a.toNatClampNeg (cr.home a.toNatClampNeg) 0) else (0, cr) else (0, cr)
theorem op_X1_heal {cr : CCr} {nh : Nat} (w : cr.WF nh) {φ : amSh} {S : amSt} (hφ : φ.1 255 ≠ 0) (hC : RCcr cr φ S) {a : Int32} : Rs (fun v S' => v = (healS cr a).1 ∧ RCcr (healS cr a).2 φ S') (p_X1_heal a φ S) := by
  have hn := w.hn
  unfold p_X1_heal
  rw [bd_gM hφ, bd_of (sp_X1_isCrew w hC)]
  by_cases h1 : inN a cr.n
  · rw [ip h1, if_neg (by decide)]
    obtain ⟨k, hk, rfl⟩ := h1.ex (by omega)
    have en : (iN k).toNatClampNeg = k := iN_nat (by omega)
    rw [rR28_1 (by omega), hC.obj k hk, bd_gI (by omega), hC.st k hk]
    by_cases h2 : cr.st k = 4
    · rw [show healS cr (iN k) = (1, rdy cr k (cr.home k) 0) by unfold healS; rw [if_pos h1, en, if_pos h2], if_pos h2, rR28_1 (by omega), hC.obj k hk, rR28_1 (by omega), hC.obj k hk, bd_gI (by omega), hC.home k hk]
      exact bdR (sp_X1_ready hC hk) fun _ S1 h3 => Rs.mk ⟨rfl, h3⟩
    · rw [show healS cr (iN k) = (0, cr) by unfold healS; rw [if_pos h1, en, if_neg h2], if_neg h2, rt_ap]
      exact Rs.mk ⟨rfl, hC⟩
  · rw [show healS cr a = (0, cr) by unfold healS; rw [if_neg h1], iq h1, if_pos rfl, rt_ap]
    exact Rs.mk ⟨rfl, hC⟩
theorem op_X3_heal {cr : CCr} {nh : Nat} (w : cr.WF nh) {φ : amSh} {S : amSt} (hφ : φ.1 255 ≠ 0) (hC0 : RMcr cr S) {a : Int32} : Rs (fun v S' => v = (healS cr a).1 ∧ RMcr (healS cr a).2 S') (p_X3_heal a φ S) := by
  have hn := w.hn
  have hC := hC0.fr th0 (by decide)
  unfold p_X3_heal
  rw [bd_gM hφ, bd_pI1, bd_of (sp_X3_isCrew hC)]
  by_cases h1 : inN a cr.n
  · rw [ip h1, if_neg (by decide)]
    obtain ⟨k, hk, rfl⟩ := h1.ex (by omega)
    have en : (iN k).toNatClampNeg = k := iN_nat (by omega)
    rw [rI94_1 (by omega), hC.st k hk]
    by_cases h2 : cr.st k = 4
    · rw [show healS cr (iN k) = (1, rdy cr k (cr.home k) 0) by unfold healS; rw [if_pos h1, en, if_pos h2], if_pos h2, rI88_1 (by omega), hC.home k hk]
      exact bdR (sp_X3_rests hφ hC hk hn) fun _ S1 h3 => Rs.mk ⟨rfl, h3⟩
    · rw [show healS cr (iN k) = (0, cr) by unfold healS; rw [if_pos h1, en, if_neg h2], if_neg h2, rt_ap]
      exact Rs.mk ⟨rfl, hC⟩
  · rw [show healS cr a = (0, cr) by unfold healS; rw [if_neg h1], iq h1, if_pos rfl, rt_ap]
    exact Rs.mk ⟨rfl, hC⟩
/-! turning home -/
def goC (cr : CCr) (k : Nat) (st : Int32) (till : Int32) : CCr := (cr.s_st (pup cr.st k st)).s_till (pup cr.till k till)
def turnS (c : CSt) (cr : CCr) (now k : Nat) : CCr :=
  match comeS c (cr.post k) (cr.home k) now (slowS cr k) with
  | none => rdy cr k (cr.home k) 0
  | some t => if t = now then rdy cr k (cr.home k) 0 else goC (rdy cr k (cr.home k) 0) k 3 (iN t)
