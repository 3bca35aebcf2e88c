/-! PURE: the nearest head; how far a hose reaches -/
def hdD (c : CSt) (wa : CWa) (cor w : Nat) : Nat := if w = 0 then 1000000 else c.d cor (wa.hcor (w - 1))
def hdJ (c : CSt) (wa : CWa) (cor j : Nat) : Nat := itn (fun k w => if c.d cor (wa.hcor k) < hdD c wa cor w then k + 1 else w) 0 j
def hdS (c : CSt) (wa : CWa) (cor : Nat) : Nat := hdJ c wa cor wa.nh
theorem hdJ_le {c : CSt} {wa : CWa} {cor : Nat} : ∀ j, hdJ c wa cor j ≤ j := by
  intro j
  induction j with
  | zero => exact Nat.le_refl _
  | succ j ih =>
    show (if c.d cor (wa.hcor j) < hdD c wa cor (hdJ c wa cor j) then j + 1 else hdJ c wa cor j) ≤ j + 1
    split <;> omega
theorem hdJ_d {c : CSt} (h : c.WF) {wa : CWa} {cor : Nat} : ∀ j, hdJ c wa cor j ≠ 0 → c.d cor (wa.hcor (hdJ c wa cor j - 1)) < 1000000 := by
  intro j
  induction j with
  | zero => intro z; exact absurd rfl z
  | succ j ih =>
    have e : hdJ c wa cor (j + 1) = (if c.d cor (wa.hcor j) < hdD c wa cor (hdJ c wa cor j) then j + 1 else hdJ c wa cor j) := rfl
    rw [e]
    split
    · rename_i hlt
      intro _
      have : hdD c wa cor (hdJ c wa cor j) ≤ 1000000 := by
        unfold hdD; split
        · omega
        · exact h.dle _ _
      have : c.d cor (wa.hcor j) < 1000000 := by omega
      exact this
    · exact ih
theorem sp_X1_headFor {c : CSt} (h : c.WF) {wa : CWa} (ww : wa.WF) {φ : amSh} {S : amSt} (hφ : φ.1 255 ≠ 0) (hR : RCst c φ S) (hA : RCwa wa φ S) {cor : Nat} (hc : cor < 20) :
    Rs (fun v S' => v = hdS c wa cor ∧ Wk S' (c.d9 cor) ∧ FrS [23] S S') (p_X1_headFor (iN cor) φ S) := by
  have hn := ww.hh
  unfold p_X1_headFor
  rw [bd_gM hφ]
  refine bdR (sp_X1_stroll h hφ hR hc) fun _ S1 h1 => ?_
  have hA1 := hA.fr h1.2 (by decide)
  rw [bd_of (a := hdS c wa cor) (S1 := S1)]
  · exact Rs.mk ⟨rfl, h1.1, h1.2⟩
  refine alp_st (fun j => (hdJ c wa cor j, iN j)) (fun _ => S1) wa.nh ?_ ?_ (amFu_lt (by omega))
  · intro j hj rec
    have hle := hdJ_le (c := c) (wa := wa) (cor := cor) j
    have hdd := hdJ_d h (wa := wa) (cor := cor) j
    have hcj := ww.hcor j hj
    have e : hdJ c wa cor (j + 1) = (if c.d cor (wa.hcor j) < hdD c wa cor (hdJ c wa cor j) then j + 1 else hdJ c wa cor j) := rfl
    rw [e]
    generalize hdJ c wa cor j = d at *
    have w1 := h1.1 _ hcj
    have dl := h.dle cor (wa.hcor j)
    unfold p_X1_headFor_L9
    have d9j : c.d9 cor (wa.hcor j) = if c.d cor (wa.hcor j) = 1000000 then 1000000000 else c.d cor (wa.hcor j) := rfl
    by_cases cn : c.d cor (wa.hcor j) = 1000000
    · rw [d9j, if_pos cn] at w1
      have hno : ¬ c.d cor (wa.hcor j) < hdD c wa cor d := by
        have : hdD c wa cor d ≤ 1000000 := by
          unfold hdD; split
          · omega
          · exact h.dle _ _
        omega
      rw [if_neg hno]
      simp (disch := first | omega | assumption) only [↓bd_rt, ↓bd_bd, ↓bd_ite, ↓bd_jn, ↓jn_ap, ↓ite_ap, ↓bd_gI1, ↓bd_pI1, ↓bd_gR1, ↓bd_pR1, ↓bd_gM, rt_ap, ↓reduceIte, iN_div, iN_divL, iN_add, iN_mul, iN_addL, iN_Ladd, iN_mulL, iN_Lmul, iN_subL, iN_sub, iN_le_T, iN_le_F, iN_lt_T, iN_lt_F, iN_eq_F, iN_leL_T, iN_leL_F, iN_Lle_T, iN_Lle_F, iN_ltL_T, iN_ltL_F, iN_Llt_T, iN_Llt_F, iN_eqL_T, iN_eqL_F, iN_m1, m1_iN, iN_le_m1, m1_le_iN, iN_neg, iN_pos, i10, i01, i00, i11, u3_op, u3_or, u3_same, pup_eq, pup_ne, hA1.nh, ↓rR27_1, hA1.obj j hj, ↓bd_gI, hA1.hcor j hj, ↓rI23_1, w1]
    · rw [d9j, if_neg cn] at w1
      by_cases d0 : d = 0
      · subst d0
        have hyes : c.d cor (wa.hcor j) < hdD c wa cor 0 := by show _ < 1000000; omega
        rw [if_pos hyes]
        simp (disch := first | omega | assumption) only [↓bd_rt, ↓bd_bd, ↓bd_ite, ↓bd_jn, ↓jn_ap, ↓ite_ap, ↓bd_gI1, ↓bd_pI1, ↓bd_gR1, ↓bd_pR1, ↓bd_gM, rt_ap, ↓reduceIte, iN_div, iN_divL, iN_add, iN_mul, iN_addL, iN_Ladd, iN_mulL, iN_Lmul, iN_subL, iN_sub, iN_le_T, iN_le_F, iN_lt_T, iN_lt_F, iN_eq_F, iN_leL_T, iN_leL_F, iN_Lle_T, iN_Lle_F, iN_ltL_T, iN_ltL_F, iN_Llt_T, iN_Llt_F, iN_eqL_T, iN_eqL_F, iN_m1, m1_iN, iN_le_m1, m1_le_iN, iN_neg, iN_pos, i10, i01, i00, i11, u3_op, u3_or, u3_same, pup_eq, pup_ne, hA1.nh, ↓rR27_1, hA1.obj j hj, ↓bd_gI, hA1.hcor j hj, ↓rI23_1, w1, if_true]
      · obtain ⟨x, rfl⟩ : ∃ x, d = x + 1 := ⟨d - 1, by omega⟩
        have hdx := hdd d0
        rw [Nat.add_sub_cancel] at hdx
        have hcx := ww.hcor x (by omega)
        have w2 := h1.1 _ hcx
        have d9x : c.d9 cor (wa.hcor x) = c.d cor (wa.hcor x) := if_neg (by omega)
        rw [d9x] at w2
        have hD : hdD c wa cor (x + 1) = c.d cor (wa.hcor x) := if_neg (by omega)
        rw [hD]
        by_cases hlt : c.d cor (wa.hcor j) < c.d cor (wa.hcor x)
        · rw [if_pos hlt]
          simp (disch := first | omega | assumption) only [↓bd_rt, ↓bd_bd, ↓bd_ite, ↓bd_jn, ↓jn_ap, ↓ite_ap, ↓bd_gI1, ↓bd_pI1, ↓bd_gR1, ↓bd_pR1, ↓bd_gM, rt_ap, ↓reduceIte, iN_div, iN_divL, iN_add, iN_mul, iN_addL, iN_Ladd, iN_mulL, iN_Lmul, iN_subL, iN_sub, iN_le_T, iN_le_F, iN_lt_T, iN_lt_F, iN_eq_F, iN_leL_T, iN_leL_F, iN_Lle_T, iN_Lle_F, iN_ltL_T, iN_ltL_F, iN_Llt_T, iN_Llt_F, iN_eqL_T, iN_eqL_F, iN_m1, m1_iN, iN_le_m1, m1_le_iN, iN_neg, iN_pos, i10, i01, i00, i11, u3_op, u3_or, u3_same, pup_eq, pup_ne, hA1.nh, ↓rR27_1, hA1.obj j hj, ↓bd_gI, hA1.hcor j hj, hA1.hcor x (by omega), ↓rI23_1, w1, w2, if_neg d0]
        · rw [if_neg hlt]
          simp (disch := first | omega | assumption) only [↓bd_rt, ↓bd_bd, ↓bd_ite, ↓bd_jn, ↓jn_ap, ↓ite_ap, ↓bd_gI1, ↓bd_pI1, ↓bd_gR1, ↓bd_pR1, ↓bd_gM, rt_ap, ↓reduceIte, iN_div, iN_divL, iN_add, iN_mul, iN_addL, iN_Ladd, iN_mulL, iN_Lmul, iN_subL, iN_sub, iN_le_T, iN_le_F, iN_lt_T, iN_lt_F, iN_eq_F, iN_leL_T, iN_leL_F, iN_Lle_T, iN_Lle_F, iN_ltL_T, iN_ltL_F, iN_Llt_T, iN_Llt_F, iN_eqL_T, iN_eqL_F, iN_m1, m1_iN, iN_le_m1, m1_le_iN, iN_neg, iN_pos, i10, i01, i00, i11, u3_op, u3_or, u3_same, pup_eq, pup_ne, hA1.nh, ↓rR27_1, hA1.obj j hj, ↓bd_gI, hA1.hcor j hj, hA1.hcor x (by omega), ↓rI23_1, w1, w2, if_neg d0]
  · intro rec
    unfold p_X1_headFor_L9
    dsimp only
    simp (disch := first | omega | assumption) only [↓bd_rt, ↓bd_bd, ↓bd_ite, ↓bd_jn, ↓jn_ap, ↓ite_ap, ↓bd_gI1, ↓bd_pI1, ↓bd_gR1, ↓bd_pR1, ↓bd_gM, rt_ap, ↓reduceIte, iN_div, iN_divL, iN_add, iN_mul, iN_addL, iN_Ladd, iN_mulL, iN_Lmul, iN_subL, iN_sub, iN_le_T, iN_le_F, iN_lt_T, iN_lt_F, iN_eq_F, iN_leL_T, iN_leL_F, iN_Lle_T, iN_Lle_F, iN_ltL_T, iN_ltL_F, iN_Llt_T, iN_Llt_F, iN_eqL_T, iN_eqL_F, iN_m1, m1_iN, iN_le_m1, m1_le_iN, iN_neg, iN_pos, i10, i01, i00, i11, u3_op, u3_or, u3_same, pup_eq, pup_ne, hA1.nh]
    rfl
theorem sp_X3_headFor {c : CSt} (h : c.WF) {wa : CWa} (ww : wa.WF) {ho : CHo} (wh : ho.WF) {φ : amSh} {S : amSt} (hφ : φ.1 255 ≠ 0) (hR : RMst c S) (hA : RMwa wa S) (hH : RMho ho S) {x : Nat} (hx : x < ho.n) :
    p_X3_headFor (iN x) φ S = some (oW (hdS c wa (ho.cor x)), S) := by
  have hn := ww.hh
  have hhn := wh.hn
  have hcx := wh.cor x hx
  unfold p_X3_headFor
  rw [bd_gM hφ, bd_of (a := oW (hdS c wa (ho.cor x))) (S1 := S), rt_ap]
  refine alp_st (fun j => (oW (hdJ c wa (ho.cor x) j), iN j)) (fun _ => S) wa.nh ?_ ?_ (amFu_lt (by omega))
  · intro j hj rec
    have hle := hdJ_le (c := c) (wa := wa) (cor := ho.cor x) j
    have hcj := ww.hcor j hj
    have e : hdJ c wa (ho.cor x) (j + 1) = (if c.d (ho.cor x) (wa.hcor j) < hdD c wa (ho.cor x) (hdJ c wa (ho.cor x) j) then j + 1 else hdJ c wa (ho.cor x) j) := rfl
    rw [e]
    generalize hdJ c wa (ho.cor x) j = d at *
    have wj := sp_X3_walkOf (φ := φ) (S := S) hφ hR hcj hcx
    rw [h.sym hcj hcx] at wj
    have dl := h.dle (ho.cor x) (wa.hcor j)
    unfold p_X3_headFor_L4
    by_cases d0 : d = 0
    · subst d0
      have hD : hdD c wa (ho.cor x) 0 = 1000000 := rfl
      rw [hD]
      by_cases hlt : c.d (ho.cor x) (wa.hcor j) < 1000000
      · rw [if_pos hlt]
        simp (disch := first | omega | assumption) only [↓bd_rt, ↓bd_bd, ↓bd_ite, ↓bd_jn, ↓jn_ap, ↓ite_ap, ↓bd_gI1, ↓bd_pI1, ↓bd_gR1, ↓bd_pR1, ↓bd_gM, rt_ap, ↓reduceIte, iN_div, iN_divL, iN_add, iN_mul, iN_addL, iN_Ladd, iN_mulL, iN_Lmul, iN_subL, iN_sub, iN_le_T, iN_le_F, iN_lt_T, iN_lt_F, iN_eq_F, iN_leL_T, iN_leL_F, iN_Lle_T, iN_Lle_F, iN_ltL_T, iN_ltL_F, iN_Llt_T, iN_Llt_F, iN_eqL_T, iN_eqL_F, iN_m1, m1_iN, iN_le_m1, m1_le_iN, iN_neg, iN_pos, i10, i01, i00, i11, u3_op, u3_or, u3_same, pup_eq, pup_ne, hA.nh, ↓rI84_1, ↓rI62_1, hA.hcor j hj, hH.cor x hx, ↓bd_of wj, oW_0, oW_s, if_true]
      · rw [if_neg hlt]
        simp (disch := first | omega | assumption) only [↓bd_rt, ↓bd_bd, ↓bd_ite, ↓bd_jn, ↓jn_ap, ↓ite_ap, ↓bd_gI1, ↓bd_pI1, ↓bd_gR1, ↓bd_pR1, ↓bd_gM, rt_ap, ↓reduceIte, iN_div, iN_divL, iN_add, iN_mul, iN_addL, iN_Ladd, iN_mulL, iN_Lmul, iN_subL, iN_sub, iN_le_T, iN_le_F, iN_lt_T, iN_lt_F, iN_eq_F, iN_leL_T, iN_leL_F, iN_Lle_T, iN_Lle_F, iN_ltL_T, iN_ltL_F, iN_Llt_T, iN_Llt_F, iN_eqL_T, iN_eqL_F, iN_m1, m1_iN, iN_le_m1, m1_le_iN, iN_neg, iN_pos, i10, i01, i00, i11, u3_op, u3_or, u3_same, pup_eq, pup_ne, hA.nh, ↓rI84_1, ↓rI62_1, hA.hcor j hj, hH.cor x hx, ↓bd_of wj, oW_0, oW_s, if_true]
    · obtain ⟨y, rfl⟩ : ∃ y, d = y + 1 := ⟨d - 1, by omega⟩
      have hcy := ww.hcor y (by omega)
      have wy := sp_X3_walkOf (φ := φ) (S := S) hφ hR hcy hcx
      rw [h.sym hcy hcx] at wy
      have dly := h.dle (ho.cor x) (wa.hcor y)
      have hD : hdD c wa (ho.cor x) (y + 1) = c.d (ho.cor x) (wa.hcor y) := if_neg (by omega)
      rw [hD]
      by_cases hlt : c.d (ho.cor x) (wa.hcor j) < c.d (ho.cor x) (wa.hcor y)
      · rw [if_pos hlt]
        simp (disch := first | omega | assumption) only [↓bd_rt, ↓bd_bd, ↓bd_ite, ↓bd_jn, ↓jn_ap, ↓ite_ap, ↓bd_gI1, ↓bd_pI1, ↓bd_gR1, ↓bd_pR1, ↓bd_gM, rt_ap, ↓reduceIte, iN_div, iN_divL, iN_add, iN_mul, iN_addL, iN_Ladd, iN_mulL, iN_Lmul, iN_subL, iN_sub, iN_le_T, iN_le_F, iN_lt_T, iN_lt_F, iN_eq_F, iN_leL_T, iN_leL_F, iN_Lle_T, iN_Lle_F, iN_ltL_T, iN_ltL_F, iN_Llt_T, iN_Llt_F, iN_eqL_T, iN_eqL_F, iN_m1, m1_iN, iN_le_m1, m1_le_iN, iN_neg, iN_pos, i10, i01, i00, i11, u3_op, u3_or, u3_same, pup_eq, pup_ne, hA.nh, ↓rI84_1, ↓rI62_1, hA.hcor j hj, hA.hcor y (by omega), hH.cor x hx, ↓bd_of wj, ↓bd_of wy, oW_s]
      · rw [if_neg hlt]
        simp (disch := first | omega | assumption) only [↓bd_rt, ↓bd_bd, ↓bd_ite, ↓bd_jn, ↓jn_ap, ↓ite_ap, ↓bd_gI1, ↓bd_pI1, ↓bd_gR1, ↓bd_pR1, ↓bd_gM, rt_ap, ↓reduceIte, iN_div, iN_divL, iN_add, iN_mul, iN_addL, iN_Ladd, iN_mulL, iN_Lmul, iN_subL, iN_sub, iN_le_T, iN_le_F, iN_lt_T, iN_lt_F, iN_eq_F, iN_leL_T, iN_leL_F, iN_Lle_T, iN_Lle_F, iN_ltL_T, iN_ltL_F, iN_Llt_T, iN_Llt_F, iN_eqL_T, iN_eqL_F, iN_m1, m1_iN, iN_le_m1, m1_le_iN, iN_neg, iN_pos, i10, i01, i00, i11, u3_op, u3_or, u3_same, pup_eq, pup_ne, hA.nh, ↓rI84_1, ↓rI62_1, hA.hcor j hj, hA.hcor y (by omega), hH.cor x hx, ↓bd_of wj, ↓bd_of wy, oW_s]
  · intro rec
    unfold p_X3_headFor_L4
    dsimp only
    simp (disch := first | omega | assumption) only [↓bd_rt, ↓bd_bd, ↓bd_ite, ↓bd_jn, ↓jn_ap, ↓ite_ap, ↓bd_gI1, ↓bd_pI1, ↓bd_gR1, ↓bd_pR1, ↓bd_gM, rt_ap, ↓reduceIte, iN_div, iN_divL, iN_add, iN_mul, iN_addL, iN_Ladd, iN_mulL, iN_Lmul, iN_subL, iN_sub, iN_le_T, iN_le_F, iN_lt_T, iN_lt_F, iN_eq_F, iN_leL_T, iN_leL_F, iN_Lle_T, iN_Lle_F, iN_ltL_T, iN_ltL_F, iN_Llt_T, iN_Llt_F, iN_eqL_T, iN_eqL_F, iN_m1, m1_iN, iN_le_m1, m1_le_iN, iN_neg, iN_pos, i10, i01, i00, i11, u3_op, u3_or, u3_same, pup_eq, pup_ne, hA.nh]
    rfl
/-- so many floors are within reach -/
def topL (w g : Nat) : Nat → Nat
  | 0 => 0
  | m + 1 => if 100 * w + 20 * (m + 1) ≤ g then m + 1 else topL w g m
theorem topL_le {w g : Nat} : ∀ m, topL w g m ≤ m := by
  intro m
  induction m with
  | zero => exact Nat.le_refl _
  | succ m ih => unfold topL; split <;> omega
/-- how high a crew's hose reaches at a house: -1 not at all -/
def reaN (c : CSt) (wa : CWa) (ho : CHo) (cr : CCr) (k x : Nat) : Nat := if 2 ≤ cr.sort k then 0 else if hdS c wa (ho.cor x) = 0 then 0 else topL (c.d (ho.cor x) (wa.hcor (hdS c wa (ho.cor x) - 1))) (cr.gA k) (ho.fl x)
theorem lt_sub {a b e : Nat} (ha : a < 100000000) (hb : b < 100000000) (he : e < 100000000) : (iN a - iN b < iN e) = (a < b + e) := by
  have hs : (iN a - iN b).toInt = a - b := by
    rw [Int32.toInt_sub, iN_toInt (by omega), iN_toInt (by omega), Int.bmod_def]
    omega
  rw [Int32.lt_iff_toInt_lt, hs, iN_toInt (by omega)]
  apply propext
  omega
theorem sp_X1_reachOf_L42 {ho : CHo} (wh : ho.WF) {φ : amSh} {S : amSt} (hH : RCho ho φ S) {x w g : Nat} (hx : x < ho.n) (hw : w < 1000000) (hg : g ≤ 3000) : alp (p_X1_reachOf_L42 (x + 1) (iN g - iN (100 * w))) amFu (-1, 0) φ S = some (oW (topL w g (ho.fl x)), S) := by
  have hfl := wh.fl x hx
  refine alp_st (fun j => (oW (topL w g j), iN j)) (fun _ => S) (ho.fl x) ?_ ?_ (amFu_lt (by omega))
  · intro j hj rec
    have e : topL w g (j + 1) = if 100 * w + 20 * (j + 1) ≤ g then j + 1 else topL w g j := rfl
    rw [e]
    have hl := lt_sub (a := g) (b := 100 * w) (e := 20 * (j + 1)) (by omega) (by omega) (by omega)
    unfold p_X1_reachOf_L42
    by_cases hc : 100 * w + 20 * (j + 1) ≤ g
    · rw [if_pos hc]
      have : ¬ iN g - iN (100 * w) < iN (20 * (j + 1)) := by rw [hl]; omega
      simp (disch := first | omega | assumption) only [↓bd_rt, ↓bd_bd, ↓bd_ite, ↓bd_jn, ↓jn_ap, ↓ite_ap, ↓bd_gI1, ↓bd_pI1, ↓bd_gR1, ↓bd_pR1, ↓bd_gM, rt_ap, ↓reduceIte, iN_div, iN_divL, iN_add, iN_mul, iN_addL, iN_Ladd, iN_mulL, iN_Lmul, iN_subL, iN_sub, iN_le_T, iN_le_F, iN_lt_T, iN_lt_F, iN_eq_F, iN_leL_T, iN_leL_F, iN_Lle_T, iN_Lle_F, iN_ltL_T, iN_ltL_F, iN_Llt_T, iN_Llt_F, iN_eqL_T, iN_eqL_F, iN_m1, m1_iN, iN_le_m1, m1_le_iN, iN_neg, iN_pos, i10, i01, i00, i11, u3_op, u3_or, u3_same, pup_eq, pup_ne, ↓bd_gI, hH.fl x hx, if_neg this, oW_s]
    · rw [if_neg hc]
      have : iN g - iN (100 * w) < iN (20 * (j + 1)) := by rw [hl]; omega
      simp (disch := first | omega | assumption) only [↓bd_rt, ↓bd_bd, ↓bd_ite, ↓bd_jn, ↓jn_ap, ↓ite_ap, ↓bd_gI1, ↓bd_pI1, ↓bd_gR1, ↓bd_pR1, ↓bd_gM, rt_ap, ↓reduceIte, iN_div, iN_divL, iN_add, iN_mul, iN_addL, iN_Ladd, iN_mulL, iN_Lmul, iN_subL, iN_sub, iN_le_T, iN_le_F, iN_lt_T, iN_lt_F, iN_eq_F, iN_leL_T, iN_leL_F, iN_Lle_T, iN_Lle_F, iN_ltL_T, iN_ltL_F, iN_Llt_T, iN_Llt_F, iN_eqL_T, iN_eqL_F, iN_m1, m1_iN, iN_le_m1, m1_le_iN, iN_neg, iN_pos, i10, i01, i00, i11, u3_op, u3_or, u3_same, pup_eq, pup_ne, ↓bd_gI, hH.fl x hx, if_pos this]
  · intro rec
    unfold p_X1_reachOf_L42
    dsimp only
    simp (disch := first | omega | assumption) only [↓bd_rt, ↓bd_bd, ↓bd_ite, ↓bd_jn, ↓jn_ap, ↓ite_ap, ↓bd_gI1, ↓bd_pI1, ↓bd_gR1, ↓bd_pR1, ↓bd_gM, rt_ap, ↓reduceIte, iN_div, iN_divL, iN_add, iN_mul, iN_addL, iN_Ladd, iN_mulL, iN_Lmul, iN_subL, iN_sub, iN_le_T, iN_le_F, iN_lt_T, iN_lt_F, iN_eq_F, iN_leL_T, iN_leL_F, iN_Lle_T, iN_Lle_F, iN_ltL_T, iN_ltL_F, iN_Llt_T, iN_Llt_F, iN_eqL_T, iN_eqL_F, iN_m1, m1_iN, iN_le_m1, m1_le_iN, iN_neg, iN_pos, i10, i01, i00, i11, u3_op, u3_or, u3_same, pup_eq, pup_ne, ↓bd_gI, hH.fl x hx]
theorem sp_X1_reachOf {c : CSt} (h : c.WF) {wa : CWa} (ww : wa.WF) {ho : CHo} (wh : ho.WF) {cr : CCr} {nh : Nat} (wc : cr.WF nh) {φ : amSh} {S : amSt} (hφ : φ.1 255 ≠ 0) (hR : RCst c φ S) (hA : RCwa wa φ S) (hH : RCho ho φ S) (hC : RCcr cr φ S) {k x : Nat} (hk : k < cr.n) (hs : cr.sort k < 2) (hx : x < ho.n) :
    Rs (fun v S' => v = oW (reaN c wa ho cr k x) ∧ FrS [23] S S') (p_X1_reachOf (k + 1) (x + 1) φ S) := by
  have hcx := wh.cor x hx
  have hg := wc.gA k hk
  unfold p_X1_reachOf
  rw [bd_gM hφ, bd_gI (by omega), hH.cor x hx]
  refine bdR (sp_X1_headFor h ww hφ hR hA hcx) fun v S1 h1 => ?_
  obtain ⟨rfl, hW, hF⟩ := h1
  have hA1 := hA.fr hF (by decide)
  have hH1 := hH.fr hF (by decide)
  have hC1 := hC.fr hF (by decide)
  have hhle := hdJ_le (c := c) (wa := wa) (cor := ho.cor x) wa.nh
  have hhd := hdJ_d h (wa := wa) (cor := ho.cor x) wa.nh
  unfold reaN
  rw [if_neg (show ¬ 2 ≤ cr.sort k by omega)]
  by_cases h0 : hdS c wa (ho.cor x) = 0
  · rw [if_pos h0, if_pos h0, rt_ap]
    exact Rs.mk ⟨rfl, hF⟩
  · rw [if_neg h0, if_neg h0]
    have hd0 : hdS c wa (ho.cor x) - 1 < wa.nh := by unfold hdS at h0 ⊢; omega
    have hcy := ww.hcor _ hd0
    have hdl : c.d (ho.cor x) (wa.hcor (hdS c wa (ho.cor x) - 1)) < 1000000 := hhd h0
    have eS : hdS c wa (ho.cor x) = hdS c wa (ho.cor x) - 1 + 1 := by omega
    have w2 := hW _ hcy
    have d9x : c.d9 (ho.cor x) (wa.hcor (hdS c wa (ho.cor x) - 1)) = c.d (ho.cor x) (wa.hcor (hdS c wa (ho.cor x) - 1)) := if_neg (by omega)
    rw [d9x] at w2
    have hcor := hA1.hcor _ hd0
    rw [← eS] at hcor
    have hcls : amK φ 6 (k + 1) = 6 + cr.sort k := hC1.cls k hk
    have hhose : p_X9_hose (k + 1) φ S1 = some (iN (cr.gA k), S1) := by
      unfold p_X9_hose
      rw [bd_of (a := iN (cr.gA k)) (S1 := S1), rt_ap]
      unfold gIs
      rw [if_pos ⟨by omega, by rw [hcls]; have : cr.sort k = 0 ∨ cr.sort k = 1 := by omega
                               rcases this with e | e <;> rw [e] <;> decide⟩, hC1.gA k hk (by omega)]
    have hvc : vc 6 (k + 1) (fun c => if c = 6 then p_X9_hose (k + 1) else if c = 7 then p_X9_hose (k + 1) else fl0) φ S1 = some (iN (cr.gA k), S1) := by
      unfold vc
      rw [if_neg (by omega), hcls]
      have : cr.sort k = 0 ∨ cr.sort k = 1 := by omega
      rcases this with e | e
      · rw [e]; exact hhose
      · rw [e]; exact hhose
    rw [bd_of hvc, bd_gI h0, hcor, rI23_1 hcy, w2, bd_rt]
    rw [show (100 : Int32) * iN (c.d (ho.cor x) (wa.hcor (hdS c wa (ho.cor x) - 1))) = iN (100 * c.d (ho.cor x) (wa.hcor (hdS c wa (ho.cor x) - 1))) from iN_mul]
    rw [bd_of (sp_X1_reachOf_L42 wh hH1 hx hdl hg), rt_ap]
    exact Rs.mk ⟨rfl, hF⟩
theorem sp_X3_reachOf {c : CSt} (h : c.WF) {wa : CWa} (ww : wa.WF) {ho : CHo} (wh : ho.WF) {cr : CCr} {nh : Nat} (wc : cr.WF nh) {φ : amSh} {S : amSt} (hφ : φ.1 255 ≠ 0) (hR : RMst c S) (hA : RMwa wa S) (hH : RMho ho S) (hC : RMcr cr S) {k x : Nat} (hk : k < cr.n) (hx : x < ho.n) :
    p_X3_reachOf (iN k) (iN x) φ S = some (oW (reaN c wa ho cr k x), S) := by
  have hcx := wh.cor x hx
  have hg := wc.gA k hk
  have hcn := wc.hn
  have hhn := wh.hn
  have hsk := wc.sort k hk
  have hfl := wh.fl x hx
  have hhle := hdJ_le (c := c) (wa := wa) (cor := ho.cor x) wa.nh
  have hhd := hdJ_d h (wa := wa) (cor := ho.cor x) wa.nh
  have hnh := ww.hh
  unfold p_X3_reachOf reaN
  rw [bd_gM hφ, bd_of (sp_X3_headFor h ww wh hφ hR hA hH hx), rI87_1 (by omega), hC.sort k hk]
  by_cases hs : 2 ≤ cr.sort k
  · rw [if_pos hs]
    simp (disch := first | omega | assumption) only [↓bd_rt, ↓bd_bd, ↓bd_ite, ↓bd_jn, ↓jn_ap, ↓ite_ap, ↓bd_gI1, ↓bd_pI1, ↓bd_gR1, ↓bd_pR1, ↓bd_gM, rt_ap, ↓reduceIte, iN_div, iN_divL, iN_add, iN_mul, iN_addL, iN_Ladd, iN_mulL, iN_Lmul, iN_subL, iN_sub, iN_le_T, iN_le_F, iN_lt_T, iN_lt_F, iN_eq_F, iN_leL_T, iN_leL_F, iN_Lle_T, iN_Lle_F, iN_ltL_T, iN_ltL_F, iN_Llt_T, iN_Llt_F, iN_eqL_T, iN_eqL_F, iN_m1, m1_iN, iN_le_m1, m1_le_iN, iN_neg, iN_pos, i10, i01, i00, i11, u3_op, u3_or, u3_same, pup_eq, pup_ne]
    rfl
  · rw [if_neg hs]
    by_cases h0 : hdS c wa (ho.cor x) = 0
    · rw [if_pos h0, h0]
      simp (disch := first | omega | assumption) only [↓bd_rt, ↓bd_bd, ↓bd_ite, ↓bd_jn, ↓jn_ap, ↓ite_ap, ↓bd_gI1, ↓bd_pI1, ↓bd_gR1, ↓bd_pR1, ↓bd_gM, rt_ap, ↓reduceIte, iN_div, iN_divL, iN_add, iN_mul, iN_addL, iN_Ladd, iN_mulL, iN_Lmul, iN_subL, iN_sub, iN_le_T, iN_le_F, iN_lt_T, iN_lt_F, iN_eq_F, iN_leL_T, iN_leL_F, iN_Lle_T, iN_Lle_F, iN_ltL_T, iN_ltL_F, iN_Llt_T, iN_Llt_F, iN_eqL_T, iN_eqL_F, iN_m1, m1_iN, iN_le_m1, m1_le_iN, iN_neg, iN_pos, i10, i01, i00, i11, u3_op, u3_or, u3_same, pup_eq, pup_ne, oW_0, if_true]
    · rw [if_neg h0]
      have hd0 : hdS c wa (ho.cor x) - 1 < wa.nh := by unfold hdS at h0 ⊢; omega
      have hcy := ww.hcor _ hd0
      have hdl : c.d (ho.cor x) (wa.hcor (hdS c wa (ho.cor x) - 1)) < 1000000 := hhd h0
      have eo : oW (hdS c wa (ho.cor x)) = iN (hdS c wa (ho.cor x) - 1) := by unfold oW; rw [if_neg h0]
      rw [eo]
      generalize hdS c wa (ho.cor x) - 1 = y at *
      have wy := sp_X3_walkOf (φ := φ) (S := S) hφ hR hcy hcx
      rw [h.sym hcy hcx] at wy
      have key : ∀ m, m ≤ ho.fl x → ∀ fu, m < fu → alp (p_X3_reachOf_L33 (iN k) (iN x) (iN y)) fu (oW m) φ S = some (oW (topL (c.d (ho.cor x) (wa.hcor y)) (cr.gA k) m), S) := by
        intro m
        induction m with
        | zero =>
          intro _ fu hfu
          obtain ⟨fu, rfl⟩ : ∃ j, fu = j + 1 := ⟨fu - 1, by omega⟩
          rw [alp_s]
          unfold p_X3_reachOf_L33
          rw [oW_0, if_pos (by decide), rt_ap]
          rfl
        | succ m ih =>
          intro hm fu hfu
          obtain ⟨fu, rfl⟩ : ∃ j, fu = j + 1 := ⟨fu - 1, by omega⟩
          rw [alp_s]
          have e : topL (c.d (ho.cor x) (wa.hcor y)) (cr.gA k) (m + 1) = if 100 * c.d (ho.cor x) (wa.hcor y) + 20 * (m + 1) ≤ cr.gA k then m + 1 else topL (c.d (ho.cor x) (wa.hcor y)) (cr.gA k) m := rfl
          rw [e]
          have ihm := ih (by omega) fu (by omega)
          generalize alp (p_X3_reachOf_L33 (iN k) (iN x) (iN y)) fu = rec at *
          have edn : iN m + -1 = oW m := by
            by_cases z : m = 0
            · subst z; decide
            · obtain ⟨q, rfl⟩ : ∃ q, m = q + 1 := ⟨m - 1, by omega⟩
              rw [iN_dn, oW_s]
          rw [oW_s]
          unfold p_X3_reachOf_L33
          by_cases hc : 100 * c.d (ho.cor x) (wa.hcor y) + 20 * (m + 1) ≤ cr.gA k
          · rw [if_pos hc]
            simp (disch := first | omega | assumption) only [↓bd_rt, ↓bd_bd, ↓bd_ite, ↓bd_jn, ↓jn_ap, ↓ite_ap, ↓bd_gI1, ↓bd_pI1, ↓bd_gR1, ↓bd_pR1, ↓bd_gM, rt_ap, ↓reduceIte, iN_div, iN_divL, iN_add, iN_mul, iN_addL, iN_Ladd, iN_mulL, iN_Lmul, iN_subL, iN_sub, iN_le_T, iN_le_F, iN_lt_T, iN_lt_F, iN_eq_F, iN_leL_T, iN_leL_F, iN_Lle_T, iN_Lle_F, iN_ltL_T, iN_ltL_F, iN_Llt_T, iN_Llt_F, iN_eqL_T, iN_eqL_F, iN_m1, m1_iN, iN_le_m1, m1_le_iN, iN_neg, iN_pos, i10, i01, i00, i11, u3_op, u3_or, u3_same, pup_eq, pup_ne, ↓rI84_1, ↓rI62_1, ↓rI91_1, hA.hcor y hd0, hH.cor x hx, ↓bd_of wy, hC.gA k hk, oW_s]
          · rw [if_neg hc]
            simp (disch := first | omega | assumption) only [↓bd_rt, ↓bd_bd, ↓bd_ite, ↓bd_jn, ↓jn_ap, ↓ite_ap, ↓bd_gI1, ↓bd_pI1, ↓bd_gR1, ↓bd_pR1, ↓bd_gM, rt_ap, ↓reduceIte, iN_div, iN_divL, iN_add, iN_mul, iN_addL, iN_Ladd, iN_mulL, iN_Lmul, iN_subL, iN_sub, iN_le_T, iN_le_F, iN_lt_T, iN_lt_F, iN_eq_F, iN_leL_T, iN_leL_F, iN_Lle_T, iN_Lle_F, iN_ltL_T, iN_ltL_F, iN_Llt_T, iN_Llt_F, iN_eqL_T, iN_eqL_F, iN_m1, m1_iN, iN_le_m1, m1_le_iN, iN_neg, iN_pos, i10, i01, i00, i11, u3_op, u3_or, u3_same, pup_eq, pup_ne, ↓rI84_1, ↓rI62_1, ↓rI91_1, hA.hcor y hd0, hH.cor x hx, ↓bd_of wy, hC.gA k hk, oW_s, edn]
            exact ihm
      have ey : oW (ho.fl x) = iN (ho.fl x - 1) := by unfold oW; rw [if_neg (by omega)]
      have kk := key (ho.fl x) (Nat.le_refl _) amFu (amFu_lt (by omega))
      rw [ey] at kk
      simp (disch := first | omega | assumption) only [↓bd_rt, ↓bd_bd, ↓bd_jn, ↓jn_ap, ↓bd_gI1, ↓bd_pI1, ↓bd_gR1, ↓bd_pR1, ↓bd_gM, rt_ap, ↓reduceIte, iN_div, iN_divL, iN_add, iN_mul, iN_addL, iN_Ladd, iN_mulL, iN_Lmul, iN_subL, iN_sub, iN_le_T, iN_le_F, iN_lt_T, iN_lt_F, iN_eq_F, iN_leL_T, iN_leL_F, iN_Lle_T, iN_Lle_F, iN_ltL_T, iN_ltL_F, iN_Llt_T, iN_Llt_F, iN_eqL_T, iN_eqL_F, iN_m1, m1_iN, iN_le_m1, m1_le_iN, iN_neg, iN_pos, i10, i01, i00, i11, u3_op, u3_or, u3_same, pup_eq, pup_ne, if_false, ite_ap, ↓rI64_1, hH.fl x hx]
      rw [bd_of kk, rt_ap]
