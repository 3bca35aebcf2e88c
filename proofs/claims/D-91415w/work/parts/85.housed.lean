/-! PURE: what a house is like -/
def bntS (c : CHo) (b : CBz) (x : Nat) (j : Nat) : Int32 := itn (fun f a => a + b.bnt (6 * x + f)) 0 j
def falN (b : CBz) (x : Nat) (j : Nat) : Nat := itn (fun f a => if b.fal (6 * x + f) = 0 then a else a + 1) 0 j
def wrkN (cr : CCr) (x : Nat) (j : Nat) : Nat := itn (fun k a => if cr.st k = 2 then (if cr.wk k = x + 1 then a + 1 else a) else a) 0 j
/-- burntOf on a blaze numbered r -/
theorem sp_X1_burntOf {c : CHo} (w : c.WF) {b : CBz} {φ : amSh} {S : amSt} (hR : RCho c φ S) {x r : Nat} (hx : x < c.n) (hb : RCb1 b x r S) (hr : r ≠ 0) (hst : 6 < φ.2.1 4 r) : p_X1_burntOf (x + 1) r φ S = some (bntS c b x (c.fl x), S) := by
  have hfl := w.fl x hx
  unfold p_X1_burntOf
  rw [bd_of (a := bntS c b x (c.fl x)) (S1 := S), rt_ap]
  refine alp_st (fun j => (bntS c b x j, iN j)) (fun _ => S) (c.fl x) ?_ ?_ (amFu_lt (by omega))
  · intro j hj rec
    have e : bntS c b x (j + 1) = bntS c b x j + b.bnt (6 * x + j) := rfl
    rw [e]
    unfold p_X1_burntOf_L5
    simp (disch := first | omega | assumption) only [↓bd_rt, ↓bd_bd, ↓bd_ite, ↓bd_jn, ↓jn_ap, ↓ite_ap, ↓bd_gI1, ↓bd_pI1, ↓bd_gR1, ↓bd_pR1, ↓bd_gM, rt_ap, ↓reduceIte, iN_div, iN_divL, iN_add, iN_mul, iN_addL, iN_Ladd, iN_mulL, iN_Lmul, iN_subL, iN_sub, iN_le_T, iN_le_F, iN_lt_T, iN_lt_F, iN_eq_F, iN_leL_T, iN_leL_F, iN_Lle_T, iN_Lle_F, iN_ltL_T, iN_ltL_F, iN_Llt_T, iN_Llt_F, iN_eqL_T, iN_eqL_F, iN_m1, m1_iN, iN_le_m1, m1_le_iN, iN_neg, iN_pos, i10, i01, i00, i11, u3_op, u3_or, u3_same, pup_eq, pup_ne, ↓bd_gI, hR.fl x hx, ↓bd_gC hr (show 3 < φ.2.1 4 r by omega), ↓rI148, hb.bnt j (by omega)]
  · intro rec
    unfold p_X1_burntOf_L5
    dsimp only
    simp (disch := first | omega | assumption) only [↓bd_rt, ↓bd_bd, ↓bd_ite, ↓bd_jn, ↓jn_ap, ↓ite_ap, ↓bd_gI1, ↓bd_pI1, ↓bd_gR1, ↓bd_pR1, ↓bd_gM, rt_ap, ↓reduceIte, iN_div, iN_divL, iN_add, iN_mul, iN_addL, iN_Ladd, iN_mulL, iN_Lmul, iN_subL, iN_sub, iN_le_T, iN_le_F, iN_lt_T, iN_lt_F, iN_eq_F, iN_leL_T, iN_leL_F, iN_Lle_T, iN_Lle_F, iN_ltL_T, iN_ltL_F, iN_Llt_T, iN_Llt_F, iN_eqL_T, iN_eqL_F, iN_m1, m1_iN, iN_le_m1, m1_le_iN, iN_neg, iN_pos, i10, i01, i00, i11, u3_op, u3_or, u3_same, pup_eq, pup_ne, ↓bd_gI, hR.fl x hx]
theorem sp_X3_burntOf {c : CHo} (w : c.WF) {b : CBz} {φ : amSh} {S : amSt} (hφ : φ.1 255 ≠ 0) (hR : RMho c S) (hb : RMbz b S) {x : Nat} (hx : x < c.n) : p_X3_burntOf (iN x) φ S = some (bntS c b x (c.fl x), S) := by
  have hfl := w.fl x hx
  have hn := w.hn
  unfold p_X3_burntOf
  rw [bd_gM hφ, bd_of (a := bntS c b x (c.fl x)) (S1 := S), rt_ap]
  refine alp_st (fun j => (bntS c b x j, iN j)) (fun _ => S) (c.fl x) ?_ ?_ (amFu_lt (by omega))
  · intro j hj rec
    have e : bntS c b x (j + 1) = bntS c b x j + b.bnt (6 * x + j) := rfl
    rw [e]
    unfold p_X3_burntOf_L4
    simp (disch := first | omega | assumption) only [↓bd_rt, ↓bd_bd, ↓bd_ite, ↓bd_jn, ↓jn_ap, ↓ite_ap, ↓bd_gI1, ↓bd_pI1, ↓bd_gR1, ↓bd_pR1, ↓bd_gM, rt_ap, ↓reduceIte, iN_div, iN_divL, iN_add, iN_mul, iN_addL, iN_Ladd, iN_mulL, iN_Lmul, iN_subL, iN_sub, iN_le_T, iN_le_F, iN_lt_T, iN_lt_F, iN_eq_F, iN_leL_T, iN_leL_F, iN_Lle_T, iN_Lle_F, iN_ltL_T, iN_ltL_F, iN_Llt_T, iN_Llt_F, iN_eqL_T, iN_eqL_F, iN_m1, m1_iN, iN_le_m1, m1_le_iN, iN_neg, iN_pos, i10, i01, i00, i11, u3_op, u3_or, u3_same, pup_eq, pup_ne, ↓rI64_1, ↓rI79_1, hR.fl x hx, hb.bnt (6 * x + j) (by omega)]
  · intro rec
    unfold p_X3_burntOf_L4
    dsimp only
    simp (disch := first | omega | assumption) only [↓bd_rt, ↓bd_bd, ↓bd_ite, ↓bd_jn, ↓jn_ap, ↓ite_ap, ↓bd_gI1, ↓bd_pI1, ↓bd_gR1, ↓bd_pR1, ↓bd_gM, rt_ap, ↓reduceIte, iN_div, iN_divL, iN_add, iN_mul, iN_addL, iN_Ladd, iN_mulL, iN_Lmul, iN_subL, iN_sub, iN_le_T, iN_le_F, iN_lt_T, iN_lt_F, iN_eq_F, iN_leL_T, iN_leL_F, iN_Lle_T, iN_Lle_F, iN_ltL_T, iN_ltL_F, iN_Llt_T, iN_Llt_F, iN_eqL_T, iN_eqL_F, iN_m1, m1_iN, iN_le_m1, m1_le_iN, iN_neg, iN_pos, i10, i01, i00, i11, u3_op, u3_or, u3_same, pup_eq, pup_ne, ↓rI64_1, hR.fl x hx]
theorem sp_X1_fallenOf {c : CHo} (w : c.WF) {b : CBz} {φ : amSh} {S : amSt} (hR : RCho c φ S) {x : Nat} (hx : x < c.n) (hb : RCb1 b x (2 * (x + 1) - 1) S) : p_X1_fallenOf (x + 1) φ S = some (iN (falN b x (c.fl x)), S) := by
  have hfl := w.fl x hx
  have hst := hR.stb x hx
  have hst3 := hR.stg x hx
  unfold p_X1_fallenOf
  rw [bd_of (a := iN (falN b x (c.fl x))) (S1 := S), rt_ap]
  refine alp_st (fun j => (iN (falN b x j), iN j)) (fun _ => S) (c.fl x) ?_ ?_ (amFu_lt (by omega))
  · intro j hj rec
    have e : falN b x (j + 1) = if b.fal (6 * x + j) = 0 then falN b x j else falN b x j + 1 := rfl
    rw [e]
    generalize falN b x j = d at *
    unfold p_X1_fallenOf_L4
    by_cases h : b.fal (6 * x + j) = 0
    · rw [if_pos h]
      simp (disch := first | omega | assumption) only [↓bd_rt, ↓bd_bd, ↓bd_ite, ↓bd_jn, ↓jn_ap, ↓ite_ap, ↓bd_gI1, ↓bd_pI1, ↓bd_gR1, ↓bd_pR1, ↓bd_gM, rt_ap, ↓reduceIte, iN_div, iN_divL, iN_add, iN_mul, iN_addL, iN_Ladd, iN_mulL, iN_Lmul, iN_subL, iN_sub, iN_le_T, iN_le_F, iN_lt_T, iN_lt_F, iN_eq_F, iN_leL_T, iN_leL_F, iN_Lle_T, iN_Lle_F, iN_ltL_T, iN_ltL_F, iN_Llt_T, iN_Llt_F, iN_eqL_T, iN_eqL_F, iN_m1, m1_iN, iN_le_m1, m1_le_iN, iN_neg, iN_pos, i10, i01, i00, i11, u3_op, u3_or, u3_same, pup_eq, pup_ne, ↓bd_gI, hR.fl x hx, ↓bd_gC (show x + 1 ≠ 0 by omega) (show 2 < φ.2.1 3 (x + 1) by omega), ↓bd_gC (show 2 * (x + 1) - 1 ≠ 0 by omega) (show 4 < φ.2.1 4 (2 * (x + 1) - 1) by omega), ↓rI149, hb.fal j (by omega), if_pos h]
    · rw [if_neg h]
      simp (disch := first | omega | assumption) only [↓bd_rt, ↓bd_bd, ↓bd_ite, ↓bd_jn, ↓jn_ap, ↓ite_ap, ↓bd_gI1, ↓bd_pI1, ↓bd_gR1, ↓bd_pR1, ↓bd_gM, rt_ap, ↓reduceIte, iN_div, iN_divL, iN_add, iN_mul, iN_addL, iN_Ladd, iN_mulL, iN_Lmul, iN_subL, iN_sub, iN_le_T, iN_le_F, iN_lt_T, iN_lt_F, iN_eq_F, iN_leL_T, iN_leL_F, iN_Lle_T, iN_Lle_F, iN_ltL_T, iN_ltL_F, iN_Llt_T, iN_Llt_F, iN_eqL_T, iN_eqL_F, iN_m1, m1_iN, iN_le_m1, m1_le_iN, iN_neg, iN_pos, i10, i01, i00, i11, u3_op, u3_or, u3_same, pup_eq, pup_ne, ↓bd_gI, hR.fl x hx, ↓bd_gC (show x + 1 ≠ 0 by omega) (show 2 < φ.2.1 3 (x + 1) by omega), ↓bd_gC (show 2 * (x + 1) - 1 ≠ 0 by omega) (show 4 < φ.2.1 4 (2 * (x + 1) - 1) by omega), ↓rI149, hb.fal j (by omega), if_neg h]
  · intro rec
    unfold p_X1_fallenOf_L4
    dsimp only
    simp (disch := first | omega | assumption) only [↓bd_rt, ↓bd_bd, ↓bd_ite, ↓bd_jn, ↓jn_ap, ↓ite_ap, ↓bd_gI1, ↓bd_pI1, ↓bd_gR1, ↓bd_pR1, ↓bd_gM, rt_ap, ↓reduceIte, iN_div, iN_divL, iN_add, iN_mul, iN_addL, iN_Ladd, iN_mulL, iN_Lmul, iN_subL, iN_sub, iN_le_T, iN_le_F, iN_lt_T, iN_lt_F, iN_eq_F, iN_leL_T, iN_leL_F, iN_Lle_T, iN_Lle_F, iN_ltL_T, iN_ltL_F, iN_Llt_T, iN_Llt_F, iN_eqL_T, iN_eqL_F, iN_m1, m1_iN, iN_le_m1, m1_le_iN, iN_neg, iN_pos, i10, i01, i00, i11, u3_op, u3_or, u3_same, pup_eq, pup_ne, ↓bd_gI, hR.fl x hx]
theorem sp_X3_fallen {c : CHo} (w : c.WF) {b : CBz} {φ : amSh} {S : amSt} (hR : RMho c S) (hb : RMbz b S) {x : Nat} (hx : x < c.n) : alp (p_X3_housed_L89 (iN x)) amFu (0, 0) φ S = some (iN (falN b x (c.fl x)), S) := by
  have hfl := w.fl x hx
  have hn := w.hn
  refine alp_st (fun j => (iN (falN b x j), iN j)) (fun _ => S) (c.fl x) ?_ ?_ (amFu_lt (by omega))
  · intro j hj rec
    have e : falN b x (j + 1) = if b.fal (6 * x + j) = 0 then falN b x j else falN b x j + 1 := rfl
    rw [e]
    generalize falN b x j = d at *
    unfold p_X3_housed_L89
    by_cases h : b.fal (6 * x + j) = 0
    · rw [if_pos h]
      simp (disch := first | omega | assumption) only [↓bd_rt, ↓bd_bd, ↓bd_ite, ↓bd_jn, ↓jn_ap, ↓ite_ap, ↓bd_gI1, ↓bd_pI1, ↓bd_gR1, ↓bd_pR1, ↓bd_gM, rt_ap, ↓reduceIte, iN_div, iN_divL, iN_add, iN_mul, iN_addL, iN_Ladd, iN_mulL, iN_Lmul, iN_subL, iN_sub, iN_le_T, iN_le_F, iN_lt_T, iN_lt_F, iN_eq_F, iN_leL_T, iN_leL_F, iN_Lle_T, iN_Lle_F, iN_ltL_T, iN_ltL_F, iN_Llt_T, iN_Llt_F, iN_eqL_T, iN_eqL_F, iN_m1, m1_iN, iN_le_m1, m1_le_iN, iN_neg, iN_pos, i10, i01, i00, i11, u3_op, u3_or, u3_same, pup_eq, pup_ne, ↓rI64_1, ↓rI82_1, hR.fl x hx, hb.fal (6 * x + j) (by omega), if_pos h]
      simp
    · rw [if_neg h]
      simp (disch := first | omega | assumption) only [↓bd_rt, ↓bd_bd, ↓bd_ite, ↓bd_jn, ↓jn_ap, ↓ite_ap, ↓bd_gI1, ↓bd_pI1, ↓bd_gR1, ↓bd_pR1, ↓bd_gM, rt_ap, ↓reduceIte, iN_div, iN_divL, iN_add, iN_mul, iN_addL, iN_Ladd, iN_mulL, iN_Lmul, iN_subL, iN_sub, iN_le_T, iN_le_F, iN_lt_T, iN_lt_F, iN_eq_F, iN_leL_T, iN_leL_F, iN_Lle_T, iN_Lle_F, iN_ltL_T, iN_ltL_F, iN_Llt_T, iN_Llt_F, iN_eqL_T, iN_eqL_F, iN_m1, m1_iN, iN_le_m1, m1_le_iN, iN_neg, iN_pos, i10, i01, i00, i11, u3_op, u3_or, u3_same, pup_eq, pup_ne, ↓rI64_1, ↓rI82_1, hR.fl x hx, hb.fal (6 * x + j) (by omega), if_neg h]
  · intro rec
    unfold p_X3_housed_L89
    dsimp only
    simp (disch := first | omega | assumption) only [↓bd_rt, ↓bd_bd, ↓bd_ite, ↓bd_jn, ↓jn_ap, ↓ite_ap, ↓bd_gI1, ↓bd_pI1, ↓bd_gR1, ↓bd_pR1, ↓bd_gM, rt_ap, ↓reduceIte, iN_div, iN_divL, iN_add, iN_mul, iN_addL, iN_Ladd, iN_mulL, iN_Lmul, iN_subL, iN_sub, iN_le_T, iN_le_F, iN_lt_T, iN_lt_F, iN_eq_F, iN_leL_T, iN_leL_F, iN_Lle_T, iN_Lle_F, iN_ltL_T, iN_ltL_F, iN_Llt_T, iN_Llt_F, iN_eqL_T, iN_eqL_F, iN_m1, m1_iN, iN_le_m1, m1_le_iN, iN_neg, iN_pos, i10, i01, i00, i11, u3_op, u3_or, u3_same, pup_eq, pup_ne, ↓rI64_1, hR.fl x hx]
theorem sp_X1_atWorkIn {cr : CCr} {nh : Nat} (w : cr.WF nh) {φ : amSh} {S : amSt} (hφ : φ.1 255 ≠ 0) (hC : RCcr cr φ S) {x : Nat} : p_X1_atWorkIn (x + 1) φ S = some (iN (wrkN cr x cr.n), S) := by
  have hn := w.hn
  unfold p_X1_atWorkIn
  rw [bd_gM hφ, bd_of (a := iN (wrkN cr x cr.n)) (S1 := S), rt_ap]
  refine alp_st (fun j => (iN (wrkN cr x j), iN j)) (fun _ => S) cr.n ?_ ?_ (amFu_lt (by omega))
  · intro j hj rec
    have e : wrkN cr x (j + 1) = if cr.st j = 2 then (if cr.wk j = x + 1 then wrkN cr x j + 1 else wrkN cr x j) else wrkN cr x j := rfl
    rw [e]
    generalize wrkN cr x j = d at *
    unfold p_X1_atWorkIn_L4
    by_cases h : cr.st j = 2
    · by_cases h2 : cr.wk j = x + 1
      · rw [if_pos h, if_pos h2]
        simp (disch := first | omega | assumption) only [↓bd_rt, ↓bd_bd, ↓bd_ite, ↓bd_jn, ↓jn_ap, ↓ite_ap, ↓bd_gI1, ↓bd_pI1, ↓bd_gR1, ↓bd_pR1, ↓bd_gM, rt_ap, ↓reduceIte, iN_div, iN_divL, iN_add, iN_mul, iN_addL, iN_Ladd, iN_mulL, iN_Lmul, iN_subL, iN_sub, iN_le_T, iN_le_F, iN_lt_T, iN_lt_F, iN_eq_F, iN_leL_T, iN_leL_F, iN_Lle_T, iN_Lle_F, iN_ltL_T, iN_ltL_F, iN_Llt_T, iN_Llt_F, iN_eqL_T, iN_eqL_F, iN_m1, m1_iN, iN_le_m1, m1_le_iN, iN_neg, iN_pos, i10, i01, i00, i11, u3_op, u3_or, u3_same, pup_eq, pup_ne, hC.n, ↓rR28_1, hC.obj j hj, ↓bd_gI, ↓bd_gR, hC.st j hj, hC.wk j hj, if_pos h, if_pos h2]
      · rw [if_pos h, if_neg h2]
        simp (disch := first | omega | assumption) only [↓bd_rt, ↓bd_bd, ↓bd_ite, ↓bd_jn, ↓jn_ap, ↓ite_ap, ↓bd_gI1, ↓bd_pI1, ↓bd_gR1, ↓bd_pR1, ↓bd_gM, rt_ap, ↓reduceIte, iN_div, iN_divL, iN_add, iN_mul, iN_addL, iN_Ladd, iN_mulL, iN_Lmul, iN_subL, iN_sub, iN_le_T, iN_le_F, iN_lt_T, iN_lt_F, iN_eq_F, iN_leL_T, iN_leL_F, iN_Lle_T, iN_Lle_F, iN_ltL_T, iN_ltL_F, iN_Llt_T, iN_Llt_F, iN_eqL_T, iN_eqL_F, iN_m1, m1_iN, iN_le_m1, m1_le_iN, iN_neg, iN_pos, i10, i01, i00, i11, u3_op, u3_or, u3_same, pup_eq, pup_ne, hC.n, ↓rR28_1, hC.obj j hj, ↓bd_gI, ↓bd_gR, hC.st j hj, hC.wk j hj, if_pos h, if_neg h2]
    · rw [if_neg h]
      simp (disch := first | omega | assumption) only [↓bd_rt, ↓bd_bd, ↓bd_ite, ↓bd_jn, ↓jn_ap, ↓ite_ap, ↓bd_gI1, ↓bd_pI1, ↓bd_gR1, ↓bd_pR1, ↓bd_gM, rt_ap, ↓reduceIte, iN_div, iN_divL, iN_add, iN_mul, iN_addL, iN_Ladd, iN_mulL, iN_Lmul, iN_subL, iN_sub, iN_le_T, iN_le_F, iN_lt_T, iN_lt_F, iN_eq_F, iN_leL_T, iN_leL_F, iN_Lle_T, iN_Lle_F, iN_ltL_T, iN_ltL_F, iN_Llt_T, iN_Llt_F, iN_eqL_T, iN_eqL_F, iN_m1, m1_iN, iN_le_m1, m1_le_iN, iN_neg, iN_pos, i10, i01, i00, i11, u3_op, u3_or, u3_same, pup_eq, pup_ne, hC.n, ↓rR28_1, hC.obj j hj, ↓bd_gI, hC.st j hj, if_neg h]
  · intro rec
    unfold p_X1_atWorkIn_L4
    dsimp only
    simp (disch := first | omega | assumption) only [↓bd_rt, ↓bd_bd, ↓bd_ite, ↓bd_jn, ↓jn_ap, ↓ite_ap, ↓bd_gI1, ↓bd_pI1, ↓bd_gR1, ↓bd_pR1, ↓bd_gM, rt_ap, ↓reduceIte, iN_div, iN_divL, iN_add, iN_mul, iN_addL, iN_Ladd, iN_mulL, iN_Lmul, iN_subL, iN_sub, iN_le_T, iN_le_F, iN_lt_T, iN_lt_F, iN_eq_F, iN_leL_T, iN_leL_F, iN_Lle_T, iN_Lle_F, iN_ltL_T, iN_ltL_F, iN_Llt_T, iN_Llt_F, iN_eqL_T, iN_eqL_F, iN_m1, m1_iN, iN_le_m1, m1_le_iN, iN_neg, iN_pos, i10, i01, i00, i11, u3_op, u3_or, u3_same, pup_eq, pup_ne, hC.n]
theorem sp_X3_atWork {cr : CCr} {nh : Nat} (w : cr.WF nh) (hnh : nh ≤ 12) {φ : amSh} {S : amSt} (hC : RMcr cr S) {x : Nat} (hx : x < 12) : alp (p_X3_housed_L134 (iN x)) amFu (0, 0) φ S = some (iN (wrkN cr x cr.n), S) := by
  have hn := w.hn
  refine alp_st (fun j => (iN (wrkN cr x j), iN j)) (fun _ => S) cr.n ?_ ?_ (amFu_lt (by omega))
  · intro j hj rec
    have e : wrkN cr x (j + 1) = if cr.st j = 2 then (if cr.wk j = x + 1 then wrkN cr x j + 1 else wrkN cr x j) else wrkN cr x j := rfl
    rw [e]
    have hwj := (w.wk j hj).1
    have eo := oW_inj (a := cr.wk j) (h := x) (by omega) (by omega)
    generalize wrkN cr x j = d at *
    unfold p_X3_housed_L134
    by_cases h : cr.st j = 2
    · by_cases h2 : cr.wk j = x + 1
      · have h3 : oW (cr.wk j) = iN x := by rw [eo]; exact h2
        rw [if_pos h, if_pos h2]
        simp (disch := first | omega | assumption) only [↓bd_rt, ↓bd_bd, ↓bd_ite, ↓bd_jn, ↓jn_ap, ↓ite_ap, ↓bd_gI1, ↓bd_pI1, ↓bd_gR1, ↓bd_pR1, ↓bd_gM, rt_ap, ↓reduceIte, iN_div, iN_divL, iN_add, iN_mul, iN_addL, iN_Ladd, iN_mulL, iN_Lmul, iN_subL, iN_sub, iN_le_T, iN_le_F, iN_lt_T, iN_lt_F, iN_eq_F, iN_leL_T, iN_leL_F, iN_Lle_T, iN_Lle_F, iN_ltL_T, iN_ltL_F, iN_Llt_T, iN_Llt_F, iN_eqL_T, iN_eqL_F, iN_m1, m1_iN, iN_le_m1, m1_le_iN, iN_neg, iN_pos, i10, i01, i00, i11, u3_op, u3_or, u3_same, pup_eq, pup_ne, hC.n, ↓rI94_1, ↓rI98_1, hC.st j hj, hC.wk j hj, if_pos h, if_pos h3]
      · have h3 : ¬ oW (cr.wk j) = iN x := by rw [eo]; exact h2
        rw [if_pos h, if_neg h2]
        simp (disch := first | omega | assumption) only [↓bd_rt, ↓bd_bd, ↓bd_ite, ↓bd_jn, ↓jn_ap, ↓ite_ap, ↓bd_gI1, ↓bd_pI1, ↓bd_gR1, ↓bd_pR1, ↓bd_gM, rt_ap, ↓reduceIte, iN_div, iN_divL, iN_add, iN_mul, iN_addL, iN_Ladd, iN_mulL, iN_Lmul, iN_subL, iN_sub, iN_le_T, iN_le_F, iN_lt_T, iN_lt_F, iN_eq_F, iN_leL_T, iN_leL_F, iN_Lle_T, iN_Lle_F, iN_ltL_T, iN_ltL_F, iN_Llt_T, iN_Llt_F, iN_eqL_T, iN_eqL_F, iN_m1, m1_iN, iN_le_m1, m1_le_iN, iN_neg, iN_pos, i10, i01, i00, i11, u3_op, u3_or, u3_same, pup_eq, pup_ne, hC.n, ↓rI94_1, ↓rI98_1, hC.st j hj, hC.wk j hj, if_pos h, if_neg h3]
        simp
    · rw [if_neg h]
      simp (disch := first | omega | assumption) only [↓bd_rt, ↓bd_bd, ↓bd_ite, ↓bd_jn, ↓jn_ap, ↓ite_ap, ↓bd_gI1, ↓bd_pI1, ↓bd_gR1, ↓bd_pR1, ↓bd_gM, rt_ap, ↓reduceIte, iN_div, iN_divL, iN_add, iN_mul, iN_addL, iN_Ladd, iN_mulL, iN_Lmul, iN_subL, iN_sub, iN_le_T, iN_le_F, iN_lt_T, iN_lt_F, iN_eq_F, iN_leL_T, iN_leL_F, iN_Lle_T, iN_Lle_F, iN_ltL_T, iN_ltL_F, iN_Llt_T, iN_Llt_F, iN_eqL_T, iN_eqL_F, iN_m1, m1_iN, iN_le_m1, m1_le_iN, iN_neg, iN_pos, i10, i01, i00, i11, u3_op, u3_or, u3_same, pup_eq, pup_ne, hC.n, ↓rI94_1, hC.st j hj, if_neg h]
      simp
  · intro rec
    unfold p_X3_housed_L134
    dsimp only
    simp (disch := first | omega | assumption) only [↓bd_rt, ↓bd_bd, ↓bd_ite, ↓bd_jn, ↓jn_ap, ↓ite_ap, ↓bd_gI1, ↓bd_pI1, ↓bd_gR1, ↓bd_pR1, ↓bd_gM, rt_ap, ↓reduceIte, iN_div, iN_divL, iN_add, iN_mul, iN_addL, iN_Ladd, iN_mulL, iN_Lmul, iN_subL, iN_sub, iN_le_T, iN_le_F, iN_lt_T, iN_lt_F, iN_eq_F, iN_leL_T, iN_leL_F, iN_Lle_T, iN_Lle_F, iN_ltL_T, iN_ltL_F, iN_Llt_T, iN_Llt_F, iN_eqL_T, iN_eqL_F, iN_m1, m1_iN, iN_le_m1, m1_le_iN, iN_neg, iN_pos, i10, i01, i00, i11, u3_op, u3_or, u3_same, pup_eq, pup_ne, hC.n]
def housedOp (c : CHo) (b : CBz) (cr : CCr) (a1 a2 : Int32) : Int32 := if inN a1 c.n then (if a2 = 0 then iN (brnN c b a1.toNatClampNeg) else if a2 = 1 then bntS c b a1.toNatClampNeg (c.fl a1.toNatClampNeg) else if a2 = 2 then c.sav a1.toNatClampNeg else if a2 = 3 then c.lost a1.toNatClampNeg else if a2 = 4 then iN (falN b a1.toNatClampNeg (c.fl a1.toNatClampNeg)) else if a2 = 5 then iN (wrkN cr a1.toNatClampNeg cr.n) else if a2 = 6 then c.gal a1.toNatClampNeg else -1) else -1
theorem op_X1_housed {c : CHo} (w : c.WF) {b : CBz} {cr : CCr} {nh : Nat} (wc : cr.WF nh) {φ : amSh} {S : amSt} (hφ : φ.1 255 ≠ 0) (hR : RCho c φ S) (hb : RCbk b c.n false S) (hC : RCcr cr φ S) {a1 a2 : Int32} : p_X1_housed a1 a2 φ S = some (housedOp c b cr a1 a2, S) := by
  have hn := w.hn
  unfold p_X1_housed housedOp
  rw [bd_gM hφ, bd_of (sp_X1_isHouse w hR)]
  by_cases h1 : inN a1 c.n
  · obtain ⟨x, hx, rfl⟩ := h1.ex (by omega)
    have hbx : RCb1 b x (2 * (x + 1) - 1) S := hb x hx
    have hst3 := hR.stg x hx
    rw [ip h1, if_neg (by decide), if_pos h1, iN_nat (by omega), rR24_1 (by omega), hR.obj x hx]
    by_cases h : a2 = 0
    · rw [if_pos h, if_pos h, bd_nn (by omega), bd_of (sp_X5_burning w hR hx hbx), rt_ap]
    rw [if_neg h, if_neg h]
    by_cases h : a2 = 1
    · rw [if_pos h, if_pos h, bd_gC (by omega) (show 2 < φ.2.1 3 (x + 1) by omega), bd_of (sp_X1_burntOf w hR hx hbx (by omega) (hR.stb x hx)), rt_ap]
    rw [if_neg h, if_neg h]
    by_cases h : a2 = 2
    · rw [if_pos h, if_pos h, bd_gI (by omega), hR.sav x hx, rt_ap]
    rw [if_neg h, if_neg h]
    by_cases h : a2 = 3
    · rw [if_pos h, if_pos h, bd_gI (by omega), hR.lost x hx, rt_ap]
    rw [if_neg h, if_neg h]
    by_cases h : a2 = 4
    · rw [if_pos h, if_pos h, bd_of (sp_X1_fallenOf w hR hx hbx), rt_ap]
    rw [if_neg h, if_neg h]
    by_cases h : a2 = 5
    · rw [if_pos h, if_pos h, bd_of (sp_X1_atWorkIn wc hφ hC), rt_ap]
    rw [if_neg h, if_neg h]
    by_cases h : a2 = 6
    · rw [if_pos h, if_pos h, bd_gI (by omega), hR.gal x hx, rt_ap]
    rw [if_neg h, if_neg h, rt_ap]
  · rw [iq h1, if_pos rfl, if_neg h1, rt_ap]
theorem op_X3_housed {c : CHo} (w : c.WF) {b : CBz} {cr : CCr} {nh : Nat} (wc : cr.WF nh) (hnh : nh ≤ 12) {φ : amSh} {S : amSt} (hφ : φ.1 255 ≠ 0) (hR0 : RMho c S) (hb0 : RMbz b S) (hC0 : RMcr cr S) {a1 a2 : Int32} : p_X3_housed a1 a2 φ S = some (housedOp c b cr a1 a2, (u3 S.1 1 1 0 0, S.2)) := by
  have hn := w.hn
  have hR := hR0.fr th0 (by decide)
  have hb := hb0.fr th0 (by decide)
  have hC := hC0.fr th0 (by decide)
  unfold p_X3_housed housedOp
  rw [bd_gM hφ, bd_pI1, bd_of (sp_X3_isHouse hR)]
  by_cases h1 : inN a1 c.n
  · obtain ⟨x, hx, rfl⟩ := h1.ex (by omega)
    rw [ip h1, if_neg (by decide), if_pos h1, iN_nat (by omega)]
    by_cases h : a2 = 0
    · rw [if_pos h, if_pos h, bd_of (sp_X3_burning w hφ hR hb hx), rt_ap]
    rw [if_neg h, if_neg h]
    by_cases h : a2 = 1
    · rw [if_pos h, if_pos h, bd_of (sp_X3_burntOf w hφ hR hb hx), rt_ap]
    rw [if_neg h, if_neg h]
    by_cases h : a2 = 2
    · rw [if_pos h, if_pos h, rI70_1 (by omega), hR.sav x (by omega), rt_ap]
    rw [if_neg h, if_neg h]
    by_cases h : a2 = 3
    · rw [if_pos h, if_pos h, rI71_1 (by omega), hR.lost x (by omega), rt_ap]
    rw [if_neg h, if_neg h]
    by_cases h : a2 = 4
    · rw [if_pos h, if_pos h, bd_of (sp_X3_fallen w hR hb hx), rt_ap]
    rw [if_neg h, if_neg h]
    by_cases h : a2 = 5
    · rw [if_pos h, if_pos h, bd_of (sp_X3_atWork wc hnh hC (by omega)), rt_ap]
    rw [if_neg h, if_neg h]
    by_cases h : a2 = 6
    · rw [if_pos h, if_pos h, rI72_1 (by omega), hR.gal x (by omega), rt_ap]
    rw [if_neg h, if_neg h, rt_ap]
  · rw [iq h1, if_pos rfl, if_neg h1, rt_ap]
