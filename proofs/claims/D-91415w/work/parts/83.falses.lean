/-! PURE: false calls; what a call is like -/
def falJ (c : CCa) (cor part j : Nat) : Nat × Nat := itn (fun k p => if c.cor k = cor then (if c.what k = 0 then p else if c.beg k / 360 % 4 = part then (p.1 + 1, p.2 + (if c.what k = 2 then 1 else 0)) else p) else p) (0, 0) j
theorem falJ_le {c : CCa} {cor part : Nat} : ∀ j, (falJ c cor part j).1 ≤ j ∧ (falJ c cor part j).2 ≤ j := by
  intro j
  induction j with
  | zero => exact ⟨Nat.le_refl _, Nat.le_refl _⟩
  | succ j ih =>
    have e : falJ c cor part (j + 1) = (if c.cor j = cor then (if c.what j = 0 then falJ c cor part j else if c.beg j / 360 % 4 = part then ((falJ c cor part j).1 + 1, (falJ c cor part j).2 + (if c.what j = 2 then 1 else 0)) else falJ c cor part j) else falJ c cor part j) := rfl
    rw [e]
    split
    · split
      · omega
      · split
        · dsimp only
          split <;> omega
        · omega
    · omega
def falS (c : CCa) (cor part : Nat) : Int32 := if (falJ c cor part c.n).1 = 0 then 0 else iN (100 * (falJ c cor part c.n).2 / (falJ c cor part c.n).1)
theorem sp_X1_falsely {c : CCa} (w : c.WF) {φ : amSh} {S : amSt} (hφ : φ.1 255 ≠ 0) (hR : RCca c φ S) {cor part : Nat} (hc : cor < 20) (hp : part < 4) : p_X1_falsely (iN cor) (iN part) φ S = some (falS c cor part, S) := by
  have hn := w.hn
  have hle := falJ_le (c := c) (cor := cor) (part := part) c.n
  have key : alp (p_X1_falsely_L8 (iN cor) (iN part)) amFu (0, 0, 0) φ S = some ((iN (falJ c cor part c.n).1, iN (falJ c cor part c.n).2), S) := by
    refine alp_st (fun j => (iN (falJ c cor part j).1, iN (falJ c cor part j).2, iN j)) (fun _ => S) c.n ?_ ?_ (amFu_lt (by omega))
    · intro j hj rec
      have hcj := w.cor j hj
      have hbj := w.beg j hj
      have e : falJ c cor part (j + 1) = (if c.cor j = cor then (if c.what j = 0 then falJ c cor part j else if c.beg j / 360 % 4 = part then ((falJ c cor part j).1 + 1, (falJ c cor part j).2 + (if c.what j = 2 then 1 else 0)) else falJ c cor part j) else falJ c cor part j) := rfl
      rw [e]
      generalize falJ c cor part j = d at *
      unfold p_X1_falsely_L8
      by_cases c1 : c.cor j = cor
      · by_cases c2 : c.what j = 0
        · rw [if_pos c1, if_pos c2]
          simp (disch := first | omega | assumption) only [↓bd_rt, ↓bd_bd, ↓bd_ite, ↓bd_jn, ↓jn_ap, ↓ite_ap, ↓bd_gI1, ↓bd_pI1, ↓bd_gR1, ↓bd_pR1, ↓bd_gM, rt_ap, ↓reduceIte, iN_div, iN_divL, iN_add, iN_mul, iN_addL, iN_Ladd, iN_mulL, iN_Lmul, iN_subL, iN_sub, iN_le_T, iN_le_F, iN_lt_T, iN_lt_F, iN_eq_F, iN_leL_T, iN_leL_F, iN_Lle_T, iN_Lle_F, iN_ltL_T, iN_ltL_F, iN_Llt_T, iN_Llt_F, iN_eqL_T, iN_eqL_F, iN_m1, m1_iN, iN_le_m1, m1_le_iN, iN_neg, iN_pos, i10, i01, i00, i11, u3_op, u3_or, u3_same, pup_eq, pup_ne, hR.n, ↓rR32_1, hR.obj j hj, ↓bd_gI, hR.cor j hj, hR.what j hj, c1, c2, if_true]
        · by_cases c3 : c.beg j / 360 % 4 = part
          · by_cases c4 : c.what j = 2
            · rw [if_pos c1, if_neg c2, if_pos c3, if_pos c4]
              simp (disch := first | omega | assumption) only [↓bd_rt, ↓bd_bd, ↓bd_ite, ↓bd_jn, ↓jn_ap, ↓ite_ap, ↓bd_gI1, ↓bd_pI1, ↓bd_gR1, ↓bd_pR1, ↓bd_gM, rt_ap, ↓reduceIte, iN_div, iN_divL, iN_add, iN_mul, iN_addL, iN_Ladd, iN_mulL, iN_Lmul, iN_subL, iN_sub, iN_le_T, iN_le_F, iN_lt_T, iN_lt_F, iN_eq_F, iN_leL_T, iN_leL_F, iN_Lle_T, iN_Lle_F, iN_ltL_T, iN_ltL_F, iN_Llt_T, iN_Llt_F, iN_eqL_T, iN_eqL_F, iN_m1, m1_iN, iN_le_m1, m1_le_iN, iN_neg, iN_pos, i10, i01, i00, i11, u3_op, u3_or, u3_same, pup_eq, pup_ne, hR.n, ↓rR32_1, hR.obj j hj, ↓bd_gI, hR.cor j hj, hR.what j hj, hR.beg j hj, c1, if_true, if_neg c2, ↓bd_of (sp_X1_partOf (t := c.beg j) (by omega)), c3, if_pos c4]
            · rw [if_pos c1, if_neg c2, if_pos c3, if_neg c4]
              simp (disch := first | omega | assumption) only [↓bd_rt, ↓bd_bd, ↓bd_ite, ↓bd_jn, ↓jn_ap, ↓ite_ap, ↓bd_gI1, ↓bd_pI1, ↓bd_gR1, ↓bd_pR1, ↓bd_gM, rt_ap, ↓reduceIte, iN_div, iN_divL, iN_add, iN_mul, iN_addL, iN_Ladd, iN_mulL, iN_Lmul, iN_subL, iN_sub, iN_le_T, iN_le_F, iN_lt_T, iN_lt_F, iN_eq_F, iN_leL_T, iN_leL_F, iN_Lle_T, iN_Lle_F, iN_ltL_T, iN_ltL_F, iN_Llt_T, iN_Llt_F, iN_eqL_T, iN_eqL_F, iN_m1, m1_iN, iN_le_m1, m1_le_iN, iN_neg, iN_pos, i10, i01, i00, i11, u3_op, u3_or, u3_same, pup_eq, pup_ne, hR.n, ↓rR32_1, hR.obj j hj, ↓bd_gI, hR.cor j hj, hR.what j hj, hR.beg j hj, c1, if_true, if_neg c2, ↓bd_of (sp_X1_partOf (t := c.beg j) (by omega)), c3, if_neg c4]
          · rw [if_pos c1, if_neg c2, if_neg c3]
            have c5 : ¬ iN (c.beg j / 360 % 4) = iN part := by rw [iN_inj (by omega) (by omega)]; exact c3
            simp (disch := first | omega | assumption) only [↓bd_rt, ↓bd_bd, ↓bd_ite, ↓bd_jn, ↓jn_ap, ↓ite_ap, ↓bd_gI1, ↓bd_pI1, ↓bd_gR1, ↓bd_pR1, ↓bd_gM, rt_ap, ↓reduceIte, iN_div, iN_divL, iN_add, iN_mul, iN_addL, iN_Ladd, iN_mulL, iN_Lmul, iN_subL, iN_sub, iN_le_T, iN_le_F, iN_lt_T, iN_lt_F, iN_eq_F, iN_leL_T, iN_leL_F, iN_Lle_T, iN_Lle_F, iN_ltL_T, iN_ltL_F, iN_Llt_T, iN_Llt_F, iN_eqL_T, iN_eqL_F, iN_m1, m1_iN, iN_le_m1, m1_le_iN, iN_neg, iN_pos, i10, i01, i00, i11, u3_op, u3_or, u3_same, pup_eq, pup_ne, hR.n, ↓rR32_1, hR.obj j hj, ↓bd_gI, hR.cor j hj, hR.what j hj, hR.beg j hj, c1, if_true, if_neg c2, ↓bd_of (sp_X1_partOf (t := c.beg j) (by omega)), if_neg c5]
      · rw [if_neg c1]
        simp (disch := first | omega | assumption) only [↓bd_rt, ↓bd_bd, ↓bd_ite, ↓bd_jn, ↓jn_ap, ↓ite_ap, ↓bd_gI1, ↓bd_pI1, ↓bd_gR1, ↓bd_pR1, ↓bd_gM, rt_ap, ↓reduceIte, iN_div, iN_divL, iN_add, iN_mul, iN_addL, iN_Ladd, iN_mulL, iN_Lmul, iN_subL, iN_sub, iN_le_T, iN_le_F, iN_lt_T, iN_lt_F, iN_eq_F, iN_leL_T, iN_leL_F, iN_Lle_T, iN_Lle_F, iN_ltL_T, iN_ltL_F, iN_Llt_T, iN_Llt_F, iN_eqL_T, iN_eqL_F, iN_m1, m1_iN, iN_le_m1, m1_le_iN, iN_neg, iN_pos, i10, i01, i00, i11, u3_op, u3_or, u3_same, pup_eq, pup_ne, hR.n, ↓rR32_1, hR.obj j hj, ↓bd_gI, hR.cor j hj]
    · intro rec
      unfold p_X1_falsely_L8
      dsimp only
      simp (disch := first | omega | assumption) only [↓bd_rt, ↓bd_bd, ↓bd_ite, ↓bd_jn, ↓jn_ap, ↓ite_ap, ↓bd_gI1, ↓bd_pI1, ↓bd_gR1, ↓bd_pR1, ↓bd_gM, rt_ap, ↓reduceIte, iN_div, iN_divL, iN_add, iN_mul, iN_addL, iN_Ladd, iN_mulL, iN_Lmul, iN_subL, iN_sub, iN_le_T, iN_le_F, iN_lt_T, iN_lt_F, iN_eq_F, iN_leL_T, iN_leL_F, iN_Lle_T, iN_Lle_F, iN_ltL_T, iN_ltL_F, iN_Llt_T, iN_Llt_F, iN_eqL_T, iN_eqL_F, iN_m1, m1_iN, iN_le_m1, m1_le_iN, iN_neg, iN_pos, i10, i01, i00, i11, u3_op, u3_or, u3_same, pup_eq, pup_ne, hR.n]
  unfold p_X1_falsely falS
  rw [bd_gM hφ, bd_of key]
  dsimp only
  by_cases h0 : (falJ c cor part c.n).1 = 0
  · rw [if_pos h0, if_pos (by rw [h0]; rfl), rt_ap]
  · rw [if_neg h0, if_neg (by rw [show (0 : Int32) = iN 0 from rfl, iN_inj (by omega) (by decide)]; exact h0), bd_nz (by omega) (by omega), rt_ap, show (100 : Int32) * iN (falJ c cor part c.n).2 = iN (100 * (falJ c cor part c.n).2) from iN_mul, iN_div (by omega) (by omega)]
theorem sp_X3_falseOf {c : CCa} (w : c.WF) {φ : amSh} {S : amSt} (hφ : φ.1 255 ≠ 0) (hR : RMca c S) {cor part : Nat} (hc : cor < 20) (hp : part < 4) : p_X3_falseOf (iN cor) (iN part) φ S = some (falS c cor part, S) := by
  have hn := w.hn
  have hle := falJ_le (c := c) (cor := cor) (part := part) c.n
  have key : alp (p_X3_falseOf_L8 (iN cor) (iN part)) amFu (0, 0, 0) φ S = some ((iN (falJ c cor part c.n).1, iN (falJ c cor part c.n).2), S) := by
    refine alp_st (fun j => (iN (falJ c cor part j).1, iN (falJ c cor part j).2, iN j)) (fun _ => S) c.n ?_ ?_ (amFu_lt (by omega))
    · intro j hj rec
      have hcj := w.cor j hj
      have hbj := w.beg j hj
      have e : falJ c cor part (j + 1) = (if c.cor j = cor then (if c.what j = 0 then falJ c cor part j else if c.beg j / 360 % 4 = part then ((falJ c cor part j).1 + 1, (falJ c cor part j).2 + (if c.what j = 2 then 1 else 0)) else falJ c cor part j) else falJ c cor part j) := rfl
      rw [e]
      generalize falJ c cor part j = d at *
      unfold p_X3_falseOf_L8
      by_cases c1 : c.cor j = cor
      · by_cases c2 : c.what j = 0
        · rw [if_pos c1, if_pos c2]
          simp (disch := first | omega | assumption) only [↓bd_rt, ↓bd_bd, ↓bd_ite, ↓bd_jn, ↓jn_ap, ↓ite_ap, ↓bd_gI1, ↓bd_pI1, ↓bd_gR1, ↓bd_pR1, ↓bd_gM, rt_ap, ↓reduceIte, iN_div, iN_divL, iN_add, iN_mul, iN_addL, iN_Ladd, iN_mulL, iN_Lmul, iN_subL, iN_sub, iN_le_T, iN_le_F, iN_lt_T, iN_lt_F, iN_eq_F, iN_leL_T, iN_leL_F, iN_Lle_T, iN_Lle_F, iN_ltL_T, iN_ltL_F, iN_Llt_T, iN_Llt_F, iN_eqL_T, iN_eqL_F, iN_m1, m1_iN, iN_le_m1, m1_le_iN, iN_neg, iN_pos, i10, i01, i00, i11, u3_op, u3_or, u3_same, pup_eq, pup_ne, hR.n, ↓rI115_1, ↓rI117_1, hR.cor j hj, hR.what j (by omega), c1, c2, if_true]
        · by_cases c3 : c.beg j / 360 % 4 = part
          · by_cases c4 : c.what j = 2
            · rw [if_pos c1, if_neg c2, if_pos c3, if_pos c4]
              simp (disch := first | omega | assumption) only [↓bd_rt, ↓bd_bd, ↓bd_ite, ↓bd_jn, ↓jn_ap, ↓ite_ap, ↓bd_gI1, ↓bd_pI1, ↓bd_gR1, ↓bd_pR1, ↓bd_gM, rt_ap, ↓reduceIte, iN_div, iN_divL, iN_add, iN_mul, iN_addL, iN_Ladd, iN_mulL, iN_Lmul, iN_subL, iN_sub, iN_le_T, iN_le_F, iN_lt_T, iN_lt_F, iN_eq_F, iN_leL_T, iN_leL_F, iN_Lle_T, iN_Lle_F, iN_ltL_T, iN_ltL_F, iN_Llt_T, iN_Llt_F, iN_eqL_T, iN_eqL_F, iN_m1, m1_iN, iN_le_m1, m1_le_iN, iN_neg, iN_pos, i10, i01, i00, i11, u3_op, u3_or, u3_same, pup_eq, pup_ne, hR.n, ↓rI115_1, ↓rI117_1, ↓rI118_1, hR.cor j hj, hR.what j (by omega), hR.beg j hj, c1, if_true, if_neg c2, ↓bd_of (sp_X3_partOf (t := c.beg j) (by omega)), c3, if_pos c4]
            · rw [if_pos c1, if_neg c2, if_pos c3, if_neg c4]
              simp (disch := first | omega | assumption) only [↓bd_rt, ↓bd_bd, ↓bd_ite, ↓bd_jn, ↓jn_ap, ↓ite_ap, ↓bd_gI1, ↓bd_pI1, ↓bd_gR1, ↓bd_pR1, ↓bd_gM, rt_ap, ↓reduceIte, iN_div, iN_divL, iN_add, iN_mul, iN_addL, iN_Ladd, iN_mulL, iN_Lmul, iN_subL, iN_sub, iN_le_T, iN_le_F, iN_lt_T, iN_lt_F, iN_eq_F, iN_leL_T, iN_leL_F, iN_Lle_T, iN_Lle_F, iN_ltL_T, iN_ltL_F, iN_Llt_T, iN_Llt_F, iN_eqL_T, iN_eqL_F, iN_m1, m1_iN, iN_le_m1, m1_le_iN, iN_neg, iN_pos, i10, i01, i00, i11, u3_op, u3_or, u3_same, pup_eq, pup_ne, hR.n, ↓rI115_1, ↓rI117_1, ↓rI118_1, hR.cor j hj, hR.what j (by omega), hR.beg j hj, c1, if_true, if_neg c2, ↓bd_of (sp_X3_partOf (t := c.beg j) (by omega)), c3, if_neg c4]
          · rw [if_pos c1, if_neg c2, if_neg c3]
            have c5 : ¬ iN (c.beg j / 360 % 4) = iN part := by rw [iN_inj (by omega) (by omega)]; exact c3
            simp (disch := first | omega | assumption) only [↓bd_rt, ↓bd_bd, ↓bd_ite, ↓bd_jn, ↓jn_ap, ↓ite_ap, ↓bd_gI1, ↓bd_pI1, ↓bd_gR1, ↓bd_pR1, ↓bd_gM, rt_ap, ↓reduceIte, iN_div, iN_divL, iN_add, iN_mul, iN_addL, iN_Ladd, iN_mulL, iN_Lmul, iN_subL, iN_sub, iN_le_T, iN_le_F, iN_lt_T, iN_lt_F, iN_eq_F, iN_leL_T, iN_leL_F, iN_Lle_T, iN_Lle_F, iN_ltL_T, iN_ltL_F, iN_Llt_T, iN_Llt_F, iN_eqL_T, iN_eqL_F, iN_m1, m1_iN, iN_le_m1, m1_le_iN, iN_neg, iN_pos, i10, i01, i00, i11, u3_op, u3_or, u3_same, pup_eq, pup_ne, hR.n, ↓rI115_1, ↓rI117_1, ↓rI118_1, hR.cor j hj, hR.what j (by omega), hR.beg j hj, c1, if_true, if_neg c2, ↓bd_of (sp_X3_partOf (t := c.beg j) (by omega)), if_neg c5]
      · rw [if_neg c1]
        simp (disch := first | omega | assumption) only [↓bd_rt, ↓bd_bd, ↓bd_ite, ↓bd_jn, ↓jn_ap, ↓ite_ap, ↓bd_gI1, ↓bd_pI1, ↓bd_gR1, ↓bd_pR1, ↓bd_gM, rt_ap, ↓reduceIte, iN_div, iN_divL, iN_add, iN_mul, iN_addL, iN_Ladd, iN_mulL, iN_Lmul, iN_subL, iN_sub, iN_le_T, iN_le_F, iN_lt_T, iN_lt_F, iN_eq_F, iN_leL_T, iN_leL_F, iN_Lle_T, iN_Lle_F, iN_ltL_T, iN_ltL_F, iN_Llt_T, iN_Llt_F, iN_eqL_T, iN_eqL_F, iN_m1, m1_iN, iN_le_m1, m1_le_iN, iN_neg, iN_pos, i10, i01, i00, i11, u3_op, u3_or, u3_same, pup_eq, pup_ne, hR.n, ↓rI115_1, hR.cor j hj]
    · intro rec
      unfold p_X3_falseOf_L8
      dsimp only
      simp (disch := first | omega | assumption) only [↓bd_rt, ↓bd_bd, ↓bd_ite, ↓bd_jn, ↓jn_ap, ↓ite_ap, ↓bd_gI1, ↓bd_pI1, ↓bd_gR1, ↓bd_pR1, ↓bd_gM, rt_ap, ↓reduceIte, iN_div, iN_divL, iN_add, iN_mul, iN_addL, iN_Ladd, iN_mulL, iN_Lmul, iN_subL, iN_sub, iN_le_T, iN_le_F, iN_lt_T, iN_lt_F, iN_eq_F, iN_leL_T, iN_leL_F, iN_Lle_T, iN_Lle_F, iN_ltL_T, iN_ltL_F, iN_Llt_T, iN_Llt_F, iN_eqL_T, iN_eqL_F, iN_m1, m1_iN, iN_le_m1, m1_le_iN, iN_neg, iN_pos, i10, i01, i00, i11, u3_op, u3_or, u3_same, pup_eq, pup_ne, hR.n]
  unfold p_X3_falseOf falS
  rw [bd_gM hφ, bd_of key]
  dsimp only
  by_cases h0 : (falJ c cor part c.n).1 = 0
  · rw [if_pos h0, if_pos (by rw [h0]; rfl), rt_ap]
  · rw [if_neg h0, if_neg (by rw [show (0 : Int32) = iN 0 from rfl, iN_inj (by omega) (by decide)]; exact h0), bd_nz (by omega) (by omega), rt_ap, show (100 : Int32) * iN (falJ c cor part c.n).2 = iN (100 * (falJ c cor part c.n).2) from iN_mul, iN_div (by omega) (by omega)]
def falsOp (c : CCa) (a1 a2 : Int32) : Int32 := if inN a1 20 then if out a2 0 3 then -1 else falS c a1.toNatClampNeg a2.toNatClampNeg else -1
theorem op_X1_falses {c : CCa} (w : c.WF) {φ : amSh} {S : amSt} (hφ : φ.1 255 ≠ 0) (hR : RCca c φ S) {a1 a2 : Int32} : p_X1_falses a1 a2 φ S = some (falsOp c a1 a2, S) := by
  unfold p_X1_falses falsOp
  rw [bd_of sp_X1_isCorner, jn_ap]
  by_cases h1 : inN a1 20
  · rw [ip h1, if_neg (by decide), if_pos h1, bd_of sp_X1_in]
    by_cases h2 : out a2 0 3
    · rw [jp h2, if_pos rfl, if_pos h2]; rfl
    · obtain ⟨x, hx, rfl⟩ := h1.ex (by decide)
      obtain ⟨p, rfl, _, hp⟩ := not_out (lo := 0) (hi := 3) h2 (by decide) (by decide)
      rw [jq h2, if_neg (by decide), if_neg h2, bd_of (sp_X1_falsely w hφ hR hx (by omega)), rt_ap, iN_nat (by omega), iN_nat (by omega)]
  · rw [iq h1, if_pos rfl, if_neg h1]; rfl
theorem op_X3_falses {c : CCa} (w : c.WF) {φ : amSh} {S : amSt} (hφ : φ.1 255 ≠ 0) (hR0 : RMca c S) {a1 a2 : Int32} : p_X3_falses a1 a2 φ S = some (falsOp c a1 a2, (u3 S.1 1 1 0 0, S.2)) := by
  have hR := hR0.fr th0 (by decide)
  unfold p_X3_falses falsOp
  rw [bd_pI1, bd_of sp_X3_isCorner, jn_ap]
  by_cases h1 : inN a1 20
  · rw [ip h1, if_neg (by decide), if_pos h1, bd_of sp_X3_isIn]
    by_cases h2 : out a2 0 3
    · rw [jp h2, if_pos rfl, if_pos h2]; rfl
    · obtain ⟨x, hx, rfl⟩ := h1.ex (by decide)
      obtain ⟨p, rfl, _, hp⟩ := not_out (lo := 0) (hi := 3) h2 (by decide) (by decide)
      rw [jq h2, if_neg (by decide), if_neg h2, bd_of (sp_X3_falseOf w hφ hR hx (by omega)), rt_ap, iN_nat (by omega), iN_nat (by omega)]
  · rw [iq h1, if_pos rfl, if_neg h1]; rfl
