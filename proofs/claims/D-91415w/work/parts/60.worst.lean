/-! PURE: the house of a corner in which most rooms burn -/
def most (c : CHo) (b : CBz) (w : Nat) : Nat := if w = 0 then 0 else brnN c b (w - 1)
def worJ (c : CHo) (b : CBz) (cor j : Nat) : Nat := itn (fun h w => if c.cor h = cor then (if most c b w < brnN c b h then h + 1 else w) else w) 0 j
def worS (c : CHo) (b : CBz) (cor : Nat) : Nat := worJ c b cor c.n
theorem worJ_le {c : CHo} {b : CBz} {cor : Nat} : ∀ j, worJ c b cor j ≤ j := by
  intro j
  induction j with
  | zero => exact Nat.le_refl _
  | succ j ih =>
    show (if c.cor j = cor then (if most c b (worJ c b cor j) < brnN c b j then j + 1 else worJ c b cor j) else worJ c b cor j) ≤ j + 1
    split
    · split <;> omega
    · omega
theorem worJ_ne {c : CHo} {b : CBz} {cor : Nat} : ∀ j, (worJ c b cor j ≠ 0 ↔ ∃ h, h < j ∧ c.cor h = cor ∧ 0 < brnN c b h) := by
  intro j
  induction j with
  | zero => constructor
            · intro h; exact absurd rfl h
            · rintro ⟨h, hh, _⟩; omega
  | succ j ih =>
    have e : worJ c b cor (j + 1) = (if c.cor j = cor then (if most c b (worJ c b cor j) < brnN c b j then j + 1 else worJ c b cor j) else worJ c b cor j) := rfl
    rw [e]
    constructor
    · intro h
      by_cases c1 : c.cor j = cor
      · rw [if_pos c1] at h
        by_cases c2 : most c b (worJ c b cor j) < brnN c b j
        · exact ⟨j, by omega, c1, by omega⟩
        · rw [if_neg c2] at h
          obtain ⟨h', a, b', c'⟩ := ih.mp h
          exact ⟨h', by omega, b', c'⟩
      · rw [if_neg c1] at h
        obtain ⟨h', a, b', c'⟩ := ih.mp h
        exact ⟨h', by omega, b', c'⟩
    · rintro ⟨h', a, b', c'⟩
      by_cases e2 : h' = j
      · subst e2
        rw [if_pos b']
        by_cases c2 : most c b (worJ c b cor h') < brnN c b h'
        · rw [if_pos c2]; omega
        · rw [if_neg c2]
          intro z
          rw [z] at c2
          unfold most at c2
          simp at c2
          omega
      · have := ih.mpr ⟨h', by omega, b', c'⟩
        split
        · split
          · omega
          · exact this
        · exact this
/-- the house found burns, and is of the corner -/
theorem worJ_cor {c : CHo} {b : CBz} {cor : Nat} : ∀ j, worJ c b cor j ≠ 0 → c.cor (worJ c b cor j - 1) = cor := by
  intro j
  induction j with
  | zero => intro h; exact absurd rfl h
  | succ j ih =>
    have e : worJ c b cor (j + 1) = (if c.cor j = cor then (if most c b (worJ c b cor j) < brnN c b j then j + 1 else worJ c b cor j) else worJ c b cor j) := rfl
    rw [e]
    split
    · rename_i c1
      split
      · intro _; exact c1
      · exact ih
    · exact ih
theorem most_le {c : CHo} (w : c.WF) {b : CBz} {x : Nat} (hx : x ≤ c.n) : most c b x ≤ 24 := by
  unfold most
  split
  · omega
  · exact brnN_le w (by omega)
theorem sp_X1_worst {c : CHo} (w : c.WF) {b : CBz} {φ : amSh} {S : amSt} (hφ : φ.1 255 ≠ 0) (hR : RCho c φ S) (hb : RCbk b c.n false S) {cor : Nat} (hc : cor < 20) : p_X1_worst (iN cor) φ S = some (worS c b cor, S) := by
  have hn := w.hn
  unfold p_X1_worst
  rw [bd_gM hφ, bd_of (a := worS c b cor) (S1 := S), rt_ap]
  refine alp_st (fun j => (worJ c b cor j, iN (most c b (worJ c b cor j)), iN j)) (fun _ => S) c.n ?_ ?_ (amFu_lt (by omega))
  · intro j hj rec
    have hle := worJ_le (c := c) (b := b) (cor := cor) j
    have hml := most_le w (b := b) (x := worJ c b cor j) (by omega)
    have hcj := w.cor j hj
    have hbj := brnN_le w (b := b) hj
    have e : worJ c b cor (j + 1) = (if c.cor j = cor then (if most c b (worJ c b cor j) < brnN c b j then j + 1 else worJ c b cor j) else worJ c b cor j) := rfl
    rw [e]
    have hburn := sp_X5_burning w hR hj (hb j hj)
    generalize worJ c b cor j = d at *
    unfold p_X1_worst_L7
    by_cases c1 : c.cor j = cor
    · by_cases c2 : most c b d < brnN c b j
      · rw [if_pos c1, if_pos c2]
        simp (disch := first | omega | assumption) only [↓bd_rt, ↓bd_bd, ↓bd_ite, ↓bd_jn, ↓jn_ap, ↓ite_ap, ↓bd_gI1, ↓bd_pI1, ↓bd_gR1, ↓bd_pR1, ↓bd_gM, rt_ap, ↓reduceIte, iN_div, iN_divL, iN_add, iN_mul, iN_addL, iN_Ladd, iN_mulL, iN_Lmul, iN_subL, iN_sub, iN_le_T, iN_le_F, iN_lt_T, iN_lt_F, iN_eq_F, iN_leL_T, iN_leL_F, iN_Lle_T, iN_Lle_F, iN_ltL_T, iN_ltL_F, iN_Llt_T, iN_Llt_F, iN_eqL_T, iN_eqL_F, iN_m1, m1_iN, iN_le_m1, m1_le_iN, iN_neg, iN_pos, i10, i01, i00, i11, u3_op, u3_or, u3_same, pup_eq, pup_ne, hR.n, ↓rR24_1, hR.obj j hj, ↓bd_gI, hR.cor j hj, c1, if_true, ↓bd_nn, ↓bd_of hburn]
        unfold most
        simp
      · rw [if_pos c1, if_neg c2]
        simp (disch := first | omega | assumption) only [↓bd_rt, ↓bd_bd, ↓bd_ite, ↓bd_jn, ↓jn_ap, ↓ite_ap, ↓bd_gI1, ↓bd_pI1, ↓bd_gR1, ↓bd_pR1, ↓bd_gM, rt_ap, ↓reduceIte, iN_div, iN_divL, iN_add, iN_mul, iN_addL, iN_Ladd, iN_mulL, iN_Lmul, iN_subL, iN_sub, iN_le_T, iN_le_F, iN_lt_T, iN_lt_F, iN_eq_F, iN_leL_T, iN_leL_F, iN_Lle_T, iN_Lle_F, iN_ltL_T, iN_ltL_F, iN_Llt_T, iN_Llt_F, iN_eqL_T, iN_eqL_F, iN_m1, m1_iN, iN_le_m1, m1_le_iN, iN_neg, iN_pos, i10, i01, i00, i11, u3_op, u3_or, u3_same, pup_eq, pup_ne, hR.n, ↓rR24_1, hR.obj j hj, ↓bd_gI, hR.cor j hj, c1, if_true, ↓bd_nn, ↓bd_of hburn]
    · rw [if_neg c1]
      simp (disch := first | omega | assumption) only [↓bd_rt, ↓bd_bd, ↓bd_ite, ↓bd_jn, ↓jn_ap, ↓ite_ap, ↓bd_gI1, ↓bd_pI1, ↓bd_gR1, ↓bd_pR1, ↓bd_gM, rt_ap, ↓reduceIte, iN_div, iN_divL, iN_add, iN_mul, iN_addL, iN_Ladd, iN_mulL, iN_Lmul, iN_subL, iN_sub, iN_le_T, iN_le_F, iN_lt_T, iN_lt_F, iN_eq_F, iN_leL_T, iN_leL_F, iN_Lle_T, iN_Lle_F, iN_ltL_T, iN_ltL_F, iN_Llt_T, iN_Llt_F, iN_eqL_T, iN_eqL_F, iN_m1, m1_iN, iN_le_m1, m1_le_iN, iN_neg, iN_pos, i10, i01, i00, i11, u3_op, u3_or, u3_same, pup_eq, pup_ne, hR.n, ↓rR24_1, hR.obj j hj, ↓bd_gI, hR.cor j hj]
  · intro rec
    unfold p_X1_worst_L7
    dsimp only
    simp (disch := first | omega | assumption) only [↓bd_rt, ↓bd_bd, ↓bd_ite, ↓bd_jn, ↓jn_ap, ↓ite_ap, ↓bd_gI1, ↓bd_pI1, ↓bd_gR1, ↓bd_pR1, ↓bd_gM, rt_ap, ↓reduceIte, iN_div, iN_divL, iN_add, iN_mul, iN_addL, iN_Ladd, iN_mulL, iN_Lmul, iN_subL, iN_sub, iN_le_T, iN_le_F, iN_lt_T, iN_lt_F, iN_eq_F, iN_leL_T, iN_leL_F, iN_Lle_T, iN_Lle_F, iN_ltL_T, iN_ltL_F, iN_Llt_T, iN_Llt_F, iN_eqL_T, iN_eqL_F, iN_m1, m1_iN, iN_le_m1, m1_le_iN, iN_neg, iN_pos, i10, i01, i00, i11, u3_op, u3_or, u3_same, pup_eq, pup_ne, hR.n]
    rfl
theorem sp_X3_worstAt {c : CHo} (w : c.WF) {b : CBz} {φ : amSh} {S : amSt} (hφ : φ.1 255 ≠ 0) (hR : RMho c S) (hb : RMbz b S) {cor : Nat} (hc : cor < 20) : p_X3_worstAt (iN cor) φ S = some (oW (worS c b cor), S) := by
  have hn := w.hn
  unfold p_X3_worstAt
  rw [bd_gM hφ, bd_of (a := oW (worS c b cor)) (S1 := S), rt_ap]
  refine alp_st (fun j => (oW (worJ c b cor j), iN j)) (fun _ => S) c.n ?_ ?_ (amFu_lt (by omega))
  · intro j hj rec
    have hle := worJ_le (c := c) (b := b) (cor := cor) j
    have hml := most_le w (b := b) (x := worJ c b cor j) (by omega)
    have hcj := w.cor j hj
    have hbj := brnN_le w (b := b) hj
    have e : worJ c b cor (j + 1) = (if c.cor j = cor then (if most c b (worJ c b cor j) < brnN c b j then j + 1 else worJ c b cor j) else worJ c b cor j) := rfl
    rw [e]
    have hburn := sp_X3_burning w hφ hR hb hj
    generalize worJ c b cor j = d at *
    unfold p_X3_worstAt_L4
    by_cases c1 : c.cor j = cor
    · by_cases d0 : d = 0
      · subst d0
        by_cases c2 : most c b 0 < brnN c b j
        · have c3 : 0 < brnN c b j := by omega
          rw [if_pos c1, if_pos c2]
          simp (disch := first | omega | assumption) only [↓bd_rt, ↓bd_bd, ↓bd_ite, ↓bd_jn, ↓jn_ap, ↓ite_ap, ↓bd_gI1, ↓bd_pI1, ↓bd_gR1, ↓bd_pR1, ↓bd_gM, rt_ap, ↓reduceIte, iN_div, iN_divL, iN_add, iN_mul, iN_addL, iN_Ladd, iN_mulL, iN_Lmul, iN_subL, iN_sub, iN_le_T, iN_le_F, iN_lt_T, iN_lt_F, iN_eq_F, iN_leL_T, iN_leL_F, iN_Lle_T, iN_Lle_F, iN_ltL_T, iN_ltL_F, iN_Llt_T, iN_Llt_F, iN_eqL_T, iN_eqL_F, iN_m1, m1_iN, iN_le_m1, m1_le_iN, iN_neg, iN_pos, i10, i01, i00, i11, u3_op, u3_or, u3_same, pup_eq, pup_ne, hR.n, ↓rI62_1, hR.cor j hj, c1, if_true, ↓bd_of hburn, oW_0, oW_s]
        · have c3 : brnN c b j = 0 := by unfold most at c2; simp at c2; omega
          rw [if_pos c1, if_neg c2]
          simp (disch := first | omega | assumption) only [↓bd_rt, ↓bd_bd, ↓bd_ite, ↓bd_jn, ↓jn_ap, ↓ite_ap, ↓bd_gI1, ↓bd_pI1, ↓bd_gR1, ↓bd_pR1, ↓bd_gM, rt_ap, ↓reduceIte, iN_div, iN_divL, iN_add, iN_mul, iN_addL, iN_Ladd, iN_mulL, iN_Lmul, iN_subL, iN_sub, iN_le_T, iN_le_F, iN_lt_T, iN_lt_F, iN_eq_F, iN_leL_T, iN_leL_F, iN_Lle_T, iN_Lle_F, iN_ltL_T, iN_ltL_F, iN_Llt_T, iN_Llt_F, iN_eqL_T, iN_eqL_F, iN_m1, m1_iN, iN_le_m1, m1_le_iN, iN_neg, iN_pos, i10, i01, i00, i11, u3_op, u3_or, u3_same, pup_eq, pup_ne, hR.n, ↓rI62_1, hR.cor j hj, c1, if_true, ↓bd_of hburn, oW_0, c3]
      · obtain ⟨x, rfl⟩ : ∃ x, d = x + 1 := ⟨d - 1, by omega⟩
        have hb2 := sp_X3_burning w hφ hR hb (h := x) (by omega)
        have hm : most c b (x + 1) = brnN c b x := by unfold most; simp
        have hbx := brnN_le w (b := b) (h := x) (by omega)
        rw [hm]
        by_cases c2 : brnN c b x < brnN c b j
        · rw [if_pos c1, if_pos c2]
          simp (disch := first | omega | assumption) only [↓bd_rt, ↓bd_bd, ↓bd_ite, ↓bd_jn, ↓jn_ap, ↓ite_ap, ↓bd_gI1, ↓bd_pI1, ↓bd_gR1, ↓bd_pR1, ↓bd_gM, rt_ap, ↓reduceIte, iN_div, iN_divL, iN_add, iN_mul, iN_addL, iN_Ladd, iN_mulL, iN_Lmul, iN_subL, iN_sub, iN_le_T, iN_le_F, iN_lt_T, iN_lt_F, iN_eq_F, iN_leL_T, iN_leL_F, iN_Lle_T, iN_Lle_F, iN_ltL_T, iN_ltL_F, iN_Llt_T, iN_Llt_F, iN_eqL_T, iN_eqL_F, iN_m1, m1_iN, iN_le_m1, m1_le_iN, iN_neg, iN_pos, i10, i01, i00, i11, u3_op, u3_or, u3_same, pup_eq, pup_ne, hR.n, ↓rI62_1, hR.cor j hj, c1, if_true, ↓bd_of hburn, oW_s, ↓bd_of hb2]
        · rw [if_pos c1, if_neg c2]
          simp (disch := first | omega | assumption) only [↓bd_rt, ↓bd_bd, ↓bd_ite, ↓bd_jn, ↓jn_ap, ↓ite_ap, ↓bd_gI1, ↓bd_pI1, ↓bd_gR1, ↓bd_pR1, ↓bd_gM, rt_ap, ↓reduceIte, iN_div, iN_divL, iN_add, iN_mul, iN_addL, iN_Ladd, iN_mulL, iN_Lmul, iN_subL, iN_sub, iN_le_T, iN_le_F, iN_lt_T, iN_lt_F, iN_eq_F, iN_leL_T, iN_leL_F, iN_Lle_T, iN_Lle_F, iN_ltL_T, iN_ltL_F, iN_Llt_T, iN_Llt_F, iN_eqL_T, iN_eqL_F, iN_m1, m1_iN, iN_le_m1, m1_le_iN, iN_neg, iN_pos, i10, i01, i00, i11, u3_op, u3_or, u3_same, pup_eq, pup_ne, hR.n, ↓rI62_1, hR.cor j hj, c1, if_true, ↓bd_of hburn, oW_s, ↓bd_of hb2]
    · rw [if_neg c1]
      simp (disch := first | omega | assumption) only [↓bd_rt, ↓bd_bd, ↓bd_ite, ↓bd_jn, ↓jn_ap, ↓ite_ap, ↓bd_gI1, ↓bd_pI1, ↓bd_gR1, ↓bd_pR1, ↓bd_gM, rt_ap, ↓reduceIte, iN_div, iN_divL, iN_add, iN_mul, iN_addL, iN_Ladd, iN_mulL, iN_Lmul, iN_subL, iN_sub, iN_le_T, iN_le_F, iN_lt_T, iN_lt_F, iN_eq_F, iN_leL_T, iN_leL_F, iN_Lle_T, iN_Lle_F, iN_ltL_T, iN_ltL_F, iN_Llt_T, iN_Llt_F, iN_eqL_T, iN_eqL_F, iN_m1, m1_iN, iN_le_m1, m1_le_iN, iN_neg, iN_pos, i10, i01, i00, i11, u3_op, u3_or, u3_same, pup_eq, pup_ne, hR.n, ↓rI62_1, hR.cor j hj]
  · intro rec
    unfold p_X3_worstAt_L4
    dsimp only
    simp (disch := first | omega | assumption) only [↓bd_rt, ↓bd_bd, ↓bd_ite, ↓bd_jn, ↓jn_ap, ↓ite_ap, ↓bd_gI1, ↓bd_pI1, ↓bd_gR1, ↓bd_pR1, ↓bd_gM, rt_ap, ↓reduceIte, iN_div, iN_divL, iN_add, iN_mul, iN_addL, iN_Ladd, iN_mulL, iN_Lmul, iN_subL, iN_sub, iN_le_T, iN_le_F, iN_lt_T, iN_lt_F, iN_eq_F, iN_leL_T, iN_leL_F, iN_Lle_T, iN_Lle_F, iN_ltL_T, iN_ltL_F, iN_Llt_T, iN_Llt_F, iN_eqL_T, iN_eqL_F, iN_m1, m1_iN, iN_le_m1, m1_le_iN, iN_neg, iN_pos, i10, i01, i00, i11, u3_op, u3_or, u3_same, pup_eq, pup_ne, hR.n]
    rfl
theorem sp_X3_burnsAt {c : CHo} (w : c.WF) {b : CBz} {φ : amSh} {S : amSt} (hφ : φ.1 255 ≠ 0) (hR : RMho c S) (hb : RMbz b S) {cor : Nat} (hc : cor < 20) : p_X3_burnsAt (iN cor) φ S = some (if worS c b cor = 0 then 0 else 1, S) := by
  have hn := w.hn
  have key : Rs (fun v S' => v = (if worS c b cor = 0 then 0 else 1) ∧ S' = S) (alp (p_X3_burnsAt_L2 (iN cor)) amFu 0 φ S) := by
    refine alp_I (fun j x S' => x = iN j ∧ S' = S ∧ ∀ h, h < j → c.cor h = cor → brnN c b h = 0) c.n (amFu_lt (by omega)) ⟨rfl, rfl, fun h hh => by omega⟩ ?_ ?_
    · rintro j x S' hj ⟨rfl, rfl, h0⟩ rec
      have hcj := w.cor j hj
      have hbj := brnN_le w (b := b) hj
      have hburn := sp_X3_burning w hφ hR hb hj
      unfold p_X3_burnsAt_L2
      by_cases c1 : c.cor j = cor
      · by_cases c2 : brnN c b j = 0
        · simp (disch := first | omega | assumption) only [↓bd_rt, ↓bd_bd, ↓bd_ite, ↓bd_jn, ↓jn_ap, ↓ite_ap, ↓bd_gI1, ↓bd_pI1, ↓bd_gR1, ↓bd_pR1, ↓bd_gM, rt_ap, ↓reduceIte, iN_div, iN_divL, iN_add, iN_mul, iN_addL, iN_Ladd, iN_mulL, iN_Lmul, iN_subL, iN_sub, iN_le_T, iN_le_F, iN_lt_T, iN_lt_F, iN_eq_F, iN_leL_T, iN_leL_F, iN_Lle_T, iN_Lle_F, iN_ltL_T, iN_ltL_F, iN_Llt_T, iN_Llt_F, iN_eqL_T, iN_eqL_F, iN_m1, m1_iN, iN_le_m1, m1_le_iN, iN_neg, iN_pos, i10, i01, i00, i11, u3_op, u3_or, u3_same, pup_eq, pup_ne, hR.n, ↓rI62_1, hR.cor j hj, c1, if_true, ↓bd_of hburn, c2]
          refine Lz.go ⟨rfl, rfl, fun h hh e => ?_⟩
          by_cases e2 : h = j
          · subst e2; exact c2
          · exact h0 h (by omega) e
        · have c3 : 0 < brnN c b j := by omega
          simp (disch := first | omega | assumption) only [↓bd_rt, ↓bd_bd, ↓bd_ite, ↓bd_jn, ↓jn_ap, ↓ite_ap, ↓bd_gI1, ↓bd_pI1, ↓bd_gR1, ↓bd_pR1, ↓bd_gM, rt_ap, ↓reduceIte, iN_div, iN_divL, iN_add, iN_mul, iN_addL, iN_Ladd, iN_mulL, iN_Lmul, iN_subL, iN_sub, iN_le_T, iN_le_F, iN_lt_T, iN_lt_F, iN_eq_F, iN_leL_T, iN_leL_F, iN_Lle_T, iN_Lle_F, iN_ltL_T, iN_ltL_F, iN_Llt_T, iN_Llt_F, iN_eqL_T, iN_eqL_F, iN_m1, m1_iN, iN_le_m1, m1_le_iN, iN_neg, iN_pos, i10, i01, i00, i11, u3_op, u3_or, u3_same, pup_eq, pup_ne, hR.n, ↓rI62_1, hR.cor j hj, c1, if_true, ↓bd_of hburn]
          refine Lz.ret ⟨?_, rfl⟩
          rw [if_neg]
          exact (worJ_ne c.n).mpr ⟨j, hj, c1, c3⟩
      · simp (disch := first | omega | assumption) only [↓bd_rt, ↓bd_bd, ↓bd_ite, ↓bd_jn, ↓jn_ap, ↓ite_ap, ↓bd_gI1, ↓bd_pI1, ↓bd_gR1, ↓bd_pR1, ↓bd_gM, rt_ap, ↓reduceIte, iN_div, iN_divL, iN_add, iN_mul, iN_addL, iN_Ladd, iN_mulL, iN_Lmul, iN_subL, iN_sub, iN_le_T, iN_le_F, iN_lt_T, iN_lt_F, iN_eq_F, iN_leL_T, iN_leL_F, iN_Lle_T, iN_Lle_F, iN_ltL_T, iN_ltL_F, iN_Llt_T, iN_Llt_F, iN_eqL_T, iN_eqL_F, iN_m1, m1_iN, iN_le_m1, m1_le_iN, iN_neg, iN_pos, i10, i01, i00, i11, u3_op, u3_or, u3_same, pup_eq, pup_ne, hR.n, ↓rI62_1, hR.cor j hj]
        refine Lz.go ⟨rfl, rfl, fun h hh e => ?_⟩
        by_cases e2 : h = j
        · subst e2; exact absurd e c1
        · exact h0 h (by omega) e
    · rintro x S' ⟨rfl, rfl, h0⟩ rec
      unfold p_X3_burnsAt_L2
      simp (disch := first | omega | assumption) only [↓bd_rt, ↓bd_bd, ↓bd_ite, ↓bd_jn, ↓jn_ap, ↓ite_ap, ↓bd_gI1, ↓bd_pI1, ↓bd_gR1, ↓bd_pR1, ↓bd_gM, rt_ap, ↓reduceIte, iN_div, iN_divL, iN_add, iN_mul, iN_addL, iN_Ladd, iN_mulL, iN_Lmul, iN_subL, iN_sub, iN_le_T, iN_le_F, iN_lt_T, iN_lt_F, iN_eq_F, iN_leL_T, iN_leL_F, iN_Lle_T, iN_Lle_F, iN_ltL_T, iN_ltL_F, iN_Llt_T, iN_Llt_F, iN_eqL_T, iN_eqL_F, iN_m1, m1_iN, iN_le_m1, m1_le_iN, iN_neg, iN_pos, i10, i01, i00, i11, u3_op, u3_or, u3_same, pup_eq, pup_ne, hR.n]
      refine Rs.mk ⟨?_, rfl⟩
      rw [if_pos]
      refine Decidable.byContradiction fun z => ?_
      obtain ⟨h, hh, e, hp⟩ := (worJ_ne c.n).mp z
      have := h0 h hh e
      omega
  obtain ⟨v, S', e, rfl, rfl⟩ := key
  unfold p_X3_burnsAt
  rw [bd_gM hφ]
  exact e
