/-! PURE: notes: changes of use, looks -/
abbrev CNo : Type := (Nat) × (Nat → Int32) × (Nat → Int32) × (Nat → Int32) × (Nat → Int32)
def CNo.mk (n : Nat) (hs : Nat → Int32) (us : Nat → Int32) (frm : Nat → Int32) (td : Nat → Int32) : CNo := (n, hs, us, frm, td)
def CNo.n (c : CNo) : Nat := c.1
def CNo.hs (c : CNo) : Nat → Int32 := c.2.1
def CNo.us (c : CNo) : Nat → Int32 := c.2.2.1
def CNo.frm (c : CNo) : Nat → Int32 := c.2.2.2.1
def CNo.td (c : CNo) : Nat → Int32 := c.2.2.2.2
def CNo.s_n (c : CNo) (v : Nat) : CNo := CNo.mk v c.hs c.us c.frm c.td
def CNo.s_hs (c : CNo) (v : Nat → Int32) : CNo := CNo.mk c.n v c.us c.frm c.td
def CNo.s_us (c : CNo) (v : Nat → Int32) : CNo := CNo.mk c.n c.hs v c.frm c.td
def CNo.s_frm (c : CNo) (v : Nat → Int32) : CNo := CNo.mk c.n c.hs c.us v c.td
def CNo.s_td (c : CNo) (v : Nat → Int32) : CNo := CNo.mk c.n c.hs c.us c.frm v
def RMno (c : CNo) (S : amSt) : Prop := (S.1 1 1 99 = iN c.n) ∧ (∀ k, k < c.n → S.1 125 1 k = c.hs k) ∧ (∀ k, k < c.n → S.1 126 1 k = c.us k) ∧ (∀ k, k < c.n → S.1 127 1 k = c.frm k) ∧ (∀ k, k < c.n → S.1 128 1 k = c.td k)
theorem RMno.n {c : CNo} {S : amSt} (hx_ : RMno c S) : S.1 1 1 99 = iN c.n := And.left hx_
theorem RMno.hs {c : CNo} {S : amSt} (hx_ : RMno c S) : ∀ k, k < c.n → S.1 125 1 k = c.hs k := And.left (And.right hx_)
theorem RMno.us {c : CNo} {S : amSt} (hx_ : RMno c S) : ∀ k, k < c.n → S.1 126 1 k = c.us k := And.left (And.right (And.right hx_))
theorem RMno.frm {c : CNo} {S : amSt} (hx_ : RMno c S) : ∀ k, k < c.n → S.1 127 1 k = c.frm k := And.left (And.right (And.right (And.right hx_)))
theorem RMno.td {c : CNo} {S : amSt} (hx_ : RMno c S) : ∀ k, k < c.n → S.1 128 1 k = c.td k := (And.right (And.right (And.right (And.right hx_))))
theorem RMno.mk {c : CNo} {S : amSt} (h_n : S.1 1 1 99 = iN c.n) (h_hs : ∀ k, k < c.n → S.1 125 1 k = c.hs k) (h_us : ∀ k, k < c.n → S.1 126 1 k = c.us k) (h_frm : ∀ k, k < c.n → S.1 127 1 k = c.frm k) (h_td : ∀ k, k < c.n → S.1 128 1 k = c.td k) : RMno c S := And.intro h_n (And.intro h_hs (And.intro h_us (And.intro h_frm (h_td))))
def KRMno : List Nat := [2099, 125, 126, 127, 128]
theorem RMno.fr {c : CNo} {S : amSt} {S1 : amSt} (hx_ : RMno c S) {L : List Nat} (hf : FrS L S S1) (hd : ∀ x ∈ KRMno, x ∉ L) : RMno c S1 :=
  RMno.mk
    ((hf.i 1 1 99 (hd 2099 (by decide))).trans (hx_.n ))
    (fun k h0_ => (hf.i 125 1 k (hd 125 (by decide))).trans (hx_.hs k h0_))
    (fun k h0_ => (hf.i 126 1 k (hd 126 (by decide))).trans (hx_.us k h0_))
    (fun k h0_ => (hf.i 127 1 k (hd 127 (by decide))).trans (hx_.frm k h0_))
    (fun k h0_ => (hf.i 128 1 k (hd 128 (by decide))).trans (hx_.td k h0_))
def RCno (c : CNo) (S : amSt) : Prop := (S.1 0 1 38 = iN c.n) ∧ (∀ k, k < c.n → S.1 38 1 k = c.hs k) ∧ (∀ k, k < c.n → S.1 39 1 k = c.us k) ∧ (∀ k, k < c.n → S.1 40 1 k = c.frm k) ∧ (∀ k, k < c.n → S.1 41 1 k = c.td k)
theorem RCno.n {c : CNo} {S : amSt} (hx_ : RCno c S) : S.1 0 1 38 = iN c.n := And.left hx_
theorem RCno.hs {c : CNo} {S : amSt} (hx_ : RCno c S) : ∀ k, k < c.n → S.1 38 1 k = c.hs k := And.left (And.right hx_)
theorem RCno.us {c : CNo} {S : amSt} (hx_ : RCno c S) : ∀ k, k < c.n → S.1 39 1 k = c.us k := And.left (And.right (And.right hx_))
theorem RCno.frm {c : CNo} {S : amSt} (hx_ : RCno c S) : ∀ k, k < c.n → S.1 40 1 k = c.frm k := And.left (And.right (And.right (And.right hx_)))
theorem RCno.td {c : CNo} {S : amSt} (hx_ : RCno c S) : ∀ k, k < c.n → S.1 41 1 k = c.td k := (And.right (And.right (And.right (And.right hx_))))
theorem RCno.mk {c : CNo} {S : amSt} (h_n : S.1 0 1 38 = iN c.n) (h_hs : ∀ k, k < c.n → S.1 38 1 k = c.hs k) (h_us : ∀ k, k < c.n → S.1 39 1 k = c.us k) (h_frm : ∀ k, k < c.n → S.1 40 1 k = c.frm k) (h_td : ∀ k, k < c.n → S.1 41 1 k = c.td k) : RCno c S := And.intro h_n (And.intro h_hs (And.intro h_us (And.intro h_frm (h_td))))
def KRCno : List Nat := [1038, 38, 39, 40, 41]
theorem RCno.fr {c : CNo} {S : amSt} {S1 : amSt} (hx_ : RCno c S) {L : List Nat} (hf : FrS L S S1) (hd : ∀ x ∈ KRCno, x ∉ L) : RCno c S1 :=
  RCno.mk
    ((hf.i 0 1 38 (hd 1038 (by decide))).trans (hx_.n ))
    (fun k h0_ => (hf.i 38 1 k (hd 38 (by decide))).trans (hx_.hs k h0_))
    (fun k h0_ => (hf.i 39 1 k (hd 39 (by decide))).trans (hx_.us k h0_))
    (fun k h0_ => (hf.i 40 1 k (hd 40 (by decide))).trans (hx_.frm k h0_))
    (fun k h0_ => (hf.i 41 1 k (hd 41 (by decide))).trans (hx_.td k h0_))
/-- the change of use in force at a time: 0 none, else its number and one -/
def usJ (c : CNo) (h q : Int32) (j : Nat) : Nat := itn (fun k w => if c.hs k = h then (if c.us k = -1 then w else if q < c.td k then w else if c.frm k ≤ q then (if w = 0 then k + 1 else if c.frm k < c.frm (w - 1) then w else k + 1) else w) else w) 0 j
theorem usJ_le {c : CNo} {h q : Int32} : ∀ j, usJ c h q j ≤ j := by
  intro j
  induction j with
  | zero => exact Nat.le_refl _
  | succ j ih =>
    show (if c.hs j = h then (if c.us j = -1 then usJ c h q j else if q < c.td j then usJ c h q j else if c.frm j ≤ q then (if usJ c h q j = 0 then j + 1 else if c.frm j < c.frm (usJ c h q j - 1) then usJ c h q j else j + 1) else usJ c h q j) else usJ c h q j) ≤ j + 1
    generalize usJ c h q j = d at *
    repeat' split
    all_goals omega
def useS (c : CNo) (ho : CHo) (x : Nat) (q : Int32) : Int32 := if usJ c (iN x) q c.n = 0 then ho.use x else c.us (usJ c (iN x) q c.n - 1)
theorem sp_X1_usedAt_L5 {c : CNo} (hn : c.n ≤ 100) {φ : amSh} {S : amSt} (hN : RCno c S) {h q : Int32} : alp (p_X1_usedAt_L5 h q) amFu (-1, 0) φ S = some (oW (usJ c h q c.n), S) := by
  refine alp_st (fun j => (oW (usJ c h q j), iN j)) (fun _ => S) c.n ?_ ?_ (amFu_lt (by omega))
  · intro j hj rec
    have hle := usJ_le (c := c) (h := h) (q := q) j
    have e : usJ c h q (j + 1) = (if c.hs j = h then (if c.us j = -1 then usJ c h q j else if q < c.td j then usJ c h q j else if c.frm j ≤ q then (if usJ c h q j = 0 then j + 1 else if c.frm j < c.frm (usJ c h q j - 1) then usJ c h q j else j + 1) else usJ c h q j) else usJ c h q j) := rfl
    rw [e]
    generalize usJ c h q j = d at *
    unfold p_X1_usedAt_L5
    by_cases c1 : c.hs j = h
    · by_cases c2 : c.us j = -1
      · rw [if_pos c1, if_pos c2]
        simp (disch := first | omega | assumption) only [↓bd_rt, ↓bd_bd, ↓bd_ite, ↓bd_jn, ↓jn_ap, ↓ite_ap, ↓bd_gI1, ↓bd_pI1, ↓bd_gR1, ↓bd_pR1, ↓bd_gM, rt_ap, ↓reduceIte, iN_div, iN_divL, iN_add, iN_mul, iN_addL, iN_Ladd, iN_mulL, iN_Lmul, iN_subL, iN_sub, iN_le_T, iN_le_F, iN_lt_T, iN_lt_F, iN_eq_F, iN_leL_T, iN_leL_F, iN_Lle_T, iN_Lle_F, iN_ltL_T, iN_ltL_F, iN_Llt_T, iN_Llt_F, iN_eqL_T, iN_eqL_F, iN_m1, m1_iN, iN_le_m1, m1_le_iN, iN_neg, iN_pos, i10, i01, i00, i11, u3_op, u3_or, u3_same, pup_eq, pup_ne, hN.n, ↓rI38_1, ↓rI39_1, hN.hs j hj, hN.us j hj, c1, c2, if_true]
      · by_cases c3 : q < c.td j
        · rw [if_pos c1, if_neg c2, if_pos c3]
          simp (disch := first | omega | assumption) only [↓bd_rt, ↓bd_bd, ↓bd_ite, ↓bd_jn, ↓jn_ap, ↓ite_ap, ↓bd_gI1, ↓bd_pI1, ↓bd_gR1, ↓bd_pR1, ↓bd_gM, rt_ap, ↓reduceIte, iN_div, iN_divL, iN_add, iN_mul, iN_addL, iN_Ladd, iN_mulL, iN_Lmul, iN_subL, iN_sub, iN_le_T, iN_le_F, iN_lt_T, iN_lt_F, iN_eq_F, iN_leL_T, iN_leL_F, iN_Lle_T, iN_Lle_F, iN_ltL_T, iN_ltL_F, iN_Llt_T, iN_Llt_F, iN_eqL_T, iN_eqL_F, iN_m1, m1_iN, iN_le_m1, m1_le_iN, iN_neg, iN_pos, i10, i01, i00, i11, u3_op, u3_or, u3_same, pup_eq, pup_ne, hN.n, ↓rI38_1, ↓rI39_1, ↓rI41_1, hN.hs j hj, hN.us j hj, hN.td j hj, c1, if_true, if_neg c2, if_pos c3]
        · by_cases c4 : c.frm j ≤ q
          · by_cases d0 : d = 0
            · subst d0
              rw [if_pos c1, if_neg c2, if_neg c3, if_pos c4, if_pos rfl]
              simp (disch := first | omega | assumption) only [↓bd_rt, ↓bd_bd, ↓bd_ite, ↓bd_jn, ↓jn_ap, ↓ite_ap, ↓bd_gI1, ↓bd_pI1, ↓bd_gR1, ↓bd_pR1, ↓bd_gM, rt_ap, ↓reduceIte, iN_div, iN_divL, iN_add, iN_mul, iN_addL, iN_Ladd, iN_mulL, iN_Lmul, iN_subL, iN_sub, iN_le_T, iN_le_F, iN_lt_T, iN_lt_F, iN_eq_F, iN_leL_T, iN_leL_F, iN_Lle_T, iN_Lle_F, iN_ltL_T, iN_ltL_F, iN_Llt_T, iN_Llt_F, iN_eqL_T, iN_eqL_F, iN_m1, m1_iN, iN_le_m1, m1_le_iN, iN_neg, iN_pos, i10, i01, i00, i11, u3_op, u3_or, u3_same, pup_eq, pup_ne, hN.n, ↓rI38_1, ↓rI39_1, ↓rI40_1, ↓rI41_1, hN.hs j hj, hN.us j hj, hN.td j hj, hN.frm j hj, c1, if_true, if_neg c2, if_neg c3, if_pos c4, oW_0, oW_s]
            · obtain ⟨y, rfl⟩ : ∃ y, d = y + 1 := ⟨d - 1, by omega⟩
              by_cases c5 : c.frm j < c.frm y
              · rw [if_pos c1, if_neg c2, if_neg c3, if_pos c4, if_neg d0, Nat.add_sub_cancel, if_pos c5]
                simp (disch := first | omega | assumption) only [↓bd_rt, ↓bd_bd, ↓bd_ite, ↓bd_jn, ↓jn_ap, ↓ite_ap, ↓bd_gI1, ↓bd_pI1, ↓bd_gR1, ↓bd_pR1, ↓bd_gM, rt_ap, ↓reduceIte, iN_div, iN_divL, iN_add, iN_mul, iN_addL, iN_Ladd, iN_mulL, iN_Lmul, iN_subL, iN_sub, iN_le_T, iN_le_F, iN_lt_T, iN_lt_F, iN_eq_F, iN_leL_T, iN_leL_F, iN_Lle_T, iN_Lle_F, iN_ltL_T, iN_ltL_F, iN_Llt_T, iN_Llt_F, iN_eqL_T, iN_eqL_F, iN_m1, m1_iN, iN_le_m1, m1_le_iN, iN_neg, iN_pos, i10, i01, i00, i11, u3_op, u3_or, u3_same, pup_eq, pup_ne, hN.n, ↓rI38_1, ↓rI39_1, ↓rI40_1, ↓rI41_1, hN.hs j hj, hN.us j hj, hN.td j hj, hN.frm j hj, hN.frm y (by omega), c1, if_true, if_neg c2, if_neg c3, if_pos c4, oW_s, if_pos c5]
              · rw [if_pos c1, if_neg c2, if_neg c3, if_pos c4, if_neg d0, Nat.add_sub_cancel, if_neg c5]
                simp (disch := first | omega | assumption) only [↓bd_rt, ↓bd_bd, ↓bd_ite, ↓bd_jn, ↓jn_ap, ↓ite_ap, ↓bd_gI1, ↓bd_pI1, ↓bd_gR1, ↓bd_pR1, ↓bd_gM, rt_ap, ↓reduceIte, iN_div, iN_divL, iN_add, iN_mul, iN_addL, iN_Ladd, iN_mulL, iN_Lmul, iN_subL, iN_sub, iN_le_T, iN_le_F, iN_lt_T, iN_lt_F, iN_eq_F, iN_leL_T, iN_leL_F, iN_Lle_T, iN_Lle_F, iN_ltL_T, iN_ltL_F, iN_Llt_T, iN_Llt_F, iN_eqL_T, iN_eqL_F, iN_m1, m1_iN, iN_le_m1, m1_le_iN, iN_neg, iN_pos, i10, i01, i00, i11, u3_op, u3_or, u3_same, pup_eq, pup_ne, hN.n, ↓rI38_1, ↓rI39_1, ↓rI40_1, ↓rI41_1, hN.hs j hj, hN.us j hj, hN.td j hj, hN.frm j hj, hN.frm y (by omega), c1, if_true, if_neg c2, if_neg c3, if_pos c4, oW_s, if_neg c5]
          · rw [if_pos c1, if_neg c2, if_neg c3, if_neg c4]
            simp (disch := first | omega | assumption) only [↓bd_rt, ↓bd_bd, ↓bd_ite, ↓bd_jn, ↓jn_ap, ↓ite_ap, ↓bd_gI1, ↓bd_pI1, ↓bd_gR1, ↓bd_pR1, ↓bd_gM, rt_ap, ↓reduceIte, iN_div, iN_divL, iN_add, iN_mul, iN_addL, iN_Ladd, iN_mulL, iN_Lmul, iN_subL, iN_sub, iN_le_T, iN_le_F, iN_lt_T, iN_lt_F, iN_eq_F, iN_leL_T, iN_leL_F, iN_Lle_T, iN_Lle_F, iN_ltL_T, iN_ltL_F, iN_Llt_T, iN_Llt_F, iN_eqL_T, iN_eqL_F, iN_m1, m1_iN, iN_le_m1, m1_le_iN, iN_neg, iN_pos, i10, i01, i00, i11, u3_op, u3_or, u3_same, pup_eq, pup_ne, hN.n, ↓rI38_1, ↓rI39_1, ↓rI40_1, ↓rI41_1, hN.hs j hj, hN.us j hj, hN.td j hj, hN.frm j hj, c1, if_true, if_neg c2, if_neg c3, if_neg c4]
    · rw [if_neg c1]
      simp (disch := first | omega | assumption) only [↓bd_rt, ↓bd_bd, ↓bd_ite, ↓bd_jn, ↓jn_ap, ↓ite_ap, ↓bd_gI1, ↓bd_pI1, ↓bd_gR1, ↓bd_pR1, ↓bd_gM, rt_ap, ↓reduceIte, iN_div, iN_divL, iN_add, iN_mul, iN_addL, iN_Ladd, iN_mulL, iN_Lmul, iN_subL, iN_sub, iN_le_T, iN_le_F, iN_lt_T, iN_lt_F, iN_eq_F, iN_leL_T, iN_leL_F, iN_Lle_T, iN_Lle_F, iN_ltL_T, iN_ltL_F, iN_Llt_T, iN_Llt_F, iN_eqL_T, iN_eqL_F, iN_m1, m1_iN, iN_le_m1, m1_le_iN, iN_neg, iN_pos, i10, i01, i00, i11, u3_op, u3_or, u3_same, pup_eq, pup_ne, hN.n, ↓rI38_1, hN.hs j hj, if_neg c1]
  · intro rec
    unfold p_X1_usedAt_L5
    dsimp only
    simp (disch := first | omega | assumption) only [↓bd_rt, ↓bd_bd, ↓bd_ite, ↓bd_jn, ↓jn_ap, ↓ite_ap, ↓bd_gI1, ↓bd_pI1, ↓bd_gR1, ↓bd_pR1, ↓bd_gM, rt_ap, ↓reduceIte, iN_div, iN_divL, iN_add, iN_mul, iN_addL, iN_Ladd, iN_mulL, iN_Lmul, iN_subL, iN_sub, iN_le_T, iN_le_F, iN_lt_T, iN_lt_F, iN_eq_F, iN_leL_T, iN_leL_F, iN_Lle_T, iN_Lle_F, iN_ltL_T, iN_ltL_F, iN_Llt_T, iN_Llt_F, iN_eqL_T, iN_eqL_F, iN_m1, m1_iN, iN_le_m1, m1_le_iN, iN_neg, iN_pos, i10, i01, i00, i11, u3_op, u3_or, u3_same, pup_eq, pup_ne, hN.n]
theorem sp_X1_usedAt {c : CNo} (hn : c.n ≤ 100) {ho : CHo} (wh : ho.WF) {φ : amSh} {S : amSt} (hφ : φ.1 255 ≠ 0) (hN : RCno c S) (hH : RCho ho φ S) {x : Nat} {q : Int32} (hx : x < ho.n) : p_X1_usedAt (iN x) q φ S = some (useS c ho x q, S) := by
  have hhn := wh.hn
  have hle := usJ_le (c := c) (h := iN x) (q := q) c.n
  unfold p_X1_usedAt useS
  rw [bd_gM hφ, bd_of (sp_X1_usedAt_L5 hn hN)]
  by_cases d0 : usJ c (iN x) q c.n = 0
  · rw [if_pos d0, d0, oW_0, if_pos rfl, rR24_1 (by omega), hH.obj x hx, bd_gI (by omega), hH.use x hx, rt_ap]
  · rw [if_neg d0]
    have eo : oW (usJ c (iN x) q c.n) = iN (usJ c (iN x) q c.n - 1) := by unfold oW; rw [if_neg d0]
    rw [eo, if_neg (show ¬ iN (usJ c (iN x) q c.n - 1) = -1 by rw [iN_m1 (by omega)]; exact id), rI39_1 (by omega), hN.us _ (by omega), rt_ap]
theorem sp_X3_useOf_L5 {c : CNo} (hn : c.n ≤ 100) {φ : amSh} {S : amSt} (hN : RMno c S) {h q : Int32} : alp (p_X3_useOf_L5 h q) amFu (-1, 0) φ S = some (oW (usJ c h q c.n), S) := by
  refine alp_st (fun j => (oW (usJ c h q j), iN j)) (fun _ => S) c.n ?_ ?_ (amFu_lt (by omega))
  · intro j hj rec
    have hle := usJ_le (c := c) (h := h) (q := q) j
    have e : usJ c h q (j + 1) = (if c.hs j = h then (if c.us j = -1 then usJ c h q j else if q < c.td j then usJ c h q j else if c.frm j ≤ q then (if usJ c h q j = 0 then j + 1 else if c.frm j < c.frm (usJ c h q j - 1) then usJ c h q j else j + 1) else usJ c h q j) else usJ c h q j) := rfl
    rw [e]
    generalize usJ c h q j = d at *
    unfold p_X3_useOf_L5
    by_cases c1 : c.hs j = h
    · by_cases c2 : c.us j = -1
      · rw [if_pos c1, if_pos c2]
        simp (disch := first | omega | assumption) only [↓bd_rt, ↓bd_bd, ↓bd_ite, ↓bd_jn, ↓jn_ap, ↓ite_ap, ↓bd_gI1, ↓bd_pI1, ↓bd_gR1, ↓bd_pR1, ↓bd_gM, rt_ap, ↓reduceIte, iN_div, iN_divL, iN_add, iN_mul, iN_addL, iN_Ladd, iN_mulL, iN_Lmul, iN_subL, iN_sub, iN_le_T, iN_le_F, iN_lt_T, iN_lt_F, iN_eq_F, iN_leL_T, iN_leL_F, iN_Lle_T, iN_Lle_F, iN_ltL_T, iN_ltL_F, iN_Llt_T, iN_Llt_F, iN_eqL_T, iN_eqL_F, iN_m1, m1_iN, iN_le_m1, m1_le_iN, iN_neg, iN_pos, i10, i01, i00, i11, u3_op, u3_or, u3_same, pup_eq, pup_ne, hN.n, ↓rI125_1, ↓rI126_1, hN.hs j hj, hN.us j hj, c1, c2, if_true]
      · by_cases c3 : q < c.td j
        · rw [if_pos c1, if_neg c2, if_pos c3]
          simp (disch := first | omega | assumption) only [↓bd_rt, ↓bd_bd, ↓bd_ite, ↓bd_jn, ↓jn_ap, ↓ite_ap, ↓bd_gI1, ↓bd_pI1, ↓bd_gR1, ↓bd_pR1, ↓bd_gM, rt_ap, ↓reduceIte, iN_div, iN_divL, iN_add, iN_mul, iN_addL, iN_Ladd, iN_mulL, iN_Lmul, iN_subL, iN_sub, iN_le_T, iN_le_F, iN_lt_T, iN_lt_F, iN_eq_F, iN_leL_T, iN_leL_F, iN_Lle_T, iN_Lle_F, iN_ltL_T, iN_ltL_F, iN_Llt_T, iN_Llt_F, iN_eqL_T, iN_eqL_F, iN_m1, m1_iN, iN_le_m1, m1_le_iN, iN_neg, iN_pos, i10, i01, i00, i11, u3_op, u3_or, u3_same, pup_eq, pup_ne, hN.n, ↓rI125_1, ↓rI126_1, ↓rI128_1, hN.hs j hj, hN.us j hj, hN.td j hj, c1, if_true, if_neg c2, if_pos c3]
        · by_cases c4 : c.frm j ≤ q
          · have c6 : ¬ q < c.frm j := by rw [i32_nle] at c4; exact c4
            by_cases d0 : d = 0
            · subst d0
              rw [if_pos c1, if_neg c2, if_neg c3, if_pos c4, if_pos rfl]
              simp (disch := first | omega | assumption) only [↓bd_rt, ↓bd_bd, ↓bd_ite, ↓bd_jn, ↓jn_ap, ↓ite_ap, ↓bd_gI1, ↓bd_pI1, ↓bd_gR1, ↓bd_pR1, ↓bd_gM, rt_ap, ↓reduceIte, iN_div, iN_divL, iN_add, iN_mul, iN_addL, iN_Ladd, iN_mulL, iN_Lmul, iN_subL, iN_sub, iN_le_T, iN_le_F, iN_lt_T, iN_lt_F, iN_eq_F, iN_leL_T, iN_leL_F, iN_Lle_T, iN_Lle_F, iN_ltL_T, iN_ltL_F, iN_Llt_T, iN_Llt_F, iN_eqL_T, iN_eqL_F, iN_m1, m1_iN, iN_le_m1, m1_le_iN, iN_neg, iN_pos, i10, i01, i00, i11, u3_op, u3_or, u3_same, pup_eq, pup_ne, hN.n, ↓rI125_1, ↓rI126_1, ↓rI127_1, ↓rI128_1, hN.hs j hj, hN.us j hj, hN.td j hj, hN.frm j hj, c1, if_true, if_neg c2, if_neg c3, if_neg c6, oW_0, oW_s]
            · obtain ⟨y, rfl⟩ : ∃ y, d = y + 1 := ⟨d - 1, by omega⟩
              by_cases c5 : c.frm j < c.frm y
              · rw [if_pos c1, if_neg c2, if_neg c3, if_pos c4, if_neg d0, Nat.add_sub_cancel, if_pos c5]
                simp (disch := first | omega | assumption) only [↓bd_rt, ↓bd_bd, ↓bd_ite, ↓bd_jn, ↓jn_ap, ↓ite_ap, ↓bd_gI1, ↓bd_pI1, ↓bd_gR1, ↓bd_pR1, ↓bd_gM, rt_ap, ↓reduceIte, iN_div, iN_divL, iN_add, iN_mul, iN_addL, iN_Ladd, iN_mulL, iN_Lmul, iN_subL, iN_sub, iN_le_T, iN_le_F, iN_lt_T, iN_lt_F, iN_eq_F, iN_leL_T, iN_leL_F, iN_Lle_T, iN_Lle_F, iN_ltL_T, iN_ltL_F, iN_Llt_T, iN_Llt_F, iN_eqL_T, iN_eqL_F, iN_m1, m1_iN, iN_le_m1, m1_le_iN, iN_neg, iN_pos, i10, i01, i00, i11, u3_op, u3_or, u3_same, pup_eq, pup_ne, hN.n, ↓rI125_1, ↓rI126_1, ↓rI127_1, ↓rI128_1, hN.hs j hj, hN.us j hj, hN.td j hj, hN.frm j hj, hN.frm y (by omega), c1, if_true, if_neg c2, if_neg c3, if_neg c6, oW_s, if_pos c5]
              · rw [if_pos c1, if_neg c2, if_neg c3, if_pos c4, if_neg d0, Nat.add_sub_cancel, if_neg c5]
                simp (disch := first | omega | assumption) only [↓bd_rt, ↓bd_bd, ↓bd_ite, ↓bd_jn, ↓jn_ap, ↓ite_ap, ↓bd_gI1, ↓bd_pI1, ↓bd_gR1, ↓bd_pR1, ↓bd_gM, rt_ap, ↓reduceIte, iN_div, iN_divL, iN_add, iN_mul, iN_addL, iN_Ladd, iN_mulL, iN_Lmul, iN_subL, iN_sub, iN_le_T, iN_le_F, iN_lt_T, iN_lt_F, iN_eq_F, iN_leL_T, iN_leL_F, iN_Lle_T, iN_Lle_F, iN_ltL_T, iN_ltL_F, iN_Llt_T, iN_Llt_F, iN_eqL_T, iN_eqL_F, iN_m1, m1_iN, iN_le_m1, m1_le_iN, iN_neg, iN_pos, i10, i01, i00, i11, u3_op, u3_or, u3_same, pup_eq, pup_ne, hN.n, ↓rI125_1, ↓rI126_1, ↓rI127_1, ↓rI128_1, hN.hs j hj, hN.us j hj, hN.td j hj, hN.frm j hj, hN.frm y (by omega), c1, if_true, if_neg c2, if_neg c3, if_neg c6, oW_s, if_neg c5]
          · have c6 : q < c.frm j := by rw [i32_nle] at c4; exact Decidable.not_not.mp c4
            rw [if_pos c1, if_neg c2, if_neg c3, if_neg c4]
            simp (disch := first | omega | assumption) only [↓bd_rt, ↓bd_bd, ↓bd_ite, ↓bd_jn, ↓jn_ap, ↓ite_ap, ↓bd_gI1, ↓bd_pI1, ↓bd_gR1, ↓bd_pR1, ↓bd_gM, rt_ap, ↓reduceIte, iN_div, iN_divL, iN_add, iN_mul, iN_addL, iN_Ladd, iN_mulL, iN_Lmul, iN_subL, iN_sub, iN_le_T, iN_le_F, iN_lt_T, iN_lt_F, iN_eq_F, iN_leL_T, iN_leL_F, iN_Lle_T, iN_Lle_F, iN_ltL_T, iN_ltL_F, iN_Llt_T, iN_Llt_F, iN_eqL_T, iN_eqL_F, iN_m1, m1_iN, iN_le_m1, m1_le_iN, iN_neg, iN_pos, i10, i01, i00, i11, u3_op, u3_or, u3_same, pup_eq, pup_ne, hN.n, ↓rI125_1, ↓rI126_1, ↓rI127_1, ↓rI128_1, hN.hs j hj, hN.us j hj, hN.td j hj, hN.frm j hj, c1, if_true, if_neg c2, if_neg c3, if_pos c6]
    · rw [if_neg c1]
      simp (disch := first | omega | assumption) only [↓bd_rt, ↓bd_bd, ↓bd_ite, ↓bd_jn, ↓jn_ap, ↓ite_ap, ↓bd_gI1, ↓bd_pI1, ↓bd_gR1, ↓bd_pR1, ↓bd_gM, rt_ap, ↓reduceIte, iN_div, iN_divL, iN_add, iN_mul, iN_addL, iN_Ladd, iN_mulL, iN_Lmul, iN_subL, iN_sub, iN_le_T, iN_le_F, iN_lt_T, iN_lt_F, iN_eq_F, iN_leL_T, iN_leL_F, iN_Lle_T, iN_Lle_F, iN_ltL_T, iN_ltL_F, iN_Llt_T, iN_Llt_F, iN_eqL_T, iN_eqL_F, iN_m1, m1_iN, iN_le_m1, m1_le_iN, iN_neg, iN_pos, i10, i01, i00, i11, u3_op, u3_or, u3_same, pup_eq, pup_ne, hN.n, ↓rI125_1, hN.hs j hj, if_neg c1]
  · intro rec
    unfold p_X3_useOf_L5
    dsimp only
    simp (disch := first | omega | assumption) only [↓bd_rt, ↓bd_bd, ↓bd_ite, ↓bd_jn, ↓jn_ap, ↓ite_ap, ↓bd_gI1, ↓bd_pI1, ↓bd_gR1, ↓bd_pR1, ↓bd_gM, rt_ap, ↓reduceIte, iN_div, iN_divL, iN_add, iN_mul, iN_addL, iN_Ladd, iN_mulL, iN_Lmul, iN_subL, iN_sub, iN_le_T, iN_le_F, iN_lt_T, iN_lt_F, iN_eq_F, iN_leL_T, iN_leL_F, iN_Lle_T, iN_Lle_F, iN_ltL_T, iN_ltL_F, iN_Llt_T, iN_Llt_F, iN_eqL_T, iN_eqL_F, iN_m1, m1_iN, iN_le_m1, m1_le_iN, iN_neg, iN_pos, i10, i01, i00, i11, u3_op, u3_or, u3_same, pup_eq, pup_ne, hN.n]
theorem sp_X3_useOf {c : CNo} (hn : c.n ≤ 100) {ho : CHo} (wh : ho.WF) {φ : amSh} {S : amSt} (hφ : φ.1 255 ≠ 0) (hN : RMno c S) (hH : RMho ho S) {x : Nat} {q : Int32} (hx : x < ho.n) : p_X3_useOf (iN x) q φ S = some (useS c ho x q, S) := by
  have hhn := wh.hn
  have hle := usJ_le (c := c) (h := iN x) (q := q) c.n
  unfold p_X3_useOf useS
  rw [bd_gM hφ, bd_of (sp_X3_useOf_L5 hn hN)]
  by_cases d0 : usJ c (iN x) q c.n = 0
  · rw [if_pos d0, d0, oW_0, if_pos rfl, rI69_1 (by omega), hH.use x (by omega), rt_ap]
  · rw [if_neg d0]
    have eo : oW (usJ c (iN x) q c.n) = iN (usJ c (iN x) q c.n - 1) := by unfold oW; rw [if_neg d0]
    rw [eo, if_neg (show ¬ iN (usJ c (iN x) q c.n - 1) = -1 by rw [iN_m1 (by omega)]; exact id), rI126_1 (by omega), hN.us _ (by omega), rt_ap]
/-! days since a look -/
def lkJ (c : CNo) (h q : Int32) (j : Nat) : Int32 := itn (fun k w => if c.hs k = h then (if c.us k = -1 then (if q < c.td k then w else c.td k) else w) else w) (-1) j
def daysS (c : CNo) (h q : Int32) : Int32 := if lkJ c h q c.n = -1 then 999 else (q - lkJ c h q c.n) / 1440
theorem sp_X1_unlooked {c : CNo} (hn : c.n ≤ 100) {φ : amSh} {S : amSt} (hφ : φ.1 255 ≠ 0) (hN : RCno c S) {h q : Int32} : p_X1_unlooked h q φ S = some (daysS c h q, S) := by
  have key : alp (p_X1_unlooked_L5 h q) amFu (-1, 0) φ S = some (lkJ c h q c.n, S) := by
    refine alp_st (fun j => (lkJ c h q j, iN j)) (fun _ => S) c.n ?_ ?_ (amFu_lt (by omega))
    · intro j hj rec
      have e : lkJ c h q (j + 1) = (if c.hs j = h then (if c.us j = -1 then (if q < c.td j then lkJ c h q j else c.td j) else lkJ c h q j) else lkJ c h q j) := rfl
      rw [e]
      generalize lkJ c h q j = d at *
      unfold p_X1_unlooked_L5
      by_cases c1 : c.hs j = h
      · by_cases c2 : c.us j = -1
        · by_cases c3 : q < c.td j
          · rw [if_pos c1, if_pos c2, if_pos c3]
            simp (disch := first | omega | assumption) only [↓bd_rt, ↓bd_bd, ↓bd_ite, ↓bd_jn, ↓jn_ap, ↓ite_ap, ↓bd_gI1, ↓bd_pI1, ↓bd_gR1, ↓bd_pR1, ↓bd_gM, rt_ap, ↓reduceIte, iN_div, iN_divL, iN_add, iN_mul, iN_addL, iN_Ladd, iN_mulL, iN_Lmul, iN_subL, iN_sub, iN_le_T, iN_le_F, iN_lt_T, iN_lt_F, iN_eq_F, iN_leL_T, iN_leL_F, iN_Lle_T, iN_Lle_F, iN_ltL_T, iN_ltL_F, iN_Llt_T, iN_Llt_F, iN_eqL_T, iN_eqL_F, iN_m1, m1_iN, iN_le_m1, m1_le_iN, iN_neg, iN_pos, i10, i01, i00, i11, u3_op, u3_or, u3_same, pup_eq, pup_ne, hN.n, ↓rI38_1, ↓rI39_1, ↓rI41_1, hN.hs j hj, hN.us j hj, hN.td j hj, c1, c2, if_true, if_pos c3]
          · rw [if_pos c1, if_pos c2, if_neg c3]
            simp (disch := first | omega | assumption) only [↓bd_rt, ↓bd_bd, ↓bd_ite, ↓bd_jn, ↓jn_ap, ↓ite_ap, ↓bd_gI1, ↓bd_pI1, ↓bd_gR1, ↓bd_pR1, ↓bd_gM, rt_ap, ↓reduceIte, iN_div, iN_divL, iN_add, iN_mul, iN_addL, iN_Ladd, iN_mulL, iN_Lmul, iN_subL, iN_sub, iN_le_T, iN_le_F, iN_lt_T, iN_lt_F, iN_eq_F, iN_leL_T, iN_leL_F, iN_Lle_T, iN_Lle_F, iN_ltL_T, iN_ltL_F, iN_Llt_T, iN_Llt_F, iN_eqL_T, iN_eqL_F, iN_m1, m1_iN, iN_le_m1, m1_le_iN, iN_neg, iN_pos, i10, i01, i00, i11, u3_op, u3_or, u3_same, pup_eq, pup_ne, hN.n, ↓rI38_1, ↓rI39_1, ↓rI41_1, hN.hs j hj, hN.us j hj, hN.td j hj, c1, c2, if_true, if_neg c3]
        · rw [if_pos c1, if_neg c2]
          simp (disch := first | omega | assumption) only [↓bd_rt, ↓bd_bd, ↓bd_ite, ↓bd_jn, ↓jn_ap, ↓ite_ap, ↓bd_gI1, ↓bd_pI1, ↓bd_gR1, ↓bd_pR1, ↓bd_gM, rt_ap, ↓reduceIte, iN_div, iN_divL, iN_add, iN_mul, iN_addL, iN_Ladd, iN_mulL, iN_Lmul, iN_subL, iN_sub, iN_le_T, iN_le_F, iN_lt_T, iN_lt_F, iN_eq_F, iN_leL_T, iN_leL_F, iN_Lle_T, iN_Lle_F, iN_ltL_T, iN_ltL_F, iN_Llt_T, iN_Llt_F, iN_eqL_T, iN_eqL_F, iN_m1, m1_iN, iN_le_m1, m1_le_iN, iN_neg, iN_pos, i10, i01, i00, i11, u3_op, u3_or, u3_same, pup_eq, pup_ne, hN.n, ↓rI38_1, ↓rI39_1, hN.hs j hj, hN.us j hj, c1, if_true, if_neg c2]
      · rw [if_neg c1]
        simp (disch := first | omega | assumption) only [↓bd_rt, ↓bd_bd, ↓bd_ite, ↓bd_jn, ↓jn_ap, ↓ite_ap, ↓bd_gI1, ↓bd_pI1, ↓bd_gR1, ↓bd_pR1, ↓bd_gM, rt_ap, ↓reduceIte, iN_div, iN_divL, iN_add, iN_mul, iN_addL, iN_Ladd, iN_mulL, iN_Lmul, iN_subL, iN_sub, iN_le_T, iN_le_F, iN_lt_T, iN_lt_F, iN_eq_F, iN_leL_T, iN_leL_F, iN_Lle_T, iN_Lle_F, iN_ltL_T, iN_ltL_F, iN_Llt_T, iN_Llt_F, iN_eqL_T, iN_eqL_F, iN_m1, m1_iN, iN_le_m1, m1_le_iN, iN_neg, iN_pos, i10, i01, i00, i11, u3_op, u3_or, u3_same, pup_eq, pup_ne, hN.n, ↓rI38_1, hN.hs j hj, if_neg c1]
    · intro rec
      unfold p_X1_unlooked_L5
      dsimp only
      simp (disch := first | omega | assumption) only [↓bd_rt, ↓bd_bd, ↓bd_ite, ↓bd_jn, ↓jn_ap, ↓ite_ap, ↓bd_gI1, ↓bd_pI1, ↓bd_gR1, ↓bd_pR1, ↓bd_gM, rt_ap, ↓reduceIte, iN_div, iN_divL, iN_add, iN_mul, iN_addL, iN_Ladd, iN_mulL, iN_Lmul, iN_subL, iN_sub, iN_le_T, iN_le_F, iN_lt_T, iN_lt_F, iN_eq_F, iN_leL_T, iN_leL_F, iN_Lle_T, iN_Lle_F, iN_ltL_T, iN_ltL_F, iN_Llt_T, iN_Llt_F, iN_eqL_T, iN_eqL_F, iN_m1, m1_iN, iN_le_m1, m1_le_iN, iN_neg, iN_pos, i10, i01, i00, i11, u3_op, u3_or, u3_same, pup_eq, pup_ne, hN.n]
  unfold p_X1_unlooked daysS
  rw [bd_gM hφ, bd_of key]
  by_cases d0 : lkJ c h q c.n = -1
  · rw [if_pos d0, if_pos d0, rt_ap]
  · rw [if_neg d0, if_neg d0, rt_ap]
theorem sp_X3_daysFrom {c : CNo} (hn : c.n ≤ 100) {φ : amSh} {S : amSt} (hφ : φ.1 255 ≠ 0) (hN : RMno c S) {h q : Int32} : p_X3_daysFrom h q φ S = some (daysS c h q, S) := by
  have key : alp (p_X3_daysFrom_L5 h q) amFu (-1, 0) φ S = some (lkJ c h q c.n, S) := by
    refine alp_st (fun j => (lkJ c h q j, iN j)) (fun _ => S) c.n ?_ ?_ (amFu_lt (by omega))
    · intro j hj rec
      have e : lkJ c h q (j + 1) = (if c.hs j = h then (if c.us j = -1 then (if q < c.td j then lkJ c h q j else c.td j) else lkJ c h q j) else lkJ c h q j) := rfl
      rw [e]
      generalize lkJ c h q j = d at *
      unfold p_X3_daysFrom_L5
      by_cases c1 : c.hs j = h
      · by_cases c2 : c.us j = -1
        · by_cases c3 : q < c.td j
          · rw [if_pos c1, if_pos c2, if_pos c3]
            simp (disch := first | omega | assumption) only [↓bd_rt, ↓bd_bd, ↓bd_ite, ↓bd_jn, ↓jn_ap, ↓ite_ap, ↓bd_gI1, ↓bd_pI1, ↓bd_gR1, ↓bd_pR1, ↓bd_gM, rt_ap, ↓reduceIte, iN_div, iN_divL, iN_add, iN_mul, iN_addL, iN_Ladd, iN_mulL, iN_Lmul, iN_subL, iN_sub, iN_le_T, iN_le_F, iN_lt_T, iN_lt_F, iN_eq_F, iN_leL_T, iN_leL_F, iN_Lle_T, iN_Lle_F, iN_ltL_T, iN_ltL_F, iN_Llt_T, iN_Llt_F, iN_eqL_T, iN_eqL_F, iN_m1, m1_iN, iN_le_m1, m1_le_iN, iN_neg, iN_pos, i10, i01, i00, i11, u3_op, u3_or, u3_same, pup_eq, pup_ne, hN.n, ↓rI125_1, ↓rI126_1, ↓rI128_1, hN.hs j hj, hN.us j hj, hN.td j hj, c1, c2, if_true, if_pos c3]
          · rw [if_pos c1, if_pos c2, if_neg c3]
            simp (disch := first | omega | assumption) only [↓bd_rt, ↓bd_bd, ↓bd_ite, ↓bd_jn, ↓jn_ap, ↓ite_ap, ↓bd_gI1, ↓bd_pI1, ↓bd_gR1, ↓bd_pR1, ↓bd_gM, rt_ap, ↓reduceIte, iN_div, iN_divL, iN_add, iN_mul, iN_addL, iN_Ladd, iN_mulL, iN_Lmul, iN_subL, iN_sub, iN_le_T, iN_le_F, iN_lt_T, iN_lt_F, iN_eq_F, iN_leL_T, iN_leL_F, iN_Lle_T, iN_Lle_F, iN_ltL_T, iN_ltL_F, iN_Llt_T, iN_Llt_F, iN_eqL_T, iN_eqL_F, iN_m1, m1_iN, iN_le_m1, m1_le_iN, iN_neg, iN_pos, i10, i01, i00, i11, u3_op, u3_or, u3_same, pup_eq, pup_ne, hN.n, ↓rI125_1, ↓rI126_1, ↓rI128_1, hN.hs j hj, hN.us j hj, hN.td j hj, c1, c2, if_true, if_neg c3]
        · rw [if_pos c1, if_neg c2]
          simp (disch := first | omega | assumption) only [↓bd_rt, ↓bd_bd, ↓bd_ite, ↓bd_jn, ↓jn_ap, ↓ite_ap, ↓bd_gI1, ↓bd_pI1, ↓bd_gR1, ↓bd_pR1, ↓bd_gM, rt_ap, ↓reduceIte, iN_div, iN_divL, iN_add, iN_mul, iN_addL, iN_Ladd, iN_mulL, iN_Lmul, iN_subL, iN_sub, iN_le_T, iN_le_F, iN_lt_T, iN_lt_F, iN_eq_F, iN_leL_T, iN_leL_F, iN_Lle_T, iN_Lle_F, iN_ltL_T, iN_ltL_F, iN_Llt_T, iN_Llt_F, iN_eqL_T, iN_eqL_F, iN_m1, m1_iN, iN_le_m1, m1_le_iN, iN_neg, iN_pos, i10, i01, i00, i11, u3_op, u3_or, u3_same, pup_eq, pup_ne, hN.n, ↓rI125_1, ↓rI126_1, hN.hs j hj, hN.us j hj, c1, if_true, if_neg c2]
      · rw [if_neg c1]
        simp (disch := first | omega | assumption) only [↓bd_rt, ↓bd_bd, ↓bd_ite, ↓bd_jn, ↓jn_ap, ↓ite_ap, ↓bd_gI1, ↓bd_pI1, ↓bd_gR1, ↓bd_pR1, ↓bd_gM, rt_ap, ↓reduceIte, iN_div, iN_divL, iN_add, iN_mul, iN_addL, iN_Ladd, iN_mulL, iN_Lmul, iN_subL, iN_sub, iN_le_T, iN_le_F, iN_lt_T, iN_lt_F, iN_eq_F, iN_leL_T, iN_leL_F, iN_Lle_T, iN_Lle_F, iN_ltL_T, iN_ltL_F, iN_Llt_T, iN_Llt_F, iN_eqL_T, iN_eqL_F, iN_m1, m1_iN, iN_le_m1, m1_le_iN, iN_neg, iN_pos, i10, i01, i00, i11, u3_op, u3_or, u3_same, pup_eq, pup_ne, hN.n, ↓rI125_1, hN.hs j hj, if_neg c1]
    · intro rec
      unfold p_X3_daysFrom_L5
      dsimp only
      simp (disch := first | omega | assumption) only [↓bd_rt, ↓bd_bd, ↓bd_ite, ↓bd_jn, ↓jn_ap, ↓ite_ap, ↓bd_gI1, ↓bd_pI1, ↓bd_gR1, ↓bd_pR1, ↓bd_gM, rt_ap, ↓reduceIte, iN_div, iN_divL, iN_add, iN_mul, iN_addL, iN_Ladd, iN_mulL, iN_Lmul, iN_subL, iN_sub, iN_le_T, iN_le_F, iN_lt_T, iN_lt_F, iN_eq_F, iN_leL_T, iN_leL_F, iN_Lle_T, iN_Lle_F, iN_ltL_T, iN_ltL_F, iN_Llt_T, iN_Llt_F, iN_eqL_T, iN_eqL_F, iN_m1, m1_iN, iN_le_m1, m1_le_iN, iN_neg, iN_pos, i10, i01, i00, i11, u3_op, u3_or, u3_same, pup_eq, pup_ne, hN.n]
  unfold p_X3_daysFrom daysS
  rw [bd_gM hφ, bd_of key]
  by_cases d0 : lkJ c h q c.n = -1
  · rw [if_pos d0, if_pos d0, rt_ap]
  · rw [if_neg d0, if_neg d0, rt_ap]
