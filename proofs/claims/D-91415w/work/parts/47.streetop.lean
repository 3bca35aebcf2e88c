/-! PURE: the operations on streets -/
abbrev inN (a : Int32) (n : Nat) : Prop := ¬ a < 0 ∧ a < iN n
theorem inN.ex {a : Int32} {n : Nat} (h : inN a n) (hn : n < 2147483648) : ∃ k, k < n ∧ a = iN k := by
  obtain ⟨k, hk, rfl⟩ := iN_of h.1
  have h2 := h.2
  rw [iN_lt hk hn] at h2
  exact ⟨k, h2, rfl⟩
theorem inN.mk {k n : Nat} (h : k < n) (hn : n < 2147483648) : inN (iN k) n := by
  refine ⟨?_, ?_⟩
  · rw [iN_neg (by omega)]; exact id
  · rw [iN_lt (by omega) hn]; exact h
theorem out_n {a : Int32} {n : Nat} (hn : n < 2147483648) : out a 0 (iN n - 1) ↔ ¬ inN a n := by
  have h0 : (0 : Int32).toInt = 0 := rfl
  have hs : (iN n - 1).toInt = n - 1 := by
    rw [Int32.toInt_sub, iN_toInt hn, show (1 : Int32).toInt = 1 from rfl, Int.bmod_def]
    omega
  unfold inN out
  rw [Int32.lt_iff_toInt_lt, Int32.lt_iff_toInt_lt, Int32.lt_iff_toInt_lt, hs, iN_toInt hn, h0]
  omega
theorem out_20 {a : Int32} : out a 0 19 ↔ ¬ inN a 20 := out_n (n := 20) (by decide)
theorem sp_X1_isCorner {a : Int32} {φ : amSh} {S : amSt} : p_X1_isCorner a φ S = some (if inN a 20 then 1 else 0, S) := by
  unfold p_X1_isCorner
  simp only [bd_of sp_X1_in]
  by_cases h : inN a 20
  · have : ¬ out a 0 19 := fun z => out_20.mp z h
    rw [if_neg this, if_pos h, bd_gd (Or.inr rfl), rt_ap]
  · have : out a 0 19 := out_20.mpr h
    rw [if_pos this, if_neg h, bd_gd (Or.inl rfl), rt_ap]
theorem sp_X3_isCorner {a : Int32} {φ : amSh} {S : amSt} : p_X3_isCorner a φ S = some (if inN a 20 then 1 else 0, S) := by
  unfold p_X3_isCorner
  have h20 : (20 ≤ a) = ¬ (a < iN 20) := by
    rw [Int32.le_iff_toInt_le, Int32.lt_iff_toInt_lt]
    have : (20 : Int32).toInt = (iN 20).toInt := rfl
    apply propext; omega
  by_cases h1 : a < 0
  · simp [inN, h1, jn_ap, rt_ap]
  · by_cases h2 : a < iN 20
    · simp [inN, h1, h2, h20, jn_ap, rt_ap]
    · simp [inN, h1, h2, h20, jn_ap, rt_ap]
theorem sp_X1_isStreet {c : CSt} (h : c.WF) {φ : amSh} {S : amSt} (hR : RCst c φ S) {a : Int32} : p_X1_isStreet a φ S = some (if inN a c.n then 1 else 0, S) := by
  have hn := h.hn
  unfold p_X1_isStreet
  rw [bd_gI1, hR.n, bd_of sp_X1_in]
  by_cases h : inN a c.n
  · have : ¬ out a 0 (iN c.n - 1) := fun z => (out_n (by omega)).mp z h
    rw [if_neg this, if_pos h, bd_gd (Or.inr rfl), rt_ap]
  · have : out a 0 (iN c.n - 1) := (out_n (by omega)).mpr h
    rw [if_pos this, if_neg h, bd_gd (Or.inl rfl), rt_ap]
theorem i32_nle {a b : Int32} : (b ≤ a) = ¬ (a < b) := by
  rw [Int32.le_iff_toInt_le, Int32.lt_iff_toInt_lt]
  apply propext; omega
theorem sp_X3_isStreet {c : CSt} {φ : amSh} {S : amSt} (hR : RMst c S) {a : Int32} : p_X3_isStreet a φ S = some (if inN a c.n then 1 else 0, S) := by
  unfold p_X3_isStreet
  by_cases h1 : a < 0
  · simp [inN, h1, jn_ap, rt_ap]
  · by_cases h2 : a < iN c.n
    · have h3 : ¬ iN c.n ≤ a := by rw [i32_nle]; exact fun z => z h2
      rw [if_pos ⟨h1, h2⟩, jn_ap, ite_ap, if_neg h1, bd_gI1, hR.n, ite_ap, if_neg h3, rt_ap]
    · have h3 : iN c.n ≤ a := by rw [i32_nle]; exact h2
      rw [if_neg (fun z => h2 z.2), jn_ap, ite_ap, if_neg h1, bd_gI1, hR.n, ite_ap, if_pos h3]; exact rt_ap
theorem ip {c : Prop} [Decidable c] (h : c) : (if c then (1 : Int32) else 0) = 1 := if_pos h
theorem iq {c : Prop} [Decidable c] (h : ¬ c) : (if c then (1 : Int32) else 0) = 0 := if_neg h
theorem jp {c : Prop} [Decidable c] (h : c) : (if c then (0 : Int32) else 1) = 0 := if_pos h
theorem jq {c : Prop} [Decidable c] (h : ¬ c) : (if c then (0 : Int32) else 1) = 1 := if_neg h
/-! jam -/
def jamS (c : CSt) (a1 a2 a3 : Int32) : Int32 × CSt :=
  if inN a1 c.n then if out a2 0 3 then (0, c) else if out a3 100 400 then (0, c) else
    (1, c.s_jam (pup c.jam (4 * a1.toNatClampNeg + a2.toNatClampNeg) a3.toNatClampNeg)) else (0, c)
theorem jamS_WF {c : CSt} (h : c.WF) (a1 a2 a3 : Int32) : (jamS c a1 a2 a3).2.WF := by
  unfold jamS
  split
  · split
    · exact h
    · split
      · exact h
      · rename_i h1 h2 h3
        obtain ⟨v, rfl, v1, v2⟩ := not_out (lo := 100) (hi := 400) h3 (by decide) (by decide)
        refine CSt.WF.mk h.hn h.one h.oth h.len ?_ h.clo h.dle h.dmin h.dsnd
        intro s p hs hp
        show 100 ≤ pup c.jam _ _ (4 * s + p) ∧ pup c.jam _ _ (4 * s + p) ≤ 400
        unfold pup
        split
        · rw [iN_nat (by omega)]; exact ⟨v1, v2⟩
        · exact h.jam s p hs hp
  · exact h
theorem op_X1_jam {c : CSt} (h : c.WF) {φ : amSh} {S : amSt} (hφ : φ.1 255 ≠ 0) (hR : RCst c φ S) {a1 a2 a3 : Int32} : Rs (fun b S' => b = (jamS c a1 a2 a3).1 ∧ RCst (jamS c a1 a2 a3).2 φ S') (p_X1_jam a1 a2 a3 φ S) := by
  have hn := h.hn
  unfold p_X1_jam
  by_cases h1 : inN a1 c.n
  · by_cases h2 : out a2 0 3
    · rw [show jamS c a1 a2 a3 = (0, c) by unfold jamS; rw [if_pos h1, if_pos h2]]
      simp (disch := first | omega | assumption) only [↓bd_rt, ↓bd_bd, ↓bd_ite, ↓bd_jn, ↓jn_ap, ↓ite_ap, ↓bd_gI1, ↓bd_pI1, ↓bd_gR1, ↓bd_pR1, ↓bd_gM, rt_ap, ↓reduceIte, iN_div, iN_divL, iN_add, iN_mul, iN_addL, iN_Ladd, iN_mulL, iN_Lmul, iN_subL, iN_sub, iN_le_T, iN_le_F, iN_lt_T, iN_lt_F, iN_eq_F, iN_leL_T, iN_leL_F, iN_Lle_T, iN_Lle_F, iN_ltL_T, iN_ltL_F, iN_Llt_T, iN_Llt_F, iN_eqL_T, iN_eqL_F, iN_m1, m1_iN, iN_le_m1, m1_le_iN, iN_neg, iN_pos, i10, i01, i00, i11, u3_op, u3_or, u3_same, pup_eq, pup_ne, ↓bd_of (sp_X1_isStreet h hR), ip h1, ↓bd_of sp_X1_in, jp h2]
      exact Rs.mk ⟨rfl, hR⟩
    · by_cases h3 : out a3 100 400
      · rw [show jamS c a1 a2 a3 = (0, c) by unfold jamS; rw [if_pos h1, if_neg h2, if_pos h3]]
        simp (disch := first | omega | assumption) only [↓bd_rt, ↓bd_bd, ↓bd_ite, ↓bd_jn, ↓jn_ap, ↓ite_ap, ↓bd_gI1, ↓bd_pI1, ↓bd_gR1, ↓bd_pR1, ↓bd_gM, rt_ap, ↓reduceIte, iN_div, iN_divL, iN_add, iN_mul, iN_addL, iN_Ladd, iN_mulL, iN_Lmul, iN_subL, iN_sub, iN_le_T, iN_le_F, iN_lt_T, iN_lt_F, iN_eq_F, iN_leL_T, iN_leL_F, iN_Lle_T, iN_Lle_F, iN_ltL_T, iN_ltL_F, iN_Llt_T, iN_Llt_F, iN_eqL_T, iN_eqL_F, iN_m1, m1_iN, iN_le_m1, m1_le_iN, iN_neg, iN_pos, i10, i01, i00, i11, u3_op, u3_or, u3_same, pup_eq, pup_ne, ↓bd_of (sp_X1_isStreet h hR), ip h1, ↓bd_of sp_X1_in, jq h2, jp h3]
        exact Rs.mk ⟨rfl, hR⟩
      · rw [show jamS c a1 a2 a3 = (1, c.s_jam (pup c.jam (4 * a1.toNatClampNeg + a2.toNatClampNeg) a3.toNatClampNeg)) by unfold jamS; rw [if_pos h1, if_neg h2, if_neg h3]]
        obtain ⟨s, hs, rfl⟩ := h1.ex (by omega)
        obtain ⟨p, rfl, p1, p2⟩ := not_out (lo := 0) (hi := 3) h2 (by decide) (by decide)
        obtain ⟨v, rfl, v1, v2⟩ := not_out (lo := 100) (hi := 400) h3 (by decide) (by decide)
        have hst := hR.stg s hs
        simp (disch := first | omega | assumption) only [↓bd_rt, ↓bd_bd, ↓bd_ite, ↓bd_jn, ↓jn_ap, ↓ite_ap, ↓bd_gI1, ↓bd_pI1, ↓bd_gR1, ↓bd_pR1, ↓bd_gM, rt_ap, ↓reduceIte, iN_div, iN_divL, iN_add, iN_mul, iN_addL, iN_Ladd, iN_mulL, iN_Lmul, iN_subL, iN_sub, iN_le_T, iN_le_F, iN_lt_T, iN_lt_F, iN_eq_F, iN_leL_T, iN_leL_F, iN_Lle_T, iN_Lle_F, iN_ltL_T, iN_ltL_F, iN_Llt_T, iN_Llt_F, iN_eqL_T, iN_eqL_F, iN_m1, m1_iN, iN_le_m1, m1_le_iN, iN_neg, iN_pos, i10, i01, i00, i11, u3_op, u3_or, u3_same, pup_eq, pup_ne, ↓bd_of (sp_X1_isStreet h hR), ip h1, ↓bd_of sp_X1_in, jq h2, jq h3, ↓rR20_1, hR.obj s hs, ↓bd_gC, ↓wI142]
        refine Rs.mk ⟨rfl, ?_⟩
        rw [iN_nat (by omega), iN_nat (by omega), iN_nat (by omega)]
        refine RCst.mk hR.n hR.obj hR.one hR.oth hR.len hR.cl ?_ hR.stg hR.cnt hR.cnt2
        intro s' p' hs' hp'
        show u3 S.1 142 (s + 1) p (iN v) 142 (s' + 1) p' = iN (pup c.jam (4 * s + p) v (4 * s' + p'))
        by_cases e : s' = s
        · subst e
          rw [u3_same]
          by_cases e2 : p' = p
          · subst e2; rw [pup_eq, pup_eq]
          · rw [pup_ne e2, pup_ne (by omega)]; exact hR.jam s' p' hs' hp'
        · rw [u3_or (by omega), pup_ne (by omega)]; exact hR.jam s' p' hs' hp'
  · rw [show jamS c a1 a2 a3 = (0, c) by unfold jamS; rw [if_neg h1]]
    simp (disch := first | omega | assumption) only [↓bd_rt, ↓bd_bd, ↓bd_ite, ↓bd_jn, ↓jn_ap, ↓ite_ap, ↓bd_gI1, ↓bd_pI1, ↓bd_gR1, ↓bd_pR1, ↓bd_gM, rt_ap, ↓reduceIte, iN_div, iN_divL, iN_add, iN_mul, iN_addL, iN_Ladd, iN_mulL, iN_Lmul, iN_subL, iN_sub, iN_le_T, iN_le_F, iN_lt_T, iN_lt_F, iN_eq_F, iN_leL_T, iN_leL_F, iN_Lle_T, iN_Lle_F, iN_ltL_T, iN_ltL_F, iN_Llt_T, iN_Llt_F, iN_eqL_T, iN_eqL_F, iN_m1, m1_iN, iN_le_m1, m1_le_iN, iN_neg, iN_pos, i10, i01, i00, i11, u3_op, u3_or, u3_same, pup_eq, pup_ne, ↓bd_of (sp_X1_isStreet h hR), iq h1]
    exact Rs.mk ⟨rfl, hR⟩
theorem op_X3_jam {c : CSt} (h : c.WF) {φ : amSh} {S : amSt} (hφ : φ.1 255 ≠ 0) (hR0 : RMst c S) {a1 a2 a3 : Int32} : Rs (fun b S' => b = (jamS c a1 a2 a3).1 ∧ RMst (jamS c a1 a2 a3).2 S') (p_X3_jam a1 a2 a3 φ S) := by
  have hn := h.hn
  have hR : RMst c (u3 S.1 1 1 0 0, S.2) := hR0.fr (L := [2000]) (fun p r j hk => sm_u3 fun z => hk (z ▸ by decide)) (by decide)
  unfold p_X3_jam
  by_cases h1 : inN a1 c.n
  · by_cases h2 : out a2 0 3
    · rw [show jamS c a1 a2 a3 = (0, c) by unfold jamS; rw [if_pos h1, if_pos h2]]
      simp (disch := first | omega | assumption) only [↓bd_rt, ↓bd_bd, ↓bd_ite, ↓bd_jn, ↓jn_ap, ↓ite_ap, ↓bd_gI1, ↓bd_pI1, ↓bd_gR1, ↓bd_pR1, ↓bd_gM, rt_ap, ↓reduceIte, iN_div, iN_divL, iN_add, iN_mul, iN_addL, iN_Ladd, iN_mulL, iN_Lmul, iN_subL, iN_sub, iN_le_T, iN_le_F, iN_lt_T, iN_lt_F, iN_eq_F, iN_leL_T, iN_leL_F, iN_Lle_T, iN_Lle_F, iN_ltL_T, iN_ltL_F, iN_Llt_T, iN_Llt_F, iN_eqL_T, iN_eqL_F, iN_m1, m1_iN, iN_le_m1, m1_le_iN, iN_neg, iN_pos, i10, i01, i00, i11, u3_op, u3_or, u3_same, pup_eq, pup_ne, ↓bd_of (sp_X3_isStreet hR), ip h1, ↓bd_of sp_X3_isIn, jp h2]
      exact Rs.mk ⟨rfl, hR⟩
    · by_cases h3 : out a3 100 400
      · rw [show jamS c a1 a2 a3 = (0, c) by unfold jamS; rw [if_pos h1, if_neg h2, if_pos h3]]
        simp (disch := first | omega | assumption) only [↓bd_rt, ↓bd_bd, ↓bd_ite, ↓bd_jn, ↓jn_ap, ↓ite_ap, ↓bd_gI1, ↓bd_pI1, ↓bd_gR1, ↓bd_pR1, ↓bd_gM, rt_ap, ↓reduceIte, iN_div, iN_divL, iN_add, iN_mul, iN_addL, iN_Ladd, iN_mulL, iN_Lmul, iN_subL, iN_sub, iN_le_T, iN_le_F, iN_lt_T, iN_lt_F, iN_eq_F, iN_leL_T, iN_leL_F, iN_Lle_T, iN_Lle_F, iN_ltL_T, iN_ltL_F, iN_Llt_T, iN_Llt_F, iN_eqL_T, iN_eqL_F, iN_m1, m1_iN, iN_le_m1, m1_le_iN, iN_neg, iN_pos, i10, i01, i00, i11, u3_op, u3_or, u3_same, pup_eq, pup_ne, ↓bd_of (sp_X3_isStreet hR), ip h1, ↓bd_of sp_X3_isIn, jq h2, jp h3]
        exact Rs.mk ⟨rfl, hR⟩
      · rw [show jamS c a1 a2 a3 = (1, c.s_jam (pup c.jam (4 * a1.toNatClampNeg + a2.toNatClampNeg) a3.toNatClampNeg)) by unfold jamS; rw [if_pos h1, if_neg h2, if_neg h3]]
        obtain ⟨s, hs, rfl⟩ := h1.ex (by omega)
        obtain ⟨p, rfl, p1, p2⟩ := not_out (lo := 0) (hi := 3) h2 (by decide) (by decide)
        obtain ⟨v, rfl, v1, v2⟩ := not_out (lo := 100) (hi := 400) h3 (by decide) (by decide)
        simp (disch := first | omega | assumption) only [↓bd_rt, ↓bd_bd, ↓bd_ite, ↓bd_jn, ↓jn_ap, ↓ite_ap, ↓bd_gI1, ↓bd_pI1, ↓bd_gR1, ↓bd_pR1, ↓bd_gM, rt_ap, ↓reduceIte, iN_div, iN_divL, iN_add, iN_mul, iN_addL, iN_Ladd, iN_mulL, iN_Lmul, iN_subL, iN_sub, iN_le_T, iN_le_F, iN_lt_T, iN_lt_F, iN_eq_F, iN_leL_T, iN_leL_F, iN_Lle_T, iN_Lle_F, iN_ltL_T, iN_ltL_F, iN_Llt_T, iN_Llt_F, iN_eqL_T, iN_eqL_F, iN_m1, m1_iN, iN_le_m1, m1_le_iN, iN_neg, iN_pos, i10, i01, i00, i11, u3_op, u3_or, u3_same, pup_eq, pup_ne, ↓bd_of (sp_X3_isStreet hR), ip h1, ↓bd_of sp_X3_isIn, jq h2, jq h3, ↓wI58_1]
        refine Rs.mk ⟨rfl, ?_⟩
        rw [iN_nat (by omega), iN_nat (by omega), iN_nat (by omega)]
        refine RMst.mk hR.n hR.one hR.oth hR.len ?_ hR.cl hR.d
        intro k hk
        show u3 (u3 S.1 1 1 0 0) 58 1 (4 * s + p) (iN v) 58 1 k = iN (pup c.jam (4 * s + p) v k)
        rw [u3_same]
        by_cases e : k = 4 * s + p
        · subst e; rw [pup_eq, pup_eq]
        · rw [pup_ne e, pup_ne e]; exact hR.jam k hk
  · rw [show jamS c a1 a2 a3 = (0, c) by unfold jamS; rw [if_neg h1]]
    simp (disch := first | omega | assumption) only [↓bd_rt, ↓bd_bd, ↓bd_ite, ↓bd_jn, ↓jn_ap, ↓ite_ap, ↓bd_gI1, ↓bd_pI1, ↓bd_gR1, ↓bd_pR1, ↓bd_gM, rt_ap, ↓reduceIte, iN_div, iN_divL, iN_add, iN_mul, iN_addL, iN_Ladd, iN_mulL, iN_Lmul, iN_subL, iN_sub, iN_le_T, iN_le_F, iN_lt_T, iN_lt_F, iN_eq_F, iN_leL_T, iN_leL_F, iN_Lle_T, iN_Lle_F, iN_ltL_T, iN_ltL_F, iN_Llt_T, iN_Llt_F, iN_eqL_T, iN_eqL_F, iN_m1, m1_iN, iN_le_m1, m1_le_iN, iN_neg, iN_pos, i10, i01, i00, i11, u3_op, u3_or, u3_same, pup_eq, pup_ne, ↓bd_of (sp_X3_isStreet hR), iq h1]
    exact Rs.mk ⟨rfl, hR⟩
/-! closed -/
def closedS (c : CSt) (a1 a2 : Int32) : Int32 × CSt :=
  if inN a1 c.n then if c.cl a1.toNatClampNeg = a2 then (0, c) else (1, c.s_cl (pup c.cl a1.toNatClampNeg a2)) else (0, c)
theorem closedS_WF {c : CSt} (h : c.WF) (a1 a2 : Int32) : (closedS c a1 a2).2.WF := by
  unfold closedS
  split
  · rename_i h1
    split
    · exact h
    · refine CSt.WF.mk h.hn h.one h.oth h.len h.jam ?_ h.dle h.dmin h.dsnd
      intro s hs
      have hs2 : c.n ≤ s := hs
      have hn := h.hn
      obtain ⟨k, hk, rfl⟩ := h1.ex (by omega)
      show pup c.cl _ a2 s = 0
      rw [iN_nat (by omega), pup_ne (by omega)]
      exact h.clo s hs2
  · exact h
theorem op_X1_closed {c : CSt} (h : c.WF) {φ : amSh} {S : amSt} (hφ : φ.1 255 ≠ 0) (hR : RCst c φ S) {a1 a2 : Int32} (hz : a2 = 0 ∨ a2 = 1) : Rs (fun b S' => b = (closedS c a1 a2).1 ∧ RCst (closedS c a1 a2).2 φ S') (p_X1_closed a1 a2 φ S) := by
  have hn := h.hn
  unfold p_X1_closed
  by_cases h1 : inN a1 c.n
  · obtain ⟨s, hs, rfl⟩ := h1.ex (by omega)
    have en : (iN s).toNatClampNeg = s := iN_nat (by omega)
    by_cases h2 : c.cl s = a2
    · rw [show closedS c (iN s) a2 = (0, c) by unfold closedS; rw [if_pos h1, en, if_pos h2]]
      simp (disch := first | omega | assumption) only [↓bd_rt, ↓bd_bd, ↓bd_ite, ↓bd_jn, ↓jn_ap, ↓ite_ap, ↓bd_gI1, ↓bd_pI1, ↓bd_gR1, ↓bd_pR1, ↓bd_gM, rt_ap, ↓reduceIte, iN_div, iN_divL, iN_add, iN_mul, iN_addL, iN_Ladd, iN_mulL, iN_Lmul, iN_subL, iN_sub, iN_le_T, iN_le_F, iN_lt_T, iN_lt_F, iN_eq_F, iN_leL_T, iN_leL_F, iN_Lle_T, iN_Lle_F, iN_ltL_T, iN_ltL_F, iN_Llt_T, iN_Llt_F, iN_eqL_T, iN_eqL_F, iN_m1, m1_iN, iN_le_m1, m1_le_iN, iN_neg, iN_pos, i10, i01, i00, i11, u3_op, u3_or, u3_same, pup_eq, pup_ne, ↓bd_of (sp_X1_isStreet h hR), ip h1, ↓rR20_1, hR.obj s hs, ↓bd_gI, hR.cl s hs, if_pos h2]
      exact Rs.mk ⟨rfl, hR⟩
    · rw [show closedS c (iN s) a2 = (1, c.s_cl (pup c.cl s a2)) by unfold closedS; rw [if_pos h1, en, if_neg h2]]
      simp (disch := first | omega | assumption) only [↓bd_rt, ↓bd_bd, ↓bd_ite, ↓bd_jn, ↓jn_ap, ↓ite_ap, ↓bd_gI1, ↓bd_pI1, ↓bd_gR1, ↓bd_pR1, ↓bd_gM, rt_ap, ↓reduceIte, iN_div, iN_divL, iN_add, iN_mul, iN_addL, iN_Ladd, iN_mulL, iN_Lmul, iN_subL, iN_sub, iN_le_T, iN_le_F, iN_lt_T, iN_lt_F, iN_eq_F, iN_leL_T, iN_leL_F, iN_Lle_T, iN_Lle_F, iN_ltL_T, iN_ltL_F, iN_Llt_T, iN_Llt_F, iN_eqL_T, iN_eqL_F, iN_m1, m1_iN, iN_le_m1, m1_le_iN, iN_neg, iN_pos, i10, i01, i00, i11, u3_op, u3_or, u3_same, pup_eq, pup_ne, ↓bd_of (sp_X1_isStreet h hR), ip h1, ↓rR20_1, hR.obj s hs, ↓bd_gI, hR.cl s hs, if_neg h2, ↓bd_gd hz, ↓bd_pI]
      refine Rs.mk ⟨rfl, ?_⟩
      refine RCst.mk hR.n hR.obj ?_ ?_ ?_ ?_ hR.jam hR.stg hR.cnt hR.cnt2
      · intro s' hs'; refine Eq.trans ?_ (hR.one s' hs'); simp [u3]
      · intro s' hs'; refine Eq.trans ?_ (hR.oth s' hs'); simp [u3]
      · intro s' hs'; refine Eq.trans ?_ (hR.len s' hs'); simp [u3]
      · intro s' hs'
        show u3 S.1 2 (s + 1) 4 a2 2 (s' + 1) 4 = pup c.cl s a2 s'
        by_cases e : s' = s
        · subst e; simp [u3, pup]
        · rw [pup_ne e]; refine Eq.trans ?_ (hR.cl s' hs'); simp [u3, e]
  · rw [show closedS c a1 a2 = (0, c) by unfold closedS; rw [if_neg h1]]
    simp (disch := first | omega | assumption) only [↓bd_rt, ↓bd_bd, ↓bd_ite, ↓bd_jn, ↓jn_ap, ↓ite_ap, ↓bd_gI1, ↓bd_pI1, ↓bd_gR1, ↓bd_pR1, ↓bd_gM, rt_ap, ↓reduceIte, iN_div, iN_divL, iN_add, iN_mul, iN_addL, iN_Ladd, iN_mulL, iN_Lmul, iN_subL, iN_sub, iN_le_T, iN_le_F, iN_lt_T, iN_lt_F, iN_eq_F, iN_leL_T, iN_leL_F, iN_Lle_T, iN_Lle_F, iN_ltL_T, iN_ltL_F, iN_Llt_T, iN_Llt_F, iN_eqL_T, iN_eqL_F, iN_m1, m1_iN, iN_le_m1, m1_le_iN, iN_neg, iN_pos, i10, i01, i00, i11, u3_op, u3_or, u3_same, pup_eq, pup_ne, ↓bd_of (sp_X1_isStreet h hR), iq h1]
    exact Rs.mk ⟨rfl, hR⟩
theorem op_X3_closed {c : CSt} (h : c.WF) {φ : amSh} {S : amSt} (hφ : φ.1 255 ≠ 0) (hR0 : RMst c S) {a1 a2 : Int32} (hz : a2 = 0 ∨ a2 = 1) : Rs (fun b S' => b = (closedS c a1 a2).1 ∧ RMst (closedS c a1 a2).2 S') (p_X3_closed a1 a2 φ S) := by
  have hn := h.hn
  have hR : RMst c (u3 S.1 1 1 0 0, S.2) := hR0.fr (L := [2000]) (fun p r j hk => sm_u3 fun z => hk (z ▸ by decide)) (by decide)
  unfold p_X3_closed
  by_cases h1 : inN a1 c.n
  · obtain ⟨s, hs, rfl⟩ := h1.ex (by omega)
    have en : (iN s).toNatClampNeg = s := iN_nat (by omega)
    have hcl := hR0.cl s (by omega)
    by_cases h2 : c.cl s = a2
    · rw [show closedS c (iN s) a2 = (0, c) by unfold closedS; rw [if_pos h1, en, if_pos h2]]
      simp (disch := first | omega | assumption) only [↓bd_rt, ↓bd_bd, ↓bd_ite, ↓bd_jn, ↓jn_ap, ↓ite_ap, ↓bd_gI1, ↓bd_pI1, ↓bd_gR1, ↓bd_pR1, ↓bd_gM, rt_ap, ↓reduceIte, iN_div, iN_divL, iN_add, iN_mul, iN_addL, iN_Ladd, iN_mulL, iN_Lmul, iN_subL, iN_sub, iN_le_T, iN_le_F, iN_lt_T, iN_lt_F, iN_eq_F, iN_leL_T, iN_leL_F, iN_Lle_T, iN_Lle_F, iN_ltL_T, iN_ltL_F, iN_Llt_T, iN_Llt_F, iN_eqL_T, iN_eqL_F, iN_m1, m1_iN, iN_le_m1, m1_le_iN, iN_neg, iN_pos, i10, i01, i00, i11, u3_op, u3_or, u3_same, pup_eq, pup_ne, ↓bd_of (sp_X3_isStreet hR), ip h1, ↓rI60_1, hcl, if_pos h2]
      exact Rs.mk ⟨rfl, hR⟩
    · rw [show closedS c (iN s) a2 = (1, c.s_cl (pup c.cl s a2)) by unfold closedS; rw [if_pos h1, en, if_neg h2]]
      simp (disch := first | omega | assumption) only [↓bd_rt, ↓bd_bd, ↓bd_ite, ↓bd_jn, ↓jn_ap, ↓ite_ap, ↓bd_gI1, ↓bd_pI1, ↓bd_gR1, ↓bd_pR1, ↓bd_gM, rt_ap, ↓reduceIte, iN_div, iN_divL, iN_add, iN_mul, iN_addL, iN_Ladd, iN_mulL, iN_Lmul, iN_subL, iN_sub, iN_le_T, iN_le_F, iN_lt_T, iN_lt_F, iN_eq_F, iN_leL_T, iN_leL_F, iN_Lle_T, iN_Lle_F, iN_ltL_T, iN_ltL_F, iN_Llt_T, iN_Llt_F, iN_eqL_T, iN_eqL_F, iN_m1, m1_iN, iN_le_m1, m1_le_iN, iN_neg, iN_pos, i10, i01, i00, i11, u3_op, u3_or, u3_same, pup_eq, pup_ne, ↓bd_of (sp_X3_isStreet hR), ip h1, ↓rI60_1, hcl, if_neg h2, ↓bd_gd hz, ↓wI60_1]
      refine Rs.mk ⟨rfl, ?_⟩
      refine RMst.mk hR.n hR.one hR.oth hR.len hR.jam ?_ hR.d
      intro s' hs'
      show u3 (u3 S.1 1 1 0 0) 60 1 s a2 60 1 s' = pup c.cl s a2 s'
      rw [u3_same]
      by_cases e : s' = s
      · subst e; rw [pup_eq, pup_eq]
      · rw [pup_ne e, pup_ne e]; exact hR.cl s' hs'
  · rw [show closedS c a1 a2 = (0, c) by unfold closedS; rw [if_neg h1]]
    simp (disch := first | omega | assumption) only [↓bd_rt, ↓bd_bd, ↓bd_ite, ↓bd_jn, ↓jn_ap, ↓ite_ap, ↓bd_gI1, ↓bd_pI1, ↓bd_gR1, ↓bd_pR1, ↓bd_gM, rt_ap, ↓reduceIte, iN_div, iN_divL, iN_add, iN_mul, iN_addL, iN_Ladd, iN_mulL, iN_Lmul, iN_subL, iN_sub, iN_le_T, iN_le_F, iN_lt_T, iN_lt_F, iN_eq_F, iN_leL_T, iN_leL_F, iN_Lle_T, iN_Lle_F, iN_ltL_T, iN_ltL_F, iN_Llt_T, iN_Llt_F, iN_eqL_T, iN_eqL_F, iN_m1, m1_iN, iN_le_m1, m1_le_iN, iN_neg, iN_pos, i10, i01, i00, i11, u3_op, u3_or, u3_same, pup_eq, pup_ne, ↓bd_of (sp_X3_isStreet hR), iq h1]
    exact Rs.mk ⟨rfl, hR⟩
/-! come, feet -/
def comeOp (c : CSt) (a1 a2 a3 a4 : Int32) : Int32 :=
  if inN a1 20 then if inN a2 20 then if out a3 0 30000 then -1 else if out a4 50 300 then -1 else oN (comeS c a1.toNatClampNeg a2.toNatClampNeg a3.toNatClampNeg a4.toNatClampNeg) else -1 else -1
theorem op_X1_come {c : CSt} (h : c.WF) {φ : amSh} {S : amSt} (hφ : φ.1 255 ≠ 0) (hR : RCst c φ S) {a1 a2 a3 a4 : Int32} : Rs (fun b S' => b = comeOp c a1 a2 a3 a4 ∧ RCst c φ S') (p_X1_come a1 a2 a3 a4 φ S) := by
  unfold p_X1_come
  by_cases h1 : inN a1 20
  · by_cases h2 : inN a2 20
    · by_cases h3 : out a3 0 30000
      · simp (disch := first | omega | assumption) only [↓bd_rt, ↓bd_bd, ↓bd_ite, ↓bd_jn, ↓jn_ap, ↓ite_ap, ↓bd_gI1, ↓bd_pI1, ↓bd_gR1, ↓bd_pR1, ↓bd_gM, rt_ap, ↓reduceIte, iN_div, iN_divL, iN_add, iN_mul, iN_addL, iN_Ladd, iN_mulL, iN_Lmul, iN_subL, iN_sub, iN_le_T, iN_le_F, iN_lt_T, iN_lt_F, iN_eq_F, iN_leL_T, iN_leL_F, iN_Lle_T, iN_Lle_F, iN_ltL_T, iN_ltL_F, iN_Llt_T, iN_Llt_F, iN_eqL_T, iN_eqL_F, iN_m1, m1_iN, iN_le_m1, m1_le_iN, iN_neg, iN_pos, i10, i01, i00, i11, u3_op, u3_or, u3_same, pup_eq, pup_ne, ↓bd_of sp_X1_isCorner, ip h1, ip h2, ↓bd_of sp_X1_in, jp h3]
        exact Rs.mk ⟨by unfold comeOp; rw [if_pos h1, if_pos h2, if_pos h3], hR⟩
      · by_cases h4 : out a4 50 300
        · simp (disch := first | omega | assumption) only [↓bd_rt, ↓bd_bd, ↓bd_ite, ↓bd_jn, ↓jn_ap, ↓ite_ap, ↓bd_gI1, ↓bd_pI1, ↓bd_gR1, ↓bd_pR1, ↓bd_gM, rt_ap, ↓reduceIte, iN_div, iN_divL, iN_add, iN_mul, iN_addL, iN_Ladd, iN_mulL, iN_Lmul, iN_subL, iN_sub, iN_le_T, iN_le_F, iN_lt_T, iN_lt_F, iN_eq_F, iN_leL_T, iN_leL_F, iN_Lle_T, iN_Lle_F, iN_ltL_T, iN_ltL_F, iN_Llt_T, iN_Llt_F, iN_eqL_T, iN_eqL_F, iN_m1, m1_iN, iN_le_m1, m1_le_iN, iN_neg, iN_pos, i10, i01, i00, i11, u3_op, u3_or, u3_same, pup_eq, pup_ne, ↓bd_of sp_X1_isCorner, ip h1, ip h2, ↓bd_of sp_X1_in, jq h3, jp h4]
          exact Rs.mk ⟨by unfold comeOp; rw [if_pos h1, if_pos h2, if_neg h3, if_pos h4], hR⟩
        · simp (disch := first | omega | assumption) only [↓bd_rt, ↓bd_bd, ↓bd_ite, ↓bd_jn, ↓jn_ap, ↓ite_ap, ↓bd_gI1, ↓bd_pI1, ↓bd_gR1, ↓bd_pR1, ↓bd_gM, rt_ap, ↓reduceIte, iN_div, iN_divL, iN_add, iN_mul, iN_addL, iN_Ladd, iN_mulL, iN_Lmul, iN_subL, iN_sub, iN_le_T, iN_le_F, iN_lt_T, iN_lt_F, iN_eq_F, iN_leL_T, iN_leL_F, iN_Lle_T, iN_Lle_F, iN_ltL_T, iN_ltL_F, iN_Llt_T, iN_Llt_F, iN_eqL_T, iN_eqL_F, iN_m1, m1_iN, iN_le_m1, m1_le_iN, iN_neg, iN_pos, i10, i01, i00, i11, u3_op, u3_or, u3_same, pup_eq, pup_ne, ↓bd_of sp_X1_isCorner, ip h1, ip h2, ↓bd_of sp_X1_in, jq h3, jq h4]
          unfold comeOp
          rw [if_pos h1, if_pos h2, if_neg h3, if_neg h4]
          obtain ⟨n1, hn1, rfl⟩ := h1.ex (by decide)
          obtain ⟨n2, hn2, rfl⟩ := h2.ex (by decide)
          obtain ⟨n3, rfl, _, hn3⟩ := not_out (lo := 0) (hi := 30000) h3 (by decide) (by decide)
          obtain ⟨n4, rfl, l4, hn4⟩ := not_out (lo := 50) (hi := 300) h4 (by decide) (by decide)
          rw [iN_nat (by omega), iN_nat (by omega), iN_nat (by omega), iN_nat (by omega)]
          refine bdR (sp_X1_comeOn h hφ hR hn1 hn2 hn3 l4 hn4) fun b S1 h1 => ?_
          rw [rt_ap]
          exact Rs.mk ⟨h1.1, hR.fr h1.2 (by decide)⟩
    · simp (disch := first | omega | assumption) only [↓bd_rt, ↓bd_bd, ↓bd_ite, ↓bd_jn, ↓jn_ap, ↓ite_ap, ↓bd_gI1, ↓bd_pI1, ↓bd_gR1, ↓bd_pR1, ↓bd_gM, rt_ap, ↓reduceIte, iN_div, iN_divL, iN_add, iN_mul, iN_addL, iN_Ladd, iN_mulL, iN_Lmul, iN_subL, iN_sub, iN_le_T, iN_le_F, iN_lt_T, iN_lt_F, iN_eq_F, iN_leL_T, iN_leL_F, iN_Lle_T, iN_Lle_F, iN_ltL_T, iN_ltL_F, iN_Llt_T, iN_Llt_F, iN_eqL_T, iN_eqL_F, iN_m1, m1_iN, iN_le_m1, m1_le_iN, iN_neg, iN_pos, i10, i01, i00, i11, u3_op, u3_or, u3_same, pup_eq, pup_ne, ↓bd_of sp_X1_isCorner, ip h1, iq h2]
      exact Rs.mk ⟨by unfold comeOp; rw [if_pos h1, if_neg h2], hR⟩
  · simp (disch := first | omega | assumption) only [↓bd_rt, ↓bd_bd, ↓bd_ite, ↓bd_jn, ↓jn_ap, ↓ite_ap, ↓bd_gI1, ↓bd_pI1, ↓bd_gR1, ↓bd_pR1, ↓bd_gM, rt_ap, ↓reduceIte, iN_div, iN_divL, iN_add, iN_mul, iN_addL, iN_Ladd, iN_mulL, iN_Lmul, iN_subL, iN_sub, iN_le_T, iN_le_F, iN_lt_T, iN_lt_F, iN_eq_F, iN_leL_T, iN_leL_F, iN_Lle_T, iN_Lle_F, iN_ltL_T, iN_ltL_F, iN_Llt_T, iN_Llt_F, iN_eqL_T, iN_eqL_F, iN_m1, m1_iN, iN_le_m1, m1_le_iN, iN_neg, iN_pos, i10, i01, i00, i11, u3_op, u3_or, u3_same, pup_eq, pup_ne, ↓bd_of sp_X1_isCorner, iq h1]
    exact Rs.mk ⟨by unfold comeOp; rw [if_neg h1], hR⟩
theorem op_X3_come {c : CSt} (h : c.WF) {φ : amSh} {S : amSt} (hφ : φ.1 255 ≠ 0) (hR0 : RMst c S) {a1 a2 a3 a4 : Int32} : Rs (fun b S' => b = comeOp c a1 a2 a3 a4 ∧ RMst c S') (p_X3_come a1 a2 a3 a4 φ S) := by
  have hR : RMst c (u3 S.1 1 1 0 0, S.2) := hR0.fr (L := [2000]) (fun p r j hk => sm_u3 fun z => hk (z ▸ by decide)) (by decide)
  unfold p_X3_come
  by_cases h1 : inN a1 20
  · by_cases h2 : inN a2 20
    · by_cases h3 : out a3 0 30000
      · simp (disch := first | omega | assumption) only [↓bd_rt, ↓bd_bd, ↓bd_ite, ↓bd_jn, ↓jn_ap, ↓ite_ap, ↓bd_gI1, ↓bd_pI1, ↓bd_gR1, ↓bd_pR1, ↓bd_gM, rt_ap, ↓reduceIte, iN_div, iN_divL, iN_add, iN_mul, iN_addL, iN_Ladd, iN_mulL, iN_Lmul, iN_subL, iN_sub, iN_le_T, iN_le_F, iN_lt_T, iN_lt_F, iN_eq_F, iN_leL_T, iN_leL_F, iN_Lle_T, iN_Lle_F, iN_ltL_T, iN_ltL_F, iN_Llt_T, iN_Llt_F, iN_eqL_T, iN_eqL_F, iN_m1, m1_iN, iN_le_m1, m1_le_iN, iN_neg, iN_pos, i10, i01, i00, i11, u3_op, u3_or, u3_same, pup_eq, pup_ne, ↓bd_of sp_X3_isCorner, ip h1, ip h2, ↓bd_of sp_X3_isIn, jp h3]
        exact Rs.mk ⟨by unfold comeOp; rw [if_pos h1, if_pos h2, if_pos h3], hR⟩
      · by_cases h4 : out a4 50 300
        · simp (disch := first | omega | assumption) only [↓bd_rt, ↓bd_bd, ↓bd_ite, ↓bd_jn, ↓jn_ap, ↓ite_ap, ↓bd_gI1, ↓bd_pI1, ↓bd_gR1, ↓bd_pR1, ↓bd_gM, rt_ap, ↓reduceIte, iN_div, iN_divL, iN_add, iN_mul, iN_addL, iN_Ladd, iN_mulL, iN_Lmul, iN_subL, iN_sub, iN_le_T, iN_le_F, iN_lt_T, iN_lt_F, iN_eq_F, iN_leL_T, iN_leL_F, iN_Lle_T, iN_Lle_F, iN_ltL_T, iN_ltL_F, iN_Llt_T, iN_Llt_F, iN_eqL_T, iN_eqL_F, iN_m1, m1_iN, iN_le_m1, m1_le_iN, iN_neg, iN_pos, i10, i01, i00, i11, u3_op, u3_or, u3_same, pup_eq, pup_ne, ↓bd_of sp_X3_isCorner, ip h1, ip h2, ↓bd_of sp_X3_isIn, jq h3, jp h4]
          exact Rs.mk ⟨by unfold comeOp; rw [if_pos h1, if_pos h2, if_neg h3, if_pos h4], hR⟩
        · simp (disch := first | omega | assumption) only [↓bd_rt, ↓bd_bd, ↓bd_ite, ↓bd_jn, ↓jn_ap, ↓ite_ap, ↓bd_gI1, ↓bd_pI1, ↓bd_gR1, ↓bd_pR1, ↓bd_gM, rt_ap, ↓reduceIte, iN_div, iN_divL, iN_add, iN_mul, iN_addL, iN_Ladd, iN_mulL, iN_Lmul, iN_subL, iN_sub, iN_le_T, iN_le_F, iN_lt_T, iN_lt_F, iN_eq_F, iN_leL_T, iN_leL_F, iN_Lle_T, iN_Lle_F, iN_ltL_T, iN_ltL_F, iN_Llt_T, iN_Llt_F, iN_eqL_T, iN_eqL_F, iN_m1, m1_iN, iN_le_m1, m1_le_iN, iN_neg, iN_pos, i10, i01, i00, i11, u3_op, u3_or, u3_same, pup_eq, pup_ne, ↓bd_of sp_X3_isCorner, ip h1, ip h2, ↓bd_of sp_X3_isIn, jq h3, jq h4]
          unfold comeOp
          rw [if_pos h1, if_pos h2, if_neg h3, if_neg h4]
          obtain ⟨n1, hn1, rfl⟩ := h1.ex (by decide)
          obtain ⟨n2, hn2, rfl⟩ := h2.ex (by decide)
          obtain ⟨n3, rfl, _, hn3⟩ := not_out (lo := 0) (hi := 30000) h3 (by decide) (by decide)
          obtain ⟨n4, rfl, l4, hn4⟩ := not_out (lo := 50) (hi := 300) h4 (by decide) (by decide)
          rw [iN_nat (by omega), iN_nat (by omega), iN_nat (by omega), iN_nat (by omega)]
          refine bdR (sp_X3_comeBy h hφ hR hn1 hn2 hn3 l4 hn4) fun b S1 h1 => ?_
          rw [rt_ap]
          exact Rs.mk ⟨h1.1, hR.fr h1.2 (by decide)⟩
    · simp (disch := first | omega | assumption) only [↓bd_rt, ↓bd_bd, ↓bd_ite, ↓bd_jn, ↓jn_ap, ↓ite_ap, ↓bd_gI1, ↓bd_pI1, ↓bd_gR1, ↓bd_pR1, ↓bd_gM, rt_ap, ↓reduceIte, iN_div, iN_divL, iN_add, iN_mul, iN_addL, iN_Ladd, iN_mulL, iN_Lmul, iN_subL, iN_sub, iN_le_T, iN_le_F, iN_lt_T, iN_lt_F, iN_eq_F, iN_leL_T, iN_leL_F, iN_Lle_T, iN_Lle_F, iN_ltL_T, iN_ltL_F, iN_Llt_T, iN_Llt_F, iN_eqL_T, iN_eqL_F, iN_m1, m1_iN, iN_le_m1, m1_le_iN, iN_neg, iN_pos, i10, i01, i00, i11, u3_op, u3_or, u3_same, pup_eq, pup_ne, ↓bd_of sp_X3_isCorner, ip h1, iq h2]
      exact Rs.mk ⟨by unfold comeOp; rw [if_pos h1, if_neg h2], hR⟩
  · simp (disch := first | omega | assumption) only [↓bd_rt, ↓bd_bd, ↓bd_ite, ↓bd_jn, ↓jn_ap, ↓ite_ap, ↓bd_gI1, ↓bd_pI1, ↓bd_gR1, ↓bd_pR1, ↓bd_gM, rt_ap, ↓reduceIte, iN_div, iN_divL, iN_add, iN_mul, iN_addL, iN_Ladd, iN_mulL, iN_Lmul, iN_subL, iN_sub, iN_le_T, iN_le_F, iN_lt_T, iN_lt_F, iN_eq_F, iN_leL_T, iN_leL_F, iN_Lle_T, iN_Lle_F, iN_ltL_T, iN_ltL_F, iN_Llt_T, iN_Llt_F, iN_eqL_T, iN_eqL_F, iN_m1, m1_iN, iN_le_m1, m1_le_iN, iN_neg, iN_pos, i10, i01, i00, i11, u3_op, u3_or, u3_same, pup_eq, pup_ne, ↓bd_of sp_X3_isCorner, iq h1]
    exact Rs.mk ⟨by unfold comeOp; rw [if_neg h1], hR⟩
def feetOp (c : CSt) (a1 a2 : Int32) : Int32 :=
  if inN a1 20 then if inN a2 20 then if c.d a1.toNatClampNeg a2.toNatClampNeg = 1000000 then -1 else iN (100 * c.d a1.toNatClampNeg a2.toNatClampNeg) else -1 else -1
theorem sp_X1_walkOf {c : CSt} (h : c.WF) {φ : amSh} {S : amSt} (hφ : φ.1 255 ≠ 0) (hR : RCst c φ S) {a b : Nat} (ha : a < 20) (hb : b < 20) : Rs (fun v S' => v = iN (c.d9 a b) ∧ FrS [23] S S') (p_X1_walkOf (iN a) (iN b) φ S) := by
  unfold p_X1_walkOf
  simp (disch := first | omega | assumption) only [↓bd_rt, ↓bd_bd, ↓bd_ite, ↓bd_jn, ↓jn_ap, ↓ite_ap, ↓bd_gI1, ↓bd_pI1, ↓bd_gR1, ↓bd_pR1, ↓bd_gM, rt_ap, ↓reduceIte, iN_div, iN_divL, iN_add, iN_mul, iN_addL, iN_Ladd, iN_mulL, iN_Lmul, iN_subL, iN_sub, iN_le_T, iN_le_F, iN_lt_T, iN_lt_F, iN_eq_F, iN_leL_T, iN_leL_F, iN_Lle_T, iN_Lle_F, iN_ltL_T, iN_ltL_F, iN_Llt_T, iN_Llt_F, iN_eqL_T, iN_eqL_F, iN_m1, m1_iN, iN_le_m1, m1_le_iN, iN_neg, iN_pos, i10, i01, i00, i11, u3_op, u3_or, u3_same, pup_eq, pup_ne]
  refine bdR (sp_X1_stroll h hφ hR ha) fun _ S1 h1 => ?_
  simp (disch := first | omega | assumption) only [↓bd_rt, ↓bd_bd, ↓bd_ite, ↓bd_jn, ↓jn_ap, ↓ite_ap, ↓bd_gI1, ↓bd_pI1, ↓bd_gR1, ↓bd_pR1, ↓bd_gM, rt_ap, ↓reduceIte, iN_div, iN_divL, iN_add, iN_mul, iN_addL, iN_Ladd, iN_mulL, iN_Lmul, iN_subL, iN_sub, iN_le_T, iN_le_F, iN_lt_T, iN_lt_F, iN_eq_F, iN_leL_T, iN_leL_F, iN_Lle_T, iN_Lle_F, iN_ltL_T, iN_ltL_F, iN_Llt_T, iN_Llt_F, iN_eqL_T, iN_eqL_F, iN_m1, m1_iN, iN_le_m1, m1_le_iN, iN_neg, iN_pos, i10, i01, i00, i11, u3_op, u3_or, u3_same, pup_eq, pup_ne, ↓rI23_1, h1.1 b hb]
  exact Rs.mk ⟨rfl, h1.2⟩
theorem sp_X3_walkOf {c : CSt} {φ : amSh} {S : amSt} (hφ : φ.1 255 ≠ 0) (hR : RMst c S) {a b : Nat} (ha : a < 20) (hb : b < 20) : p_X3_walkOf (iN a) (iN b) φ S = some (iN (c.d a b), S) := by
  unfold p_X3_walkOf
  simp (disch := first | omega | assumption) only [↓bd_rt, ↓bd_bd, ↓bd_ite, ↓bd_jn, ↓jn_ap, ↓ite_ap, ↓bd_gI1, ↓bd_pI1, ↓bd_gR1, ↓bd_pR1, ↓bd_gM, rt_ap, ↓reduceIte, iN_div, iN_divL, iN_add, iN_mul, iN_addL, iN_Ladd, iN_mulL, iN_Lmul, iN_subL, iN_sub, iN_le_T, iN_le_F, iN_lt_T, iN_lt_F, iN_eq_F, iN_leL_T, iN_leL_F, iN_Lle_T, iN_Lle_F, iN_ltL_T, iN_ltL_F, iN_Llt_T, iN_Llt_F, iN_eqL_T, iN_eqL_F, iN_m1, m1_iN, iN_le_m1, m1_le_iN, iN_neg, iN_pos, i10, i01, i00, i11, u3_op, u3_or, u3_same, pup_eq, pup_ne, ↓rI59_1, hR.d a b ha hb]
theorem op_X1_feet {c : CSt} (h : c.WF) {φ : amSh} {S : amSt} (hφ : φ.1 255 ≠ 0) (hR : RCst c φ S) {a1 a2 : Int32} : Rs (fun b S' => b = feetOp c a1 a2 ∧ RCst c φ S') (p_X1_feet a1 a2 φ S) := by
  unfold p_X1_feet
  by_cases h1 : inN a1 20
  · by_cases h2 : inN a2 20
    · simp (disch := first | omega | assumption) only [↓bd_rt, ↓bd_bd, ↓bd_ite, ↓bd_jn, ↓jn_ap, ↓ite_ap, ↓bd_gI1, ↓bd_pI1, ↓bd_gR1, ↓bd_pR1, ↓bd_gM, rt_ap, ↓reduceIte, iN_div, iN_divL, iN_add, iN_mul, iN_addL, iN_Ladd, iN_mulL, iN_Lmul, iN_subL, iN_sub, iN_le_T, iN_le_F, iN_lt_T, iN_lt_F, iN_eq_F, iN_leL_T, iN_leL_F, iN_Lle_T, iN_Lle_F, iN_ltL_T, iN_ltL_F, iN_Llt_T, iN_Llt_F, iN_eqL_T, iN_eqL_F, iN_m1, m1_iN, iN_le_m1, m1_le_iN, iN_neg, iN_pos, i10, i01, i00, i11, u3_op, u3_or, u3_same, pup_eq, pup_ne, ↓bd_of sp_X1_isCorner, ip h1, ip h2]
      unfold feetOp
      rw [if_pos h1, if_pos h2]
      obtain ⟨n1, hn1, rfl⟩ := h1.ex (by decide)
      obtain ⟨n2, hn2, rfl⟩ := h2.ex (by decide)
      rw [iN_nat (by omega), iN_nat (by omega)]
      have hle := h.dle n1 n2
      refine bdR (sp_X1_walkOf h hφ hR hn1 hn2) fun b S1 h1 => ?_
      obtain ⟨rfl, hF⟩ := h1
      unfold CSt.d9
      by_cases e : c.d n1 n2 = 1000000
      · rw [if_pos e, if_pos e]
        simp (disch := first | omega | assumption) only [↓bd_rt, ↓bd_bd, ↓bd_ite, ↓bd_jn, ↓jn_ap, ↓ite_ap, ↓bd_gI1, ↓bd_pI1, ↓bd_gR1, ↓bd_pR1, ↓bd_gM, rt_ap, ↓reduceIte, iN_div, iN_divL, iN_add, iN_mul, iN_addL, iN_Ladd, iN_mulL, iN_Lmul, iN_subL, iN_sub, iN_le_T, iN_le_F, iN_lt_T, iN_lt_F, iN_eq_F, iN_leL_T, iN_leL_F, iN_Lle_T, iN_Lle_F, iN_ltL_T, iN_ltL_F, iN_Llt_T, iN_Llt_F, iN_eqL_T, iN_eqL_F, iN_m1, m1_iN, iN_le_m1, m1_le_iN, iN_neg, iN_pos, i10, i01, i00, i11, u3_op, u3_or, u3_same, pup_eq, pup_ne]
        exact Rs.mk ⟨rfl, hR.fr hF (by decide)⟩
      · rw [if_neg e, if_neg e]
        simp (disch := first | omega | assumption) only [↓bd_rt, ↓bd_bd, ↓bd_ite, ↓bd_jn, ↓jn_ap, ↓ite_ap, ↓bd_gI1, ↓bd_pI1, ↓bd_gR1, ↓bd_pR1, ↓bd_gM, rt_ap, ↓reduceIte, iN_div, iN_divL, iN_add, iN_mul, iN_addL, iN_Ladd, iN_mulL, iN_Lmul, iN_subL, iN_sub, iN_le_T, iN_le_F, iN_lt_T, iN_lt_F, iN_eq_F, iN_leL_T, iN_leL_F, iN_Lle_T, iN_Lle_F, iN_ltL_T, iN_ltL_F, iN_Llt_T, iN_Llt_F, iN_eqL_T, iN_eqL_F, iN_m1, m1_iN, iN_le_m1, m1_le_iN, iN_neg, iN_pos, i10, i01, i00, i11, u3_op, u3_or, u3_same, pup_eq, pup_ne]
        exact Rs.mk ⟨rfl, hR.fr hF (by decide)⟩
    · simp (disch := first | omega | assumption) only [↓bd_rt, ↓bd_bd, ↓bd_ite, ↓bd_jn, ↓jn_ap, ↓ite_ap, ↓bd_gI1, ↓bd_pI1, ↓bd_gR1, ↓bd_pR1, ↓bd_gM, rt_ap, ↓reduceIte, iN_div, iN_divL, iN_add, iN_mul, iN_addL, iN_Ladd, iN_mulL, iN_Lmul, iN_subL, iN_sub, iN_le_T, iN_le_F, iN_lt_T, iN_lt_F, iN_eq_F, iN_leL_T, iN_leL_F, iN_Lle_T, iN_Lle_F, iN_ltL_T, iN_ltL_F, iN_Llt_T, iN_Llt_F, iN_eqL_T, iN_eqL_F, iN_m1, m1_iN, iN_le_m1, m1_le_iN, iN_neg, iN_pos, i10, i01, i00, i11, u3_op, u3_or, u3_same, pup_eq, pup_ne, ↓bd_of sp_X1_isCorner, ip h1, iq h2]
      exact Rs.mk ⟨by unfold feetOp; rw [if_pos h1, if_neg h2], hR⟩
  · simp (disch := first | omega | assumption) only [↓bd_rt, ↓bd_bd, ↓bd_ite, ↓bd_jn, ↓jn_ap, ↓ite_ap, ↓bd_gI1, ↓bd_pI1, ↓bd_gR1, ↓bd_pR1, ↓bd_gM, rt_ap, ↓reduceIte, iN_div, iN_divL, iN_add, iN_mul, iN_addL, iN_Ladd, iN_mulL, iN_Lmul, iN_subL, iN_sub, iN_le_T, iN_le_F, iN_lt_T, iN_lt_F, iN_eq_F, iN_leL_T, iN_leL_F, iN_Lle_T, iN_Lle_F, iN_ltL_T, iN_ltL_F, iN_Llt_T, iN_Llt_F, iN_eqL_T, iN_eqL_F, iN_m1, m1_iN, iN_le_m1, m1_le_iN, iN_neg, iN_pos, i10, i01, i00, i11, u3_op, u3_or, u3_same, pup_eq, pup_ne, ↓bd_of sp_X1_isCorner, iq h1]
    exact Rs.mk ⟨by unfold feetOp; rw [if_neg h1], hR⟩
theorem op_X3_feet {c : CSt} (h : c.WF) {φ : amSh} {S : amSt} (hφ : φ.1 255 ≠ 0) (hR0 : RMst c S) {a1 a2 : Int32} : Rs (fun b S' => b = feetOp c a1 a2 ∧ RMst c S') (p_X3_feet a1 a2 φ S) := by
  have hR : RMst c (u3 S.1 1 1 0 0, S.2) := hR0.fr (L := [2000]) (fun p r j hk => sm_u3 fun z => hk (z ▸ by decide)) (by decide)
  unfold p_X3_feet
  by_cases h1 : inN a1 20
  · by_cases h2 : inN a2 20
    · unfold feetOp
      rw [if_pos h1, if_pos h2]
      obtain ⟨n1, hn1, rfl⟩ := h1.ex (by decide)
      obtain ⟨n2, hn2, rfl⟩ := h2.ex (by decide)
      rw [iN_nat (by omega), iN_nat (by omega)]
      have hle := h.dle n1 n2
      by_cases e : c.d n1 n2 = 1000000
      · rw [if_pos e]
        simp (disch := first | omega | assumption) only [↓bd_rt, ↓bd_bd, ↓bd_ite, ↓bd_jn, ↓jn_ap, ↓ite_ap, ↓bd_gI1, ↓bd_pI1, ↓bd_gR1, ↓bd_pR1, ↓bd_gM, rt_ap, ↓reduceIte, iN_div, iN_divL, iN_add, iN_mul, iN_addL, iN_Ladd, iN_mulL, iN_Lmul, iN_subL, iN_sub, iN_le_T, iN_le_F, iN_lt_T, iN_lt_F, iN_eq_F, iN_leL_T, iN_leL_F, iN_Lle_T, iN_Lle_F, iN_ltL_T, iN_ltL_F, iN_Llt_T, iN_Llt_F, iN_eqL_T, iN_eqL_F, iN_m1, m1_iN, iN_le_m1, m1_le_iN, iN_neg, iN_pos, i10, i01, i00, i11, u3_op, u3_or, u3_same, pup_eq, pup_ne, ↓bd_of sp_X3_isCorner, ip h1, ip h2, ↓bd_of (sp_X3_walkOf hφ hR hn1 hn2)]
        exact Rs.mk ⟨rfl, hR⟩
      · rw [if_neg e]
        simp (disch := first | omega | assumption) only [↓bd_rt, ↓bd_bd, ↓bd_ite, ↓bd_jn, ↓jn_ap, ↓ite_ap, ↓bd_gI1, ↓bd_pI1, ↓bd_gR1, ↓bd_pR1, ↓bd_gM, rt_ap, ↓reduceIte, iN_div, iN_divL, iN_add, iN_mul, iN_addL, iN_Ladd, iN_mulL, iN_Lmul, iN_subL, iN_sub, iN_le_T, iN_le_F, iN_lt_T, iN_lt_F, iN_eq_F, iN_leL_T, iN_leL_F, iN_Lle_T, iN_Lle_F, iN_ltL_T, iN_ltL_F, iN_Llt_T, iN_Llt_F, iN_eqL_T, iN_eqL_F, iN_m1, m1_iN, iN_le_m1, m1_le_iN, iN_neg, iN_pos, i10, i01, i00, i11, u3_op, u3_or, u3_same, pup_eq, pup_ne, ↓bd_of sp_X3_isCorner, ip h1, ip h2, ↓bd_of (sp_X3_walkOf hφ hR hn1 hn2)]
        exact Rs.mk ⟨rfl, hR⟩
    · simp (disch := first | omega | assumption) only [↓bd_rt, ↓bd_bd, ↓bd_ite, ↓bd_jn, ↓jn_ap, ↓ite_ap, ↓bd_gI1, ↓bd_pI1, ↓bd_gR1, ↓bd_pR1, ↓bd_gM, rt_ap, ↓reduceIte, iN_div, iN_divL, iN_add, iN_mul, iN_addL, iN_Ladd, iN_mulL, iN_Lmul, iN_subL, iN_sub, iN_le_T, iN_le_F, iN_lt_T, iN_lt_F, iN_eq_F, iN_leL_T, iN_leL_F, iN_Lle_T, iN_Lle_F, iN_ltL_T, iN_ltL_F, iN_Llt_T, iN_Llt_F, iN_eqL_T, iN_eqL_F, iN_m1, m1_iN, iN_le_m1, m1_le_iN, iN_neg, iN_pos, i10, i01, i00, i11, u3_op, u3_or, u3_same, pup_eq, pup_ne, ↓bd_of sp_X3_isCorner, ip h1, iq h2]
      exact Rs.mk ⟨by unfold feetOp; rw [if_pos h1, if_neg h2], hR⟩
  · simp (disch := first | omega | assumption) only [↓bd_rt, ↓bd_bd, ↓bd_ite, ↓bd_jn, ↓jn_ap, ↓ite_ap, ↓bd_gI1, ↓bd_pI1, ↓bd_gR1, ↓bd_pR1, ↓bd_gM, rt_ap, ↓reduceIte, iN_div, iN_divL, iN_add, iN_mul, iN_addL, iN_Ladd, iN_mulL, iN_Lmul, iN_subL, iN_sub, iN_le_T, iN_le_F, iN_lt_T, iN_lt_F, iN_eq_F, iN_leL_T, iN_leL_F, iN_Lle_T, iN_Lle_F, iN_ltL_T, iN_ltL_F, iN_Llt_T, iN_Llt_F, iN_eqL_T, iN_eqL_F, iN_m1, m1_iN, iN_le_m1, m1_le_iN, iN_neg, iN_pos, i10, i01, i00, i11, u3_op, u3_or, u3_same, pup_eq, pup_ne, ↓bd_of sp_X3_isCorner, iq h1]
    exact Rs.mk ⟨by unfold feetOp; rw [if_neg h1], hR⟩
