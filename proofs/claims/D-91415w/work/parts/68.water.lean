/-! PURE: mains and heads -/
abbrev CWa : Type := (Nat) × (Nat → Nat) × (Nat) × (Nat → Nat) × (Nat → Nat)
def CWa.mk (nm : Nat) (gives : Nat → Nat) (nh : Nat) (hcor : Nat → Nat) (hmain : Nat → Nat) : CWa := (nm, gives, nh, hcor, hmain)
def CWa.nm (c : CWa) : Nat := c.1
def CWa.gives (c : CWa) : Nat → Nat := c.2.1
def CWa.nh (c : CWa) : Nat := c.2.2.1
def CWa.hcor (c : CWa) : Nat → Nat := c.2.2.2.1
def CWa.hmain (c : CWa) : Nat → Nat := c.2.2.2.2
def CWa.s_nm (c : CWa) (v : Nat) : CWa := CWa.mk v c.gives c.nh c.hcor c.hmain
def CWa.s_gives (c : CWa) (v : Nat → Nat) : CWa := CWa.mk c.nm v c.nh c.hcor c.hmain
def CWa.s_nh (c : CWa) (v : Nat) : CWa := CWa.mk c.nm c.gives v c.hcor c.hmain
def CWa.s_hcor (c : CWa) (v : Nat → Nat) : CWa := CWa.mk c.nm c.gives c.nh v c.hmain
def CWa.s_hmain (c : CWa) (v : Nat → Nat) : CWa := CWa.mk c.nm c.gives c.nh c.hcor v
def CWa.WF (c : CWa) : Prop := (c.nm ≤ 6) ∧ (c.nh ≤ 20) ∧ (∀ k, k < c.nm → 10 ≤ c.gives k ∧ c.gives k ≤ 2000) ∧ (∀ k, k < c.nh → c.hcor k < 20) ∧ (∀ k, k < c.nh → c.hmain k < c.nm)
theorem CWa.WF.hm {c : CWa} (hx_ : CWa.WF c) : c.nm ≤ 6 := And.left hx_
theorem CWa.WF.hh {c : CWa} (hx_ : CWa.WF c) : c.nh ≤ 20 := And.left (And.right hx_)
theorem CWa.WF.gives {c : CWa} (hx_ : CWa.WF c) : ∀ k, k < c.nm → 10 ≤ c.gives k ∧ c.gives k ≤ 2000 := And.left (And.right (And.right hx_))
theorem CWa.WF.hcor {c : CWa} (hx_ : CWa.WF c) : ∀ k, k < c.nh → c.hcor k < 20 := And.left (And.right (And.right (And.right hx_)))
theorem CWa.WF.hmain {c : CWa} (hx_ : CWa.WF c) : ∀ k, k < c.nh → c.hmain k < c.nm := (And.right (And.right (And.right (And.right hx_))))
theorem CWa.WF.mk {c : CWa} (h_hm : c.nm ≤ 6) (h_hh : c.nh ≤ 20) (h_gives : ∀ k, k < c.nm → 10 ≤ c.gives k ∧ c.gives k ≤ 2000) (h_hcor : ∀ k, k < c.nh → c.hcor k < 20) (h_hmain : ∀ k, k < c.nh → c.hmain k < c.nm) : CWa.WF c := And.intro h_hm (And.intro h_hh (And.intro h_gives (And.intro h_hcor (h_hmain))))
def RMwa (c : CWa) (S : amSt) : Prop := (S.1 1 1 56 = iN c.nm) ∧ (S.1 1 1 57 = iN c.nh) ∧ (∀ k, k < c.nm → S.1 83 1 k = iN (c.gives k)) ∧ (∀ k, k < c.nh → S.1 84 1 k = iN (c.hcor k)) ∧ (∀ k, k < c.nh → S.1 85 1 k = iN (c.hmain k))
theorem RMwa.nm {c : CWa} {S : amSt} (hx_ : RMwa c S) : S.1 1 1 56 = iN c.nm := And.left hx_
theorem RMwa.nh {c : CWa} {S : amSt} (hx_ : RMwa c S) : S.1 1 1 57 = iN c.nh := And.left (And.right hx_)
theorem RMwa.gives {c : CWa} {S : amSt} (hx_ : RMwa c S) : ∀ k, k < c.nm → S.1 83 1 k = iN (c.gives k) := And.left (And.right (And.right hx_))
theorem RMwa.hcor {c : CWa} {S : amSt} (hx_ : RMwa c S) : ∀ k, k < c.nh → S.1 84 1 k = iN (c.hcor k) := And.left (And.right (And.right (And.right hx_)))
theorem RMwa.hmain {c : CWa} {S : amSt} (hx_ : RMwa c S) : ∀ k, k < c.nh → S.1 85 1 k = iN (c.hmain k) := (And.right (And.right (And.right (And.right hx_))))
theorem RMwa.mk {c : CWa} {S : amSt} (h_nm : S.1 1 1 56 = iN c.nm) (h_nh : S.1 1 1 57 = iN c.nh) (h_gives : ∀ k, k < c.nm → S.1 83 1 k = iN (c.gives k)) (h_hcor : ∀ k, k < c.nh → S.1 84 1 k = iN (c.hcor k)) (h_hmain : ∀ k, k < c.nh → S.1 85 1 k = iN (c.hmain k)) : RMwa c S := And.intro h_nm (And.intro h_nh (And.intro h_gives (And.intro h_hcor (h_hmain))))
def KRMwa : List Nat := [2056, 2057, 83, 84, 85]
theorem RMwa.fr {c : CWa} {S : amSt} {S1 : amSt} (hx_ : RMwa c S) {L : List Nat} (hf : FrS L S S1) (hd : ∀ x ∈ KRMwa, x ∉ L) : RMwa c S1 :=
  RMwa.mk
    ((hf.i 1 1 56 (hd 2056 (by decide))).trans (hx_.nm ))
    ((hf.i 1 1 57 (hd 2057 (by decide))).trans (hx_.nh ))
    (fun k h0_ => (hf.i 83 1 k (hd 83 (by decide))).trans (hx_.gives k h0_))
    (fun k h0_ => (hf.i 84 1 k (hd 84 (by decide))).trans (hx_.hcor k h0_))
    (fun k h0_ => (hf.i 85 1 k (hd 85 (by decide))).trans (hx_.hmain k h0_))
def RCwa (c : CWa) (φ : amSh) (S : amSt) : Prop := (S.1 0 1 10 = iN c.nm) ∧ (S.1 0 1 11 = iN c.nh) ∧ (∀ k, k < c.nm → S.1 25 1 k = iN (c.gives k)) ∧ (∀ k, k < c.nh → S.2.2 27 1 k = k + 1) ∧ (∀ k, k < c.nh → S.1 5 (k + 1) 0 = iN (c.hcor k)) ∧ (∀ k, k < c.nh → S.1 5 (k + 1) 1 = iN (c.hmain k)) ∧ (φ.1 5 = c.nh)
theorem RCwa.nm {c : CWa} {φ : amSh} {S : amSt} (hx_ : RCwa c φ S) : S.1 0 1 10 = iN c.nm := And.left hx_
theorem RCwa.nh {c : CWa} {φ : amSh} {S : amSt} (hx_ : RCwa c φ S) : S.1 0 1 11 = iN c.nh := And.left (And.right hx_)
theorem RCwa.gives {c : CWa} {φ : amSh} {S : amSt} (hx_ : RCwa c φ S) : ∀ k, k < c.nm → S.1 25 1 k = iN (c.gives k) := And.left (And.right (And.right hx_))
theorem RCwa.obj {c : CWa} {φ : amSh} {S : amSt} (hx_ : RCwa c φ S) : ∀ k, k < c.nh → S.2.2 27 1 k = k + 1 := And.left (And.right (And.right (And.right hx_)))
theorem RCwa.hcor {c : CWa} {φ : amSh} {S : amSt} (hx_ : RCwa c φ S) : ∀ k, k < c.nh → S.1 5 (k + 1) 0 = iN (c.hcor k) := And.left (And.right (And.right (And.right (And.right hx_))))
theorem RCwa.hmain {c : CWa} {φ : amSh} {S : amSt} (hx_ : RCwa c φ S) : ∀ k, k < c.nh → S.1 5 (k + 1) 1 = iN (c.hmain k) := And.left (And.right (And.right (And.right (And.right (And.right hx_)))))
theorem RCwa.cnt {c : CWa} {φ : amSh} {S : amSt} (hx_ : RCwa c φ S) : φ.1 5 = c.nh := (And.right (And.right (And.right (And.right (And.right (And.right hx_))))))
theorem RCwa.mk {c : CWa} {φ : amSh} {S : amSt} (h_nm : S.1 0 1 10 = iN c.nm) (h_nh : S.1 0 1 11 = iN c.nh) (h_gives : ∀ k, k < c.nm → S.1 25 1 k = iN (c.gives k)) (h_obj : ∀ k, k < c.nh → S.2.2 27 1 k = k + 1) (h_hcor : ∀ k, k < c.nh → S.1 5 (k + 1) 0 = iN (c.hcor k)) (h_hmain : ∀ k, k < c.nh → S.1 5 (k + 1) 1 = iN (c.hmain k)) (h_cnt : φ.1 5 = c.nh) : RCwa c φ S := And.intro h_nm (And.intro h_nh (And.intro h_gives (And.intro h_obj (And.intro h_hcor (And.intro h_hmain (h_cnt))))))
def KRCwa : List Nat := [1010, 1011, 25, 27, 6000, 6001]
theorem RCwa.fr {c : CWa} {φ : amSh} {S : amSt} {S1 : amSt} (hx_ : RCwa c φ S) {L : List Nat} (hf : FrS L S S1) (hd : ∀ x ∈ KRCwa, x ∉ L) : RCwa c φ S1 :=
  RCwa.mk
    ((hf.i 0 1 10 (hd 1010 (by decide))).trans (hx_.nm ))
    ((hf.i 0 1 11 (hd 1011 (by decide))).trans (hx_.nh ))
    (fun k h0_ => (hf.i 25 1 k (hd 25 (by decide))).trans (hx_.gives k h0_))
    (fun k h0_ => (hf.r 27 1 k (hd 27 (by decide))).trans (hx_.obj k h0_))
    (fun k h0_ => (hf.i 5 (k + 1) 0 (hd 6000 (by decide))).trans (hx_.hcor k h0_))
    (fun k h0_ => (hf.i 5 (k + 1) 1 (hd 6001 (by decide))).trans (hx_.hmain k h0_))
    (hx_.cnt)
def mainS (c : CWa) (a : Int32) : Int32 × CWa := if out a 10 2000 then (-1, c) else if c.nm = 6 then (-1, c) else (iN c.nm, (c.s_nm (c.nm + 1)).s_gives (pup c.gives c.nm a.toNatClampNeg))
theorem mainS_WF {c : CWa} (w : c.WF) (a : Int32) : (mainS c a).2.WF := by
  unfold mainS
  split
  · exact w
  · rename_i h1
    split
    · exact w
    · obtain ⟨v, rfl, v1, v2⟩ := not_out (lo := 10) (hi := 2000) h1 (by decide) (by decide)
      have hm := w.hm
      refine CWa.WF.mk (show c.nm + 1 ≤ 6 by omega) w.hh ?_ w.hcor fun k hk => Nat.lt_succ_of_lt (w.hmain k hk)
      intro k hk
      have hk : k < c.nm + 1 := hk
      show 10 ≤ pup c.gives c.nm _ k ∧ pup c.gives c.nm _ k ≤ 2000
      unfold pup
      split
      · rw [iN_nat (by omega)]; exact ⟨v1, v2⟩
      · exact w.gives k (by omega)
theorem op_X1_main {c : CWa} (w : c.WF) {φ : amSh} {S : amSt} (hφ : φ.1 255 ≠ 0) (hR : RCwa c φ S) {a : Int32} : Rs (fun v S' => v = (mainS c a).1 ∧ RCwa (mainS c a).2 φ S') (p_X1_main a φ S) := by
  have hm := w.hm
  unfold p_X1_main
  by_cases h1 : out a 10 2000
  · rw [show mainS c a = (-1, c) by unfold mainS; rw [if_pos h1]]
    simp (disch := first | omega | assumption) only [↓bd_rt, ↓bd_bd, ↓bd_ite, ↓bd_jn, ↓jn_ap, ↓ite_ap, ↓bd_gI1, ↓bd_pI1, ↓bd_gR1, ↓bd_pR1, ↓bd_gM, rt_ap, ↓reduceIte, iN_div, iN_divL, iN_add, iN_mul, iN_addL, iN_Ladd, iN_mulL, iN_Lmul, iN_subL, iN_sub, iN_le_T, iN_le_F, iN_lt_T, iN_lt_F, iN_eq_F, iN_leL_T, iN_leL_F, iN_Lle_T, iN_Lle_F, iN_ltL_T, iN_ltL_F, iN_Llt_T, iN_Llt_F, iN_eqL_T, iN_eqL_F, iN_m1, m1_iN, iN_le_m1, m1_le_iN, iN_neg, iN_pos, i10, i01, i00, i11, u3_op, u3_or, u3_same, pup_eq, pup_ne, ↓bd_of sp_X1_in, jp h1]
    exact Rs.mk ⟨rfl, hR⟩
  · by_cases h2 : c.nm = 6
    · rw [show mainS c a = (-1, c) by unfold mainS; rw [if_neg h1, if_pos h2]]
      simp (disch := first | omega | assumption) only [↓bd_rt, ↓bd_bd, ↓bd_ite, ↓bd_jn, ↓jn_ap, ↓ite_ap, ↓bd_gI1, ↓bd_pI1, ↓bd_gR1, ↓bd_pR1, ↓bd_gM, rt_ap, ↓reduceIte, iN_div, iN_divL, iN_add, iN_mul, iN_addL, iN_Ladd, iN_mulL, iN_Lmul, iN_subL, iN_sub, iN_le_T, iN_le_F, iN_lt_T, iN_lt_F, iN_eq_F, iN_leL_T, iN_leL_F, iN_Lle_T, iN_Lle_F, iN_ltL_T, iN_ltL_F, iN_Llt_T, iN_Llt_F, iN_eqL_T, iN_eqL_F, iN_m1, m1_iN, iN_le_m1, m1_le_iN, iN_neg, iN_pos, i10, i01, i00, i11, u3_op, u3_or, u3_same, pup_eq, pup_ne, ↓bd_of sp_X1_in, jq h1, hR.nm]
      exact Rs.mk ⟨rfl, hR⟩
    · obtain ⟨v, rfl, v1, v2⟩ := not_out (lo := 10) (hi := 2000) h1 (by decide) (by decide)
      rw [show mainS c (iN v) = (iN c.nm, (c.s_nm (c.nm + 1)).s_gives (pup c.gives c.nm v)) by unfold mainS; rw [if_neg h1, if_neg h2, iN_nat (by omega)]]
      simp (disch := first | omega | assumption) only [↓bd_rt, ↓bd_bd, ↓bd_ite, ↓bd_jn, ↓jn_ap, ↓ite_ap, ↓bd_gI1, ↓bd_pI1, ↓bd_gR1, ↓bd_pR1, ↓bd_gM, rt_ap, ↓reduceIte, iN_div, iN_divL, iN_add, iN_mul, iN_addL, iN_Ladd, iN_mulL, iN_Lmul, iN_subL, iN_sub, iN_le_T, iN_le_F, iN_lt_T, iN_lt_F, iN_eq_F, iN_leL_T, iN_leL_F, iN_Lle_T, iN_Lle_F, iN_ltL_T, iN_ltL_F, iN_Llt_T, iN_Llt_F, iN_eqL_T, iN_eqL_F, iN_m1, m1_iN, iN_le_m1, m1_le_iN, iN_neg, iN_pos, i10, i01, i00, i11, u3_op, u3_or, u3_same, pup_eq, pup_ne, ↓bd_of sp_X1_in, jq h1, hR.nm, ↓wI25_1, Nat.add_sub_cancel]
      refine Rs.mk ⟨rfl, RCwa.mk ?_ ?_ ?_ ?_ ?_ ?_ hR.cnt⟩
      · simp (disch := first | omega | assumption) only [↓bd_rt, ↓bd_bd, ↓bd_ite, ↓bd_jn, ↓jn_ap, ↓ite_ap, ↓bd_gI1, ↓bd_pI1, ↓bd_gR1, ↓bd_pR1, ↓bd_gM, rt_ap, ↓reduceIte, iN_div, iN_divL, iN_add, iN_mul, iN_addL, iN_Ladd, iN_mulL, iN_Lmul, iN_subL, iN_sub, iN_le_T, iN_le_F, iN_lt_T, iN_lt_F, iN_eq_F, iN_leL_T, iN_leL_F, iN_Lle_T, iN_Lle_F, iN_ltL_T, iN_ltL_F, iN_Llt_T, iN_Llt_F, iN_eqL_T, iN_eqL_F, iN_m1, m1_iN, iN_le_m1, m1_le_iN, iN_neg, iN_pos, i10, i01, i00, i11, u3_op, u3_or, u3_same, pup_eq, pup_ne]; rfl
      · refine Eq.trans ?_ hR.nh; simp [u3]
      · intro k hk
        have hk : k < c.nm + 1 := hk
        show _ = iN (pup c.gives c.nm v k)
        by_cases e : k = c.nm
        · subst e; simp [u3, pup]
        · rw [pup_ne e]; refine Eq.trans ?_ (hR.gives k (by omega)); simp [u3, e]
      · exact hR.obj
      · intro k hk; refine Eq.trans ?_ (hR.hcor k hk); simp [u3]
      · intro k hk; refine Eq.trans ?_ (hR.hmain k hk); simp [u3]
theorem op_X3_main {c : CWa} (w : c.WF) {φ : amSh} {S : amSt} (hφ : φ.1 255 ≠ 0) (hR0 : RMwa c S) {a : Int32} : Rs (fun v S' => v = (mainS c a).1 ∧ RMwa (mainS c a).2 S') (p_X3_main a φ S) := by
  have hm := w.hm
  have hR := hR0.fr th0 (by decide)
  unfold p_X3_main
  by_cases h1 : out a 10 2000
  · rw [show mainS c a = (-1, c) by unfold mainS; rw [if_pos h1]]
    by_cases h2 : c.nm = 6
    · simp (disch := first | omega | assumption) only [↓bd_rt, ↓bd_bd, ↓bd_ite, ↓bd_jn, ↓jn_ap, ↓ite_ap, ↓bd_gI1, ↓bd_pI1, ↓bd_gR1, ↓bd_pR1, ↓bd_gM, rt_ap, ↓reduceIte, iN_div, iN_divL, iN_add, iN_mul, iN_addL, iN_Ladd, iN_mulL, iN_Lmul, iN_subL, iN_sub, iN_le_T, iN_le_F, iN_lt_T, iN_lt_F, iN_eq_F, iN_leL_T, iN_leL_F, iN_Lle_T, iN_Lle_F, iN_ltL_T, iN_ltL_F, iN_Llt_T, iN_Llt_F, iN_eqL_T, iN_eqL_F, iN_m1, m1_iN, iN_le_m1, m1_le_iN, iN_neg, iN_pos, i10, i01, i00, i11, u3_op, u3_or, u3_same, pup_eq, pup_ne, hR0.nm]
      exact Rs.mk ⟨rfl, hR⟩
    · simp (disch := first | omega | assumption) only [↓bd_rt, ↓bd_bd, ↓bd_ite, ↓bd_jn, ↓jn_ap, ↓ite_ap, ↓bd_gI1, ↓bd_pI1, ↓bd_gR1, ↓bd_pR1, ↓bd_gM, rt_ap, ↓reduceIte, iN_div, iN_divL, iN_add, iN_mul, iN_addL, iN_Ladd, iN_mulL, iN_Lmul, iN_subL, iN_sub, iN_le_T, iN_le_F, iN_lt_T, iN_lt_F, iN_eq_F, iN_leL_T, iN_leL_F, iN_Lle_T, iN_Lle_F, iN_ltL_T, iN_ltL_F, iN_Llt_T, iN_Llt_F, iN_eqL_T, iN_eqL_F, iN_m1, m1_iN, iN_le_m1, m1_le_iN, iN_neg, iN_pos, i10, i01, i00, i11, u3_op, u3_or, u3_same, pup_eq, pup_ne, hR0.nm, ↓bd_of sp_X3_isIn, jp h1]
      exact Rs.mk ⟨rfl, hR⟩
  · by_cases h2 : c.nm = 6
    · rw [show mainS c a = (-1, c) by unfold mainS; rw [if_neg h1, if_pos h2]]
      simp (disch := first | omega | assumption) only [↓bd_rt, ↓bd_bd, ↓bd_ite, ↓bd_jn, ↓jn_ap, ↓ite_ap, ↓bd_gI1, ↓bd_pI1, ↓bd_gR1, ↓bd_pR1, ↓bd_gM, rt_ap, ↓reduceIte, iN_div, iN_divL, iN_add, iN_mul, iN_addL, iN_Ladd, iN_mulL, iN_Lmul, iN_subL, iN_sub, iN_le_T, iN_le_F, iN_lt_T, iN_lt_F, iN_eq_F, iN_leL_T, iN_leL_F, iN_Lle_T, iN_Lle_F, iN_ltL_T, iN_ltL_F, iN_Llt_T, iN_Llt_F, iN_eqL_T, iN_eqL_F, iN_m1, m1_iN, iN_le_m1, m1_le_iN, iN_neg, iN_pos, i10, i01, i00, i11, u3_op, u3_or, u3_same, pup_eq, pup_ne, hR0.nm]
      exact Rs.mk ⟨rfl, hR⟩
    · obtain ⟨v, rfl, v1, v2⟩ := not_out (lo := 10) (hi := 2000) h1 (by decide) (by decide)
      rw [show mainS c (iN v) = (iN c.nm, (c.s_nm (c.nm + 1)).s_gives (pup c.gives c.nm v)) by unfold mainS; rw [if_neg h1, if_neg h2, iN_nat (by omega)]]
      simp (disch := first | omega | assumption) only [↓bd_rt, ↓bd_bd, ↓bd_ite, ↓bd_jn, ↓jn_ap, ↓ite_ap, ↓bd_gI1, ↓bd_pI1, ↓bd_gR1, ↓bd_pR1, ↓bd_gM, rt_ap, ↓reduceIte, iN_div, iN_divL, iN_add, iN_mul, iN_addL, iN_Ladd, iN_mulL, iN_Lmul, iN_subL, iN_sub, iN_le_T, iN_le_F, iN_lt_T, iN_lt_F, iN_eq_F, iN_leL_T, iN_leL_F, iN_Lle_T, iN_Lle_F, iN_ltL_T, iN_ltL_F, iN_Llt_T, iN_Llt_F, iN_eqL_T, iN_eqL_F, iN_m1, m1_iN, iN_le_m1, m1_le_iN, iN_neg, iN_pos, i10, i01, i00, i11, u3_op, u3_or, u3_same, pup_eq, pup_ne, ↓bd_of sp_X3_isIn, jq h1, hR0.nm, ↓wI83_1, Nat.add_sub_cancel]
      refine Rs.mk ⟨rfl, RMwa.mk ?_ ?_ ?_ ?_ ?_⟩
      · simp (disch := first | omega | assumption) only [↓bd_rt, ↓bd_bd, ↓bd_ite, ↓bd_jn, ↓jn_ap, ↓ite_ap, ↓bd_gI1, ↓bd_pI1, ↓bd_gR1, ↓bd_pR1, ↓bd_gM, rt_ap, ↓reduceIte, iN_div, iN_divL, iN_add, iN_mul, iN_addL, iN_Ladd, iN_mulL, iN_Lmul, iN_subL, iN_sub, iN_le_T, iN_le_F, iN_lt_T, iN_lt_F, iN_eq_F, iN_leL_T, iN_leL_F, iN_Lle_T, iN_Lle_F, iN_ltL_T, iN_ltL_F, iN_Llt_T, iN_Llt_F, iN_eqL_T, iN_eqL_F, iN_m1, m1_iN, iN_le_m1, m1_le_iN, iN_neg, iN_pos, i10, i01, i00, i11, u3_op, u3_or, u3_same, pup_eq, pup_ne]; rfl
      · refine Eq.trans ?_ hR0.nh; simp [u3]
      · intro k hk
        have hk : k < c.nm + 1 := hk
        show _ = iN (pup c.gives c.nm v k)
        by_cases e : k = c.nm
        · subst e; simp [u3, pup]
        · rw [pup_ne e]; refine Eq.trans ?_ (hR0.gives k (by omega)); simp [u3, e]
      · intro k hk; refine Eq.trans ?_ (hR0.hcor k hk); simp [u3]
      · intro k hk; refine Eq.trans ?_ (hR0.hmain k hk); simp [u3]
def headS (c : CWa) (a1 a2 : Int32) : Int32 × CWa := if inN a1 20 then if inN a2 c.nm then if c.nh = 20 then (-1, c) else
  (iN c.nh, ((c.s_nh (c.nh + 1)).s_hcor (pup c.hcor c.nh a1.toNatClampNeg)).s_hmain (pup c.hmain c.nh a2.toNatClampNeg)) else (-1, c) else (-1, c)
theorem headS_WF {c : CWa} (w : c.WF) (a1 a2 : Int32) : (headS c a1 a2).2.WF := by
  unfold headS
  have hm := w.hm
  have hh := w.hh
  split
  · rename_i h1
    split
    · rename_i h2
      split
      · exact w
      · obtain ⟨x, hx, rfl⟩ := h1.ex (by decide)
        obtain ⟨m, hm2, rfl⟩ := h2.ex (by omega)
        refine CWa.WF.mk hm (show c.nh + 1 ≤ 20 by omega) w.gives ?_ ?_
        · intro k hk
          have hk : k < c.nh + 1 := hk
          show pup c.hcor c.nh _ k < 20
          unfold pup; split
          · rw [iN_nat (by omega)]; exact hx
          · exact w.hcor k (by omega)
        · intro k hk
          have hk : k < c.nh + 1 := hk
          show pup c.hmain c.nh _ k < c.nm
          unfold pup; split
          · rw [iN_nat (by omega)]; exact hm2
          · exact w.hmain k (by omega)
    · exact w
  · exact w
theorem op_X3_head {c : CWa} (w : c.WF) {φ : amSh} {S : amSt} (hφ : φ.1 255 ≠ 0) (hR0 : RMwa c S) {a1 a2 : Int32} : Rs (fun v S' => v = (headS c a1 a2).1 ∧ RMwa (headS c a1 a2).2 S') (p_X3_head a1 a2 φ S) := by
  have hm := w.hm
  have hh := w.hh
  have hR := hR0.fr th0 (by decide)
  have ein : ∀ {S' : amSt}, p_X3_isIn a2 0 (iN c.nm - 1) φ S' = some (if inN a2 c.nm then 1 else 0, S') := fun {S'} => by
    rw [sp_X3_isIn]
    by_cases h : inN a2 c.nm
    · rw [if_neg (fun z => (out_n (by omega)).mp z h), if_pos h]
    · rw [if_pos ((out_n (by omega)).mpr h), if_neg h]
  unfold p_X3_head
  by_cases h3 : c.nh = 20
  · rw [show headS c a1 a2 = (-1, c) by unfold headS; repeat' split
                                        all_goals simp_all]
    simp (disch := first | omega | assumption) only [↓bd_rt, ↓bd_bd, ↓bd_ite, ↓bd_jn, ↓jn_ap, ↓ite_ap, ↓bd_gI1, ↓bd_pI1, ↓bd_gR1, ↓bd_pR1, ↓bd_gM, rt_ap, ↓reduceIte, iN_div, iN_divL, iN_add, iN_mul, iN_addL, iN_Ladd, iN_mulL, iN_Lmul, iN_subL, iN_sub, iN_le_T, iN_le_F, iN_lt_T, iN_lt_F, iN_eq_F, iN_leL_T, iN_leL_F, iN_Lle_T, iN_Lle_F, iN_ltL_T, iN_ltL_F, iN_Llt_T, iN_Llt_F, iN_eqL_T, iN_eqL_F, iN_m1, m1_iN, iN_le_m1, m1_le_iN, iN_neg, iN_pos, i10, i01, i00, i11, u3_op, u3_or, u3_same, pup_eq, pup_ne, hR0.nh]
    exact Rs.mk ⟨rfl, hR⟩
  by_cases h1 : inN a1 20
  · by_cases h2 : inN a2 c.nm
    · obtain ⟨x, hx, rfl⟩ := h1.ex (by decide)
      obtain ⟨m, hm2, rfl⟩ := h2.ex (by omega)
      rw [show headS c (iN x) (iN m) = (iN c.nh, ((c.s_nh (c.nh + 1)).s_hcor (pup c.hcor c.nh x)).s_hmain (pup c.hmain c.nh m)) by unfold headS; rw [if_pos h1, if_pos h2, if_neg h3, iN_nat (by omega), iN_nat (by omega)]]
      simp (disch := first | omega | assumption) only [↓bd_rt, ↓bd_bd, ↓bd_jn, ↓jn_ap, ↓bd_gI1, ↓bd_pI1, ↓bd_gR1, ↓bd_pR1, ↓bd_gM, rt_ap, ↓reduceIte, iN_div, iN_divL, iN_add, iN_mul, iN_addL, iN_Ladd, iN_mulL, iN_Lmul, iN_subL, iN_sub, iN_le_T, iN_le_F, iN_lt_T, iN_lt_F, iN_eq_F, iN_leL_T, iN_leL_F, iN_Lle_T, iN_Lle_F, iN_ltL_T, iN_ltL_F, iN_Llt_T, iN_Llt_F, iN_eqL_T, iN_eqL_F, iN_m1, m1_iN, iN_le_m1, m1_le_iN, iN_neg, iN_pos, i10, i01, i00, i11, u3_op, u3_or, u3_same, pup_eq, pup_ne, hR0.nh, if_false, ↓bd_of sp_X3_isCorner, ip h1, hR0.nm]
      have ein2 : ∀ {S' : amSt}, p_X3_isIn (iN m) 0 (iN (c.nm - 1)) φ S' = some (1, S') := fun {S'} => by
        rw [show iN (c.nm - 1) = iN c.nm - 1 from (iN_sub (a := c.nm) (b := 1) (by omega)).symm, ein, if_pos h2]
      rw [bd_of ein2]
      simp (disch := first | omega | assumption) only [↓bd_rt, ↓bd_bd, ↓bd_ite, ↓bd_jn, ↓jn_ap, ↓ite_ap, ↓bd_gI1, ↓bd_pI1, ↓bd_gR1, ↓bd_pR1, ↓bd_gM, rt_ap, ↓reduceIte, iN_div, iN_divL, iN_add, iN_mul, iN_addL, iN_Ladd, iN_mulL, iN_Lmul, iN_subL, iN_sub, iN_le_T, iN_le_F, iN_lt_T, iN_lt_F, iN_eq_F, iN_leL_T, iN_leL_F, iN_Lle_T, iN_Lle_F, iN_ltL_T, iN_ltL_F, iN_Llt_T, iN_Llt_F, iN_eqL_T, iN_eqL_F, iN_m1, m1_iN, iN_le_m1, m1_le_iN, iN_neg, iN_pos, i10, i01, i00, i11, u3_op, u3_or, u3_same, pup_eq, pup_ne, hR0.nh, ↓wI84_1, ↓wI85_1, Nat.add_sub_cancel]
      refine Rs.mk ⟨rfl, RMwa.mk ?_ ?_ ?_ ?_ ?_⟩
      · refine Eq.trans ?_ hR0.nm; simp [u3]
      · simp (disch := first | omega | assumption) only [↓bd_rt, ↓bd_bd, ↓bd_ite, ↓bd_jn, ↓jn_ap, ↓ite_ap, ↓bd_gI1, ↓bd_pI1, ↓bd_gR1, ↓bd_pR1, ↓bd_gM, rt_ap, ↓reduceIte, iN_div, iN_divL, iN_add, iN_mul, iN_addL, iN_Ladd, iN_mulL, iN_Lmul, iN_subL, iN_sub, iN_le_T, iN_le_F, iN_lt_T, iN_lt_F, iN_eq_F, iN_leL_T, iN_leL_F, iN_Lle_T, iN_Lle_F, iN_ltL_T, iN_ltL_F, iN_Llt_T, iN_Llt_F, iN_eqL_T, iN_eqL_F, iN_m1, m1_iN, iN_le_m1, m1_le_iN, iN_neg, iN_pos, i10, i01, i00, i11, u3_op, u3_or, u3_same, pup_eq, pup_ne]; rfl
      · intro k hk; refine Eq.trans ?_ (hR0.gives k hk); simp [u3]
      · intro k hk
        have hk : k < c.nh + 1 := hk
        show _ = iN (pup c.hcor c.nh x k)
        by_cases e : k = c.nh
        · subst e; simp [u3, pup]
        · rw [pup_ne e]; refine Eq.trans ?_ (hR0.hcor k (by omega)); simp [u3, e]
      · intro k hk
        have hk : k < c.nh + 1 := hk
        show _ = iN (pup c.hmain c.nh m k)
        by_cases e : k = c.nh
        · subst e; simp [u3, pup]
        · rw [pup_ne e]; refine Eq.trans ?_ (hR0.hmain k (by omega)); simp [u3, e]
    · rw [show headS c a1 a2 = (-1, c) by unfold headS; rw [if_pos h1, if_neg h2]]
      simp (disch := first | omega | assumption) only [↓bd_rt, ↓bd_bd, ↓bd_jn, ↓jn_ap, ↓bd_gI1, ↓bd_pI1, ↓bd_gR1, ↓bd_pR1, ↓bd_gM, rt_ap, ↓reduceIte, iN_div, iN_divL, iN_add, iN_mul, iN_addL, iN_Ladd, iN_mulL, iN_Lmul, iN_subL, iN_sub, iN_le_T, iN_le_F, iN_lt_T, iN_lt_F, iN_eq_F, iN_leL_T, iN_leL_F, iN_Lle_T, iN_Lle_F, iN_ltL_T, iN_ltL_F, iN_Llt_T, iN_Llt_F, iN_eqL_T, iN_eqL_F, iN_m1, m1_iN, iN_le_m1, m1_le_iN, iN_neg, iN_pos, i10, i01, i00, i11, u3_op, u3_or, u3_same, pup_eq, pup_ne, hR0.nh, if_false, ↓bd_of sp_X3_isCorner, ip h1, hR0.nm]
      rw [bd_of ein, iq h2]
      simp (disch := first | omega | assumption) only [↓bd_rt, ↓bd_bd, ↓bd_ite, ↓bd_jn, ↓jn_ap, ↓ite_ap, ↓bd_gI1, ↓bd_pI1, ↓bd_gR1, ↓bd_pR1, ↓bd_gM, rt_ap, ↓reduceIte, iN_div, iN_divL, iN_add, iN_mul, iN_addL, iN_Ladd, iN_mulL, iN_Lmul, iN_subL, iN_sub, iN_le_T, iN_le_F, iN_lt_T, iN_lt_F, iN_eq_F, iN_leL_T, iN_leL_F, iN_Lle_T, iN_Lle_F, iN_ltL_T, iN_ltL_F, iN_Llt_T, iN_Llt_F, iN_eqL_T, iN_eqL_F, iN_m1, m1_iN, iN_le_m1, m1_le_iN, iN_neg, iN_pos, i10, i01, i00, i11, u3_op, u3_or, u3_same, pup_eq, pup_ne]
      exact Rs.mk ⟨rfl, hR⟩
  · rw [show headS c a1 a2 = (-1, c) by unfold headS; rw [if_neg h1]]
    simp (disch := first | omega | assumption) only [↓bd_rt, ↓bd_bd, ↓bd_ite, ↓bd_jn, ↓jn_ap, ↓ite_ap, ↓bd_gI1, ↓bd_pI1, ↓bd_gR1, ↓bd_pR1, ↓bd_gM, rt_ap, ↓reduceIte, iN_div, iN_divL, iN_add, iN_mul, iN_addL, iN_Ladd, iN_mulL, iN_Lmul, iN_subL, iN_sub, iN_le_T, iN_le_F, iN_lt_T, iN_lt_F, iN_eq_F, iN_leL_T, iN_leL_F, iN_Lle_T, iN_Lle_F, iN_ltL_T, iN_ltL_F, iN_Llt_T, iN_Llt_F, iN_eqL_T, iN_eqL_F, iN_m1, m1_iN, iN_le_m1, m1_le_iN, iN_neg, iN_pos, i10, i01, i00, i11, u3_op, u3_or, u3_same, pup_eq, pup_ne, hR0.nh, ↓bd_of sp_X3_isCorner, iq h1]
    exact Rs.mk ⟨rfl, hR⟩
theorem op_X1_head {c : CWa} (w : c.WF) {φ : amSh} {S : amSt} (hφ : φ.1 255 ≠ 0) (hR : RCwa c φ S) {a1 a2 : Int32} : Rs1 1 2 (fun v φ' S' => v = (headS c a1 a2).1 ∧ RCwa (headS c a1 a2).2 φ' S') (p_X1_head a1 a2 φ S) := by
  have hm := w.hm
  have hh := w.hh
  have c5 := hR.cnt
  unfold p_X1_head
  by_cases h1 : inN a1 20
  · by_cases h2 : inN a2 c.nm
    · by_cases h3 : c.nh = 20
      · rw [show headS c a1 a2 = (-1, c) by unfold headS; rw [if_pos h1, if_pos h2, if_pos h3]]
        rw [b1_gM hφ, bd1_up sp_X1_isCorner, ip h1, if_neg (by decide), b1_gI1, hR.nm, bd1_up (in_n (by omega)), ip h2, if_neg (by decide), b1_gI1, hR.nh, if_pos (by rw [h3]; rfl), rt1_ap]
        exact Rs1.mk (by decide) (by decide) ⟨rfl, hR⟩
      · obtain ⟨x, hx, rfl⟩ := h1.ex (by decide)
        obtain ⟨m, hm2, rfl⟩ := h2.ex (by omega)
        rw [show headS c (iN x) (iN m) = (iN c.nh, ((c.s_nh (c.nh + 1)).s_hcor (pup c.hcor c.nh x)).s_hmain (pup c.hmain c.nh m)) by unfold headS; rw [if_pos h1, if_pos h2, if_neg h3, iN_nat (by omega), iN_nat (by omega)]]
        rw [b1_gM hφ, bd1_up sp_X1_isCorner, ip h1, if_neg (by decide), b1_gI1, hR.nm, bd1_up (in_n (by omega)), ip h2, if_neg (by decide), b1_gI1, hR.nh, if_neg (by rw [show (20 : Int32) = iN 20 from rfl, iN_inj (by omega) (by decide)]; exact h3), b1_gI1, hR.nh, b1_nw, c5]
        refine Rs1.acm (K' := 0) (N' := 0) ?_ (by decide) (by decide)
        have e7 : ∀ {S : amSt}, p_X7_init (c.nh + 1) (iN x) (iN m) φ S = p_X7_init (c.nh + 1) (iN x) (iN m) φ S := rfl
        have hi : ∀ {φ : amSh} {S : amSt}, p_X7_init (c.nh + 1) (iN x) (iN m) φ S = some ((), (u3 (u3 S.1 5 (c.nh + 1) 0 (iN x)) 5 (c.nh + 1) 1 (iN m), S.2)) := fun {φ S} => by
          unfold p_X7_init
          simp (disch := first | omega | assumption) only [↓bd_rt, ↓bd_bd, ↓bd_ite, ↓bd_jn, ↓jn_ap, ↓ite_ap, ↓bd_gI1, ↓bd_pI1, ↓bd_gR1, ↓bd_pR1, ↓bd_gM, rt_ap, ↓reduceIte, iN_div, iN_divL, iN_add, iN_mul, iN_addL, iN_Ladd, iN_mulL, iN_Lmul, iN_subL, iN_sub, iN_le_T, iN_le_F, iN_lt_T, iN_lt_F, iN_eq_F, iN_leL_T, iN_leL_F, iN_Lle_T, iN_Lle_F, iN_ltL_T, iN_ltL_F, iN_Llt_T, iN_Llt_F, iN_eqL_T, iN_eqL_F, iN_m1, m1_iN, iN_le_m1, m1_le_iN, iN_neg, iN_pos, i10, i01, i00, i11, u3_op, u3_or, u3_same, pup_eq, pup_ne, ↓bd_nn, ↓bd_pI]
        have h11 : (nS φ S 5).1 0 1 11 = iN c.nh := by simp (disch := first | omega | assumption) only [↓b1_rt, ↓b1_rt1, ↓b1_up_bd, ↓b1_b1, ↓b1_ite, ↓b1_up_ite, ↓b1_jn, ↓jn1_ap, ↓ite1_ap, ↓b1_gI1, ↓b1_pI1, ↓b1_gR1, ↓b1_pR1, ↓b1_gM, rt1_ap, ↓reduceIte, iN_div, iN_divL, iN_add, iN_mul, iN_addL, iN_Ladd, iN_mulL, iN_Lmul, iN_subL, iN_sub, iN_le_T, iN_le_F, iN_lt_T, iN_lt_F, iN_eq_F, iN_leL_T, iN_leL_F, iN_Lle_T, iN_Lle_F, iN_ltL_T, iN_ltL_F, iN_Llt_T, iN_Llt_F, iN_eqL_T, iN_eqL_F, iN_m1, m1_iN, iN_le_m1, m1_le_iN, iN_neg, iN_pos, i10, i01, i00, i11, u3_op, u3_or, u3_same, pup_eq, pup_ne, nS_i, nS_r, nS_d, nS_ir, nS_rr, nS_i0, nS_r0, nφ_1, nφ_11, nφ_2, nφ_3, nφ_2r, nφ_3r, nφ_20, nφ_30, u2_op, u2_or, u2_eq, hR.nh]
        simp (disch := first | omega | assumption) only [↓b1_rt, ↓b1_rt1, ↓b1_up_bd, ↓b1_b1, ↓b1_ite, ↓b1_up_ite, ↓b1_jn, ↓jn1_ap, ↓ite1_ap, ↓b1_gI1, ↓b1_pI1, ↓b1_gR1, ↓b1_pR1, ↓b1_gM, rt1_ap, ↓reduceIte, iN_div, iN_divL, iN_add, iN_mul, iN_addL, iN_Ladd, iN_mulL, iN_Lmul, iN_subL, iN_sub, iN_le_T, iN_le_F, iN_lt_T, iN_lt_F, iN_eq_F, iN_leL_T, iN_leL_F, iN_Lle_T, iN_Lle_F, iN_ltL_T, iN_ltL_F, iN_Llt_T, iN_Llt_F, iN_eqL_T, iN_eqL_F, iN_m1, m1_iN, iN_le_m1, m1_le_iN, iN_neg, iN_pos, i10, i01, i00, i11, u3_op, u3_or, u3_same, pup_eq, pup_ne, nS_i, nS_r, nS_d, nS_ir, nS_rr, nS_i0, nS_r0, nφ_1, nφ_11, nφ_2, nφ_3, nφ_2r, nφ_3r, nφ_20, nφ_30, u2_op, u2_or, u2_eq, ↓b1_nn, ↓bd1_up hi, ↓b1_wR27_1, h11, hR.nh, Nat.add_sub_cancel]
        refine Rs1.mk (by decide) (by decide) ⟨rfl, RCwa.mk ?_ ?_ ?_ ?_ ?_ ?_ ?_⟩
        · simp (disch := first | omega | assumption) only [↓b1_rt, ↓b1_rt1, ↓b1_up_bd, ↓b1_b1, ↓b1_ite, ↓b1_up_ite, ↓b1_jn, ↓jn1_ap, ↓ite1_ap, ↓b1_gI1, ↓b1_pI1, ↓b1_gR1, ↓b1_pR1, ↓b1_gM, rt1_ap, ↓reduceIte, iN_div, iN_divL, iN_add, iN_mul, iN_addL, iN_Ladd, iN_mulL, iN_Lmul, iN_subL, iN_sub, iN_le_T, iN_le_F, iN_lt_T, iN_lt_F, iN_eq_F, iN_leL_T, iN_leL_F, iN_Lle_T, iN_Lle_F, iN_ltL_T, iN_ltL_F, iN_Llt_T, iN_Llt_F, iN_eqL_T, iN_eqL_F, iN_m1, m1_iN, iN_le_m1, m1_le_iN, iN_neg, iN_pos, i10, i01, i00, i11, u3_op, u3_or, u3_same, pup_eq, pup_ne, nS_i, nS_r, nS_d, nS_ir, nS_rr, nS_i0, nS_r0, nφ_1, nφ_11, nφ_2, nφ_3, nφ_2r, nφ_3r, nφ_20, nφ_30, u2_op, u2_or, u2_eq]; exact hR.nm
        · simp (disch := first | omega | assumption) only [↓b1_rt, ↓b1_rt1, ↓b1_up_bd, ↓b1_b1, ↓b1_ite, ↓b1_up_ite, ↓b1_jn, ↓jn1_ap, ↓ite1_ap, ↓b1_gI1, ↓b1_pI1, ↓b1_gR1, ↓b1_pR1, ↓b1_gM, rt1_ap, ↓reduceIte, iN_div, iN_divL, iN_add, iN_mul, iN_addL, iN_Ladd, iN_mulL, iN_Lmul, iN_subL, iN_sub, iN_le_T, iN_le_F, iN_lt_T, iN_lt_F, iN_eq_F, iN_leL_T, iN_leL_F, iN_Lle_T, iN_Lle_F, iN_ltL_T, iN_ltL_F, iN_Llt_T, iN_Llt_F, iN_eqL_T, iN_eqL_F, iN_m1, m1_iN, iN_le_m1, m1_le_iN, iN_neg, iN_pos, i10, i01, i00, i11, u3_op, u3_or, u3_same, pup_eq, pup_ne, nS_i, nS_r, nS_d, nS_ir, nS_rr, nS_i0, nS_r0, nφ_1, nφ_11, nφ_2, nφ_3, nφ_2r, nφ_3r, nφ_20, nφ_30, u2_op, u2_or, u2_eq]; rfl
        · intro k hk; simp (disch := first | omega | assumption) only [↓b1_rt, ↓b1_rt1, ↓b1_up_bd, ↓b1_b1, ↓b1_ite, ↓b1_up_ite, ↓b1_jn, ↓jn1_ap, ↓ite1_ap, ↓b1_gI1, ↓b1_pI1, ↓b1_gR1, ↓b1_pR1, ↓b1_gM, rt1_ap, ↓reduceIte, iN_div, iN_divL, iN_add, iN_mul, iN_addL, iN_Ladd, iN_mulL, iN_Lmul, iN_subL, iN_sub, iN_le_T, iN_le_F, iN_lt_T, iN_lt_F, iN_eq_F, iN_leL_T, iN_leL_F, iN_Lle_T, iN_Lle_F, iN_ltL_T, iN_ltL_F, iN_Llt_T, iN_Llt_F, iN_eqL_T, iN_eqL_F, iN_m1, m1_iN, iN_le_m1, m1_le_iN, iN_neg, iN_pos, i10, i01, i00, i11, u3_op, u3_or, u3_same, pup_eq, pup_ne, nS_i, nS_r, nS_d, nS_ir, nS_rr, nS_i0, nS_r0, nφ_1, nφ_11, nφ_2, nφ_3, nφ_2r, nφ_3r, nφ_20, nφ_30, u2_op, u2_or, u2_eq]; exact hR.gives k hk
        · intro k hk
          have hk : k < c.nh + 1 := hk
          by_cases e : k = c.nh
          · subst e; simp (disch := first | omega | assumption) only [↓b1_rt, ↓b1_rt1, ↓b1_up_bd, ↓b1_b1, ↓b1_ite, ↓b1_up_ite, ↓b1_jn, ↓jn1_ap, ↓ite1_ap, ↓b1_gI1, ↓b1_pI1, ↓b1_gR1, ↓b1_pR1, ↓b1_gM, rt1_ap, ↓reduceIte, iN_div, iN_divL, iN_add, iN_mul, iN_addL, iN_Ladd, iN_mulL, iN_Lmul, iN_subL, iN_sub, iN_le_T, iN_le_F, iN_lt_T, iN_lt_F, iN_eq_F, iN_leL_T, iN_leL_F, iN_Lle_T, iN_Lle_F, iN_ltL_T, iN_ltL_F, iN_Llt_T, iN_Llt_F, iN_eqL_T, iN_eqL_F, iN_m1, m1_iN, iN_le_m1, m1_le_iN, iN_neg, iN_pos, i10, i01, i00, i11, u3_op, u3_or, u3_same, pup_eq, pup_ne, nS_i, nS_r, nS_d, nS_ir, nS_rr, nS_i0, nS_r0, nφ_1, nφ_11, nφ_2, nφ_3, nφ_2r, nφ_3r, nφ_20, nφ_30, u2_op, u2_or, u2_eq]
          · simp (disch := first | omega | assumption) only [↓b1_rt, ↓b1_rt1, ↓b1_up_bd, ↓b1_b1, ↓b1_ite, ↓b1_up_ite, ↓b1_jn, ↓jn1_ap, ↓ite1_ap, ↓b1_gI1, ↓b1_pI1, ↓b1_gR1, ↓b1_pR1, ↓b1_gM, rt1_ap, ↓reduceIte, iN_div, iN_divL, iN_add, iN_mul, iN_addL, iN_Ladd, iN_mulL, iN_Lmul, iN_subL, iN_sub, iN_le_T, iN_le_F, iN_lt_T, iN_lt_F, iN_eq_F, iN_leL_T, iN_leL_F, iN_Lle_T, iN_Lle_F, iN_ltL_T, iN_ltL_F, iN_Llt_T, iN_Llt_F, iN_eqL_T, iN_eqL_F, iN_m1, m1_iN, iN_le_m1, m1_le_iN, iN_neg, iN_pos, i10, i01, i00, i11, u3_op, u3_or, u3_same, pup_eq, pup_ne, nS_i, nS_r, nS_d, nS_ir, nS_rr, nS_i0, nS_r0, nφ_1, nφ_11, nφ_2, nφ_3, nφ_2r, nφ_3r, nφ_20, nφ_30, u2_op, u2_or, u2_eq]; exact hR.obj k (by omega)
        · intro k hk
          have hk : k < c.nh + 1 := hk
          show _ = iN (pup c.hcor c.nh x k)
          by_cases e : k = c.nh
          · subst e; simp (disch := first | omega | assumption) only [↓b1_rt, ↓b1_rt1, ↓b1_up_bd, ↓b1_b1, ↓b1_ite, ↓b1_up_ite, ↓b1_jn, ↓jn1_ap, ↓ite1_ap, ↓b1_gI1, ↓b1_pI1, ↓b1_gR1, ↓b1_pR1, ↓b1_gM, rt1_ap, ↓reduceIte, iN_div, iN_divL, iN_add, iN_mul, iN_addL, iN_Ladd, iN_mulL, iN_Lmul, iN_subL, iN_sub, iN_le_T, iN_le_F, iN_lt_T, iN_lt_F, iN_eq_F, iN_leL_T, iN_leL_F, iN_Lle_T, iN_Lle_F, iN_ltL_T, iN_ltL_F, iN_Llt_T, iN_Llt_F, iN_eqL_T, iN_eqL_F, iN_m1, m1_iN, iN_le_m1, m1_le_iN, iN_neg, iN_pos, i10, i01, i00, i11, u3_op, u3_or, u3_same, pup_eq, pup_ne, nS_i, nS_r, nS_d, nS_ir, nS_rr, nS_i0, nS_r0, nφ_1, nφ_11, nφ_2, nφ_3, nφ_2r, nφ_3r, nφ_20, nφ_30, u2_op, u2_or, u2_eq]
          · simp (disch := first | omega | assumption) only [↓b1_rt, ↓b1_rt1, ↓b1_up_bd, ↓b1_b1, ↓b1_ite, ↓b1_up_ite, ↓b1_jn, ↓jn1_ap, ↓ite1_ap, ↓b1_gI1, ↓b1_pI1, ↓b1_gR1, ↓b1_pR1, ↓b1_gM, rt1_ap, ↓reduceIte, iN_div, iN_divL, iN_add, iN_mul, iN_addL, iN_Ladd, iN_mulL, iN_Lmul, iN_subL, iN_sub, iN_le_T, iN_le_F, iN_lt_T, iN_lt_F, iN_eq_F, iN_leL_T, iN_leL_F, iN_Lle_T, iN_Lle_F, iN_ltL_T, iN_ltL_F, iN_Llt_T, iN_Llt_F, iN_eqL_T, iN_eqL_F, iN_m1, m1_iN, iN_le_m1, m1_le_iN, iN_neg, iN_pos, i10, i01, i00, i11, u3_op, u3_or, u3_same, pup_eq, pup_ne, nS_i, nS_r, nS_d, nS_ir, nS_rr, nS_i0, nS_r0, nφ_1, nφ_11, nφ_2, nφ_3, nφ_2r, nφ_3r, nφ_20, nφ_30, u2_op, u2_or, u2_eq, c5]; exact hR.hcor k (by omega)
        · intro k hk
          have hk : k < c.nh + 1 := hk
          show _ = iN (pup c.hmain c.nh m k)
          by_cases e : k = c.nh
          · subst e; simp (disch := first | omega | assumption) only [↓b1_rt, ↓b1_rt1, ↓b1_up_bd, ↓b1_b1, ↓b1_ite, ↓b1_up_ite, ↓b1_jn, ↓jn1_ap, ↓ite1_ap, ↓b1_gI1, ↓b1_pI1, ↓b1_gR1, ↓b1_pR1, ↓b1_gM, rt1_ap, ↓reduceIte, iN_div, iN_divL, iN_add, iN_mul, iN_addL, iN_Ladd, iN_mulL, iN_Lmul, iN_subL, iN_sub, iN_le_T, iN_le_F, iN_lt_T, iN_lt_F, iN_eq_F, iN_leL_T, iN_leL_F, iN_Lle_T, iN_Lle_F, iN_ltL_T, iN_ltL_F, iN_Llt_T, iN_Llt_F, iN_eqL_T, iN_eqL_F, iN_m1, m1_iN, iN_le_m1, m1_le_iN, iN_neg, iN_pos, i10, i01, i00, i11, u3_op, u3_or, u3_same, pup_eq, pup_ne, nS_i, nS_r, nS_d, nS_ir, nS_rr, nS_i0, nS_r0, nφ_1, nφ_11, nφ_2, nφ_3, nφ_2r, nφ_3r, nφ_20, nφ_30, u2_op, u2_or, u2_eq]
          · simp (disch := first | omega | assumption) only [↓b1_rt, ↓b1_rt1, ↓b1_up_bd, ↓b1_b1, ↓b1_ite, ↓b1_up_ite, ↓b1_jn, ↓jn1_ap, ↓ite1_ap, ↓b1_gI1, ↓b1_pI1, ↓b1_gR1, ↓b1_pR1, ↓b1_gM, rt1_ap, ↓reduceIte, iN_div, iN_divL, iN_add, iN_mul, iN_addL, iN_Ladd, iN_mulL, iN_Lmul, iN_subL, iN_sub, iN_le_T, iN_le_F, iN_lt_T, iN_lt_F, iN_eq_F, iN_leL_T, iN_leL_F, iN_Lle_T, iN_Lle_F, iN_ltL_T, iN_ltL_F, iN_Llt_T, iN_Llt_F, iN_eqL_T, iN_eqL_F, iN_m1, m1_iN, iN_le_m1, m1_le_iN, iN_neg, iN_pos, i10, i01, i00, i11, u3_op, u3_or, u3_same, pup_eq, pup_ne, nS_i, nS_r, nS_d, nS_ir, nS_rr, nS_i0, nS_r0, nφ_1, nφ_11, nφ_2, nφ_3, nφ_2r, nφ_3r, nφ_20, nφ_30, u2_op, u2_or, u2_eq, c5]; exact hR.hmain k (by omega)
        · simp (disch := first | omega | assumption) only [↓b1_rt, ↓b1_rt1, ↓b1_up_bd, ↓b1_b1, ↓b1_ite, ↓b1_up_ite, ↓b1_jn, ↓jn1_ap, ↓ite1_ap, ↓b1_gI1, ↓b1_pI1, ↓b1_gR1, ↓b1_pR1, ↓b1_gM, rt1_ap, ↓reduceIte, iN_div, iN_divL, iN_add, iN_mul, iN_addL, iN_Ladd, iN_mulL, iN_Lmul, iN_subL, iN_sub, iN_le_T, iN_le_F, iN_lt_T, iN_lt_F, iN_eq_F, iN_leL_T, iN_leL_F, iN_Lle_T, iN_Lle_F, iN_ltL_T, iN_ltL_F, iN_Llt_T, iN_Llt_F, iN_eqL_T, iN_eqL_F, iN_m1, m1_iN, iN_le_m1, m1_le_iN, iN_neg, iN_pos, i10, i01, i00, i11, u3_op, u3_or, u3_same, pup_eq, pup_ne, nS_i, nS_r, nS_d, nS_ir, nS_rr, nS_i0, nS_r0, nφ_1, nφ_11, nφ_2, nφ_3, nφ_2r, nφ_3r, nφ_20, nφ_30, u2_op, u2_or, u2_eq, c5]; rfl
    · rw [show headS c a1 a2 = (-1, c) by unfold headS; rw [if_pos h1, if_neg h2]]
      rw [b1_gM hφ, bd1_up sp_X1_isCorner, ip h1, if_neg (by decide), b1_gI1, hR.nm, bd1_up (in_n (by omega)), iq h2, if_pos rfl, rt1_ap]
      exact Rs1.mk (by decide) (by decide) ⟨rfl, hR⟩
  · rw [show headS c a1 a2 = (-1, c) by unfold headS; rw [if_neg h1]]
    rw [b1_gM hφ, bd1_up sp_X1_isCorner, iq h1, if_pos rfl, rt1_ap]
    exact Rs1.mk (by decide) (by decide) ⟨rfl, hR⟩
