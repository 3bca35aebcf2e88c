/-! PURE: what a room gains -/
def fbN (c : CHo) (b : CBz) (o f : Nat) : Nat := itn (fun r a => if brn c b o (f * c.wd o + r) then a + 1 else a) 0 (c.wd o)
def fbS (c : CHo) (b : CBz) (h w f : Nat) : Nat := if w = 0 then 0 else if c.fl (w - 1) ≤ f then 0 else fbN c b (w - 1) f * (24 / (1 + c.wl h + c.wl (w - 1)))
def g0S (c : CHo) (b : CBz) (h k : Nat) : Int32 := if brn c b h k then 50 else -10
def sdS (c : CHo) (h : Nat) : Int32 := if c.dr h = 0 then 10 else 30
def g1S (c : CHo) (b : CBz) (h k : Nat) : Int32 := if 0 < k % c.wd h ∧ brn c b h (k - 1) = true then g0S c b h k + sdS c h else g0S c b h k
def g2S (c : CHo) (b : CBz) (h k : Nat) : Int32 := if k % c.wd h + 1 < c.wd h ∧ brn c b h (k + 1) = true then g1S c b h k + sdS c h else g1S c b h k
def g3S (c : CHo) (b : CBz) (h k : Nat) : Int32 := if 0 < k / c.wd h ∧ brn c b h (k - c.wd h) = true then g2S c b h k + (if iN (k % c.wd h) = c.sh h then 60 else 20) else g2S c b h k
def g4S (c : CHo) (b : CBz) (h k : Nat) : Int32 := if k / c.wd h + 1 < c.fl h ∧ brn c b h (k + c.wd h) = true then g3S c b h k + 5 else g3S c b h k
def gainS (c : CHo) (b : CBz) (h k : Nat) : Int32 := (g4S c b h k + iN (fbS c b h (besS c h false) (k / c.wd h)) + iN (fbS c b h (besS c h true) (k / c.wd h))) - b.water (24 * h + k) / 4
def bnum (cp : Bool) (h : Nat) : Nat := if cp then 2 * (h + 1) else 2 * (h + 1) - 1
/-- what burned lies ready -/
def RCbd (c : CHo) (b : CBz) (cp : Bool) (S : amSt) : Prop := ∀ h k, h < c.n → k < c.fl h * c.wd h → S.1 150 (bnum cp h) k = b01 (brn c b h k)
def i32b (cp : Bool) : Int32 := if cp then 1 else 0
theorem bnum_ne {cp : Bool} {h : Nat} : bnum cp h ≠ 0 := by unfold bnum; split <;> omega
theorem bnum_st {c : CHo} {φ : amSh} {S : amSt} (hR : RCho c φ S) {h : Nat} (hh : h < c.n) (cp : Bool) : 6 < φ.2.1 4 (bnum cp h) := by
  unfold bnum; split
  · exact hR.stc h hh
  · exact hR.stb h hh
theorem sp_X1_blazeOf {c : CHo} {φ : amSh} {S : amSt} (hR : RCho c φ S) {h : Nat} (hh : h < c.n) (cp : Bool) : p_X1_blazeOf (h + 1) (i32b cp) φ S = some (bnum cp h, S) := by
  have := hR.stg h hh
  unfold p_X1_blazeOf i32b bnum
  cases cp
  · simp (disch := first | omega | assumption) only [↓bd_rt, ↓bd_bd, ↓bd_ite, ↓bd_jn, ↓jn_ap, ↓ite_ap, ↓bd_gI1, ↓bd_pI1, ↓bd_gR1, ↓bd_pR1, ↓bd_gM, rt_ap, ↓reduceIte, iN_div, iN_divL, iN_add, iN_mul, iN_addL, iN_Ladd, iN_mulL, iN_Lmul, iN_subL, iN_sub, iN_le_T, iN_le_F, iN_lt_T, iN_lt_F, iN_eq_F, iN_leL_T, iN_leL_F, iN_Lle_T, iN_Lle_F, iN_ltL_T, iN_ltL_F, iN_Llt_T, iN_Llt_F, iN_eqL_T, iN_eqL_F, iN_m1, m1_iN, iN_le_m1, m1_le_iN, iN_neg, iN_pos, i10, i01, i00, i11, u3_op, u3_or, u3_same, pup_eq, pup_ne, Bool.false_eq_true, if_false, ↓bd_gC (show h + 1 ≠ 0 by omega) (show 2 < φ.2.1 3 (h + 1) by omega), if_true]
  · simp (disch := first | omega | assumption) only [↓bd_rt, ↓bd_bd, ↓bd_ite, ↓bd_jn, ↓jn_ap, ↓ite_ap, ↓bd_gI1, ↓bd_pI1, ↓bd_gR1, ↓bd_pR1, ↓bd_gM, rt_ap, ↓reduceIte, iN_div, iN_divL, iN_add, iN_mul, iN_addL, iN_Ladd, iN_mulL, iN_Lmul, iN_subL, iN_sub, iN_le_T, iN_le_F, iN_lt_T, iN_lt_F, iN_eq_F, iN_leL_T, iN_leL_F, iN_Lle_T, iN_Lle_F, iN_ltL_T, iN_ltL_F, iN_Llt_T, iN_Llt_F, iN_eqL_T, iN_eqL_F, iN_m1, m1_iN, iN_le_m1, m1_le_iN, iN_neg, iN_pos, i10, i01, i00, i11, u3_op, u3_or, u3_same, pup_eq, pup_ne, if_true, ↓bd_gC (show h + 1 ≠ 0 by omega) (show 3 < φ.2.1 3 (h + 1) by omega)]
theorem fw_lt {c : CHo} (w : c.WF) {o f r : Nat} (ho : o < c.n) (hf : f < c.fl o) (hr : r < c.wd o) : f * c.wd o + r < c.fl o * c.wd o := by
  have : (f + 1) * c.wd o ≤ c.fl o * c.wd o := Nat.mul_le_mul_right _ hf
  rw [Nat.succ_mul] at this
  omega
theorem sp_X1_gainBy {c : CHo} (w : c.WF) {b : CBz} {cp : Bool} {φ : amSh} {S : amSt} (hR : RCho c φ S) (hB : RCbd c b cp S) {h v f : Nat} (hh : h < c.n) (hv : v ≤ c.n) (hf : f < 6) : p_X1_gainBy v (h + 1) (iN f) (i32b cp) φ S = some (iN (fbS c b h v f), S) := by
  unfold p_X1_gainBy fbS
  by_cases h0 : v = 0
  · rw [if_pos h0, if_pos h0, rt_ap]; rfl
  · rw [if_neg h0, if_neg h0]
    obtain ⟨o, rfl⟩ : ∃ o, v = o + 1 := ⟨v - 1, by omega⟩
    rw [Nat.add_sub_cancel]
    have ho : o < c.n := by omega
    have hfl := w.fl o ho
    have hwd := w.wd o ho
    have hfw := w.fw ho
    have hw1 := w.wl h
    have hw2 := w.wl o
    by_cases h1 : c.fl o ≤ f
    · rw [if_pos h1]
      simp (disch := first | omega | assumption) only [↓bd_rt, ↓bd_bd, ↓bd_ite, ↓bd_jn, ↓jn_ap, ↓ite_ap, ↓bd_gI1, ↓bd_pI1, ↓bd_gR1, ↓bd_pR1, ↓bd_gM, rt_ap, ↓reduceIte, iN_div, iN_divL, iN_add, iN_mul, iN_addL, iN_Ladd, iN_mulL, iN_Lmul, iN_subL, iN_sub, iN_le_T, iN_le_F, iN_lt_T, iN_lt_F, iN_eq_F, iN_leL_T, iN_leL_F, iN_Lle_T, iN_Lle_F, iN_ltL_T, iN_ltL_F, iN_Llt_T, iN_Llt_F, iN_eqL_T, iN_eqL_F, iN_m1, m1_iN, iN_le_m1, m1_le_iN, iN_neg, iN_pos, i10, i01, i00, i11, u3_op, u3_or, u3_same, pup_eq, pup_ne, ↓bd_gI, hR.fl o ho]
      rfl
    · rw [if_neg h1]
      have hn5 : fbN c b o f ≤ c.wd o := itn_le (p := fun r => brn c b o (f * c.wd o + r)) _
      have key : alp (p_X1_gainBy_L20 (o + 1) (iN f) (i32b cp)) amFu (0, 0) φ S = some (iN (fbN c b o f), S) := by
        refine alp_st (fun r => (iN (itn (fun r a => if brn c b o (f * c.wd o + r) then a + 1 else a) 0 r), iN r)) (fun _ => S) (c.wd o) ?_ ?_ (amFu_lt (by omega))
        · intro r hr rec
          have hlt := fw_lt w ho (f := f) (by omega) hr
          have hle : itn (fun r a => if brn c b o (f * c.wd o + r) then a + 1 else a) 0 r ≤ r := itn_le (p := fun r => brn c b o (f * c.wd o + r)) r
          have hbn := bnum_ne (cp := cp) (h := o)
          have hst := bnum_st hR ho cp
          unfold p_X1_gainBy_L20
          dsimp only
          show _ = rec (iN (if brn c b o (f * c.wd o + r) then itn (fun r a => if brn c b o (f * c.wd o + r) then a + 1 else a) 0 r + 1 else itn (fun r a => if brn c b o (f * c.wd o + r) then a + 1 else a) 0 r), iN (r + 1)) φ S
          generalize itn (fun r a => if brn c b o (f * c.wd o + r) then a + 1 else a) 0 r = m at *
          have hb := hB o _ ho hlt
          cases q : brn c b o (f * c.wd o + r) <;> simp only [q, b01_f, b01_t] at hb <;> simp (disch := first | omega | assumption) only [↓bd_rt, ↓bd_bd, ↓bd_ite, ↓bd_jn, ↓jn_ap, ↓ite_ap, ↓bd_gI1, ↓bd_pI1, ↓bd_gR1, ↓bd_pR1, ↓bd_gM, rt_ap, ↓reduceIte, iN_div, iN_divL, iN_add, iN_mul, iN_addL, iN_Ladd, iN_mulL, iN_Lmul, iN_subL, iN_sub, iN_le_T, iN_le_F, iN_lt_T, iN_lt_F, iN_eq_F, iN_leL_T, iN_leL_F, iN_Lle_T, iN_Lle_F, iN_ltL_T, iN_ltL_F, iN_Llt_T, iN_Llt_F, iN_eqL_T, iN_eqL_F, iN_m1, m1_iN, iN_le_m1, m1_le_iN, iN_neg, iN_pos, i10, i01, i00, i11, u3_op, u3_or, u3_same, pup_eq, pup_ne, ↓bd_gI, hR.wd o ho, ↓bd_of (sp_X1_blazeOf hR ho cp), ↓bd_gC hbn (show 5 < φ.2.1 4 (bnum cp o) by omega), ↓rI150, hb] <;> simp
        · intro rec
          unfold p_X1_gainBy_L20
          dsimp only
          simp (disch := first | omega | assumption) only [↓bd_rt, ↓bd_bd, ↓bd_ite, ↓bd_jn, ↓jn_ap, ↓ite_ap, ↓bd_gI1, ↓bd_pI1, ↓bd_gR1, ↓bd_pR1, ↓bd_gM, rt_ap, ↓reduceIte, iN_div, iN_divL, iN_add, iN_mul, iN_addL, iN_Ladd, iN_mulL, iN_Lmul, iN_subL, iN_sub, iN_le_T, iN_le_F, iN_lt_T, iN_lt_F, iN_eq_F, iN_leL_T, iN_leL_F, iN_Lle_T, iN_Lle_F, iN_ltL_T, iN_ltL_F, iN_Llt_T, iN_Llt_F, iN_eqL_T, iN_eqL_F, iN_m1, m1_iN, iN_le_m1, m1_le_iN, iN_neg, iN_pos, i10, i01, i00, i11, u3_op, u3_or, u3_same, pup_eq, pup_ne, ↓bd_gI, hR.wd o ho]
          rfl
      have hq : 24 / (1 + c.wl h + c.wl o) ≤ 24 := Nat.div_le_self _ _
      simp (disch := first | omega | assumption) only [↓bd_rt, ↓bd_bd, ↓bd_ite, ↓bd_jn, ↓jn_ap, ↓ite_ap, ↓bd_gI1, ↓bd_pI1, ↓bd_gR1, ↓bd_pR1, ↓bd_gM, rt_ap, ↓reduceIte, iN_div, iN_divL, iN_add, iN_mul, iN_addL, iN_Ladd, iN_mulL, iN_Lmul, iN_subL, iN_sub, iN_le_T, iN_le_F, iN_lt_T, iN_lt_F, iN_eq_F, iN_leL_T, iN_leL_F, iN_Lle_T, iN_Lle_F, iN_ltL_T, iN_ltL_F, iN_Llt_T, iN_Llt_F, iN_eqL_T, iN_eqL_F, iN_m1, m1_iN, iN_le_m1, m1_le_iN, iN_neg, iN_pos, i10, i01, i00, i11, u3_op, u3_or, u3_same, pup_eq, pup_ne, ↓bd_gI, hR.fl o ho, if_true, ↓bd_of key, hR.wl h hh, hR.wl o ho, ↓bd_nz]
      rw [show (24 : Int32) = iN 24 from rfl, iN_div (by omega) (by omega), iN_mul]
theorem sp_X3_fromBeside {c : CHo} (w : c.WF) {b : CBz} {φ : amSh} {S : amSt} (hφ : φ.1 255 ≠ 0) (hR : RMho c S) (hb : RMbz b S) {h v f : Nat} (hh : h < c.n) (hv : v ≤ c.n) (hf : f < 6) : p_X3_fromBeside (iN h) (oW v) (iN f) φ S = some (iN (fbS c b h v f), S) := by
  have hn := w.hn
  unfold p_X3_fromBeside fbS
  rw [bd_gM hφ]
  by_cases h0 : v = 0
  · subst h0; simp only [oW_0, if_true, rt_ap]; rfl
  · rw [if_neg h0]
    obtain ⟨o, rfl⟩ : ∃ o, v = o + 1 := ⟨v - 1, by omega⟩
    rw [Nat.add_sub_cancel, oW_s]
    have ho : o < c.n := by omega
    have hfl := w.fl o ho
    have hwd := w.wd o ho
    have hfw := w.fw ho
    have hw1 := w.wl h
    have hw2 := w.wl o
    by_cases h1 : c.fl o ≤ f
    · rw [if_pos h1]
      simp (disch := first | omega | assumption) only [↓bd_rt, ↓bd_bd, ↓bd_ite, ↓bd_jn, ↓jn_ap, ↓ite_ap, ↓bd_gI1, ↓bd_pI1, ↓bd_gR1, ↓bd_pR1, ↓bd_gM, rt_ap, ↓reduceIte, iN_div, iN_divL, iN_add, iN_mul, iN_addL, iN_Ladd, iN_mulL, iN_Lmul, iN_subL, iN_sub, iN_le_T, iN_le_F, iN_lt_T, iN_lt_F, iN_eq_F, iN_leL_T, iN_leL_F, iN_Lle_T, iN_Lle_F, iN_ltL_T, iN_ltL_F, iN_Llt_T, iN_Llt_F, iN_eqL_T, iN_eqL_F, iN_m1, m1_iN, iN_le_m1, m1_le_iN, iN_neg, iN_pos, i10, i01, i00, i11, u3_op, u3_or, u3_same, pup_eq, pup_ne, ↓rI64_1, hR.fl o ho]
      rfl
    · rw [if_neg h1]
      have hn5 : fbN c b o f ≤ c.wd o := itn_le (p := fun r => brn c b o (f * c.wd o + r)) _
      have hq : 24 / (1 + c.wl h + c.wl o) ≤ 24 := Nat.div_le_self _ _
      have key : alp (p_X3_fromBeside_L23 (iN h) (iN o) (iN f)) amFu (iN (0 * (24 / (1 + c.wl h + c.wl o))), iN 0) φ S = some (iN (fbN c b o f * (24 / (1 + c.wl h + c.wl o))), S) := by
        refine alp_st (fun r => (iN (itn (fun r a => if brn c b o (f * c.wd o + r) then a + 1 else a) 0 r * (24 / (1 + c.wl h + c.wl o))), iN r)) (fun _ => S) (c.wd o) ?_ ?_ (amFu_lt (by omega))
        · intro r hr rec
          have hlt := fw_lt w ho (f := f) (by omega) hr
          have hle : itn (fun r a => if brn c b o (f * c.wd o + r) then a + 1 else a) 0 r ≤ r := itn_le (p := fun r => brn c b o (f * c.wd o + r)) r
          unfold p_X3_fromBeside_L23
          dsimp only
          show _ = rec (iN ((if brn c b o (f * c.wd o + r) then itn (fun r a => if brn c b o (f * c.wd o + r) then a + 1 else a) 0 r + 1 else itn (fun r a => if brn c b o (f * c.wd o + r) then a + 1 else a) 0 r) * (24 / (1 + c.wl h + c.wl o))), iN (r + 1)) φ S
          generalize itn (fun r a => if brn c b o (f * c.wd o + r) then a + 1 else a) 0 r = m at *
          have e24 : (24 : Int32) / iN (1 + c.wl h + c.wl o) = iN (24 / (1 + c.wl h + c.wl o)) := by rw [show (24 : Int32) = iN 24 from rfl, iN_div (by omega) (by omega)]
          cases q : brn c b o (f * c.wd o + r) <;> simp (disch := first | omega | assumption) only [↓bd_rt, ↓bd_bd, ↓bd_ite, ↓bd_jn, ↓jn_ap, ↓ite_ap, ↓bd_gI1, ↓bd_pI1, ↓bd_gR1, ↓bd_pR1, ↓bd_gM, rt_ap, ↓reduceIte, iN_div, iN_divL, iN_add, iN_mul, iN_addL, iN_Ladd, iN_mulL, iN_Lmul, iN_subL, iN_sub, iN_le_T, iN_le_F, iN_lt_T, iN_lt_F, iN_eq_F, iN_leL_T, iN_leL_F, iN_Lle_T, iN_Lle_F, iN_ltL_T, iN_ltL_F, iN_Llt_T, iN_Llt_F, iN_eqL_T, iN_eqL_F, iN_m1, m1_iN, iN_le_m1, m1_le_iN, iN_neg, iN_pos, i10, i01, i00, i11, u3_op, u3_or, u3_same, pup_eq, pup_ne, ↓rI65_1, ↓rI67_1, hR.wd o ho, hR.wl h (by omega), hR.wl o (by omega), ↓bd_of (sp_X3_burns w hφ hR hb ho hlt), q, b01_f, b01_t, ↓bd_nz, e24]
          · simp [Int32.add_zero]
          · simp only [if_true, Nat.succ_mul]
        · intro rec
          unfold p_X3_fromBeside_L23
          dsimp only
          simp (disch := first | omega | assumption) only [↓bd_rt, ↓bd_bd, ↓bd_ite, ↓bd_jn, ↓jn_ap, ↓ite_ap, ↓bd_gI1, ↓bd_pI1, ↓bd_gR1, ↓bd_pR1, ↓bd_gM, rt_ap, ↓reduceIte, iN_div, iN_divL, iN_add, iN_mul, iN_addL, iN_Ladd, iN_mulL, iN_Lmul, iN_subL, iN_sub, iN_le_T, iN_le_F, iN_lt_T, iN_lt_F, iN_eq_F, iN_leL_T, iN_leL_F, iN_Lle_T, iN_Lle_F, iN_ltL_T, iN_ltL_F, iN_Llt_T, iN_Llt_F, iN_eqL_T, iN_eqL_F, iN_m1, m1_iN, iN_le_m1, m1_le_iN, iN_neg, iN_pos, i10, i01, i00, i11, u3_op, u3_or, u3_same, pup_eq, pup_ne, ↓rI65_1, hR.wd o ho]
          rfl
      rw [Nat.zero_mul] at key
      simp (disch := first | omega | assumption) only [↓bd_rt, ↓bd_bd, ↓bd_ite, ↓bd_jn, ↓jn_ap, ↓ite_ap, ↓bd_gI1, ↓bd_pI1, ↓bd_gR1, ↓bd_pR1, ↓bd_gM, rt_ap, ↓reduceIte, iN_div, iN_divL, iN_add, iN_mul, iN_addL, iN_Ladd, iN_mulL, iN_Lmul, iN_subL, iN_sub, iN_le_T, iN_le_F, iN_lt_T, iN_lt_F, iN_eq_F, iN_leL_T, iN_leL_F, iN_Lle_T, iN_Lle_F, iN_ltL_T, iN_ltL_F, iN_Llt_T, iN_Llt_F, iN_eqL_T, iN_eqL_F, iN_m1, m1_iN, iN_le_m1, m1_le_iN, iN_neg, iN_pos, i10, i01, i00, i11, u3_op, u3_or, u3_same, pup_eq, pup_ne, ↓rI64_1, hR.fl o ho, if_true]
      exact (bd_of key).trans rt_ap
theorem sp_X1_gainOf {c : CHo} (w : c.WF) {b : CBz} {cp : Bool} {φ : amSh} {S : amSt} (hφ : φ.1 255 ≠ 0) (hR : RCho c φ S) (hB : RCbd c b cp S) {h k : Nat} (hh : h < c.n) (hk : k < c.fl h * c.wd h) (hwt : S.1 147 (bnum cp h) k = b.water (24 * h + k)) : p_X1_gainOf (iN h) (iN k) (i32b cp) φ S = some (gainS c b h k, S) := by
  have hn := w.hn
  have hfl := w.fl h hh
  have hwd := w.wd h hh
  have hfw := w.fw hh
  have hdv := w.dv hh hk
  have hbn := bnum_ne (cp := cp) (h := h)
  have hst := bnum_st hR hh cp
  have hmod : k % c.wd h < c.wd h := Nat.mod_lt _ (by omega)
  have hmd := Nat.div_add_mod k (c.wd h)
  have em : iN k - iN k / iN (c.wd h) * iN (c.wd h) = iN (k % c.wd h) := iN_mod (by omega) (by omega)
  have em2 : iN (k - k / c.wd h * c.wd h) = iN (k % c.wd h) := by
    congr 1
    rw [Nat.mul_comm]; omega
  have hdm : k / c.wd h * c.wd h ≤ k := Nat.div_mul_le_self k (c.wd h)
  have bl1 := besS_le (c := c) (up := false) hh
  have bl2 := besS_le (c := c) (up := true) hh
  unfold p_X1_gainOf
  simp (disch := first | omega | assumption) only [↓bd_rt, ↓bd_bd, ↓bd_jn, ↓jn_ap, ↓bd_gI1, ↓bd_pI1, ↓bd_gR1, ↓bd_pR1, ↓bd_gM, rt_ap, ↓reduceIte, iN_div, iN_divL, iN_add, iN_mul, iN_addL, iN_Ladd, iN_mulL, iN_Lmul, iN_subL, iN_sub, iN_le_T, iN_le_F, iN_lt_T, iN_lt_F, iN_eq_F, iN_leL_T, iN_leL_F, iN_Lle_T, iN_Lle_F, iN_ltL_T, iN_ltL_F, iN_Llt_T, iN_Llt_F, iN_eqL_T, iN_eqL_F, iN_m1, m1_iN, iN_le_m1, m1_le_iN, iN_neg, iN_pos, i10, i01, i00, i11, u3_op, u3_or, u3_same, pup_eq, pup_ne, ↓rR24_1, hR.obj h hh, ↓bd_of (sp_X1_blazeOf hR hh cp), ↓bd_nn, ↓bd_of (sp_X5_floorOf w hR hh (k := k) (by omega)), ↓bd_gI, hR.wd h hh, ↓bd_nz, ↓bd_gC hbn (show 5 < φ.2.1 4 (bnum cp h) by omega), ↓rI150, hB h k hh hk]
  rw [em2]
  refine (bd_of (a := g0S c b h k) (S1 := S) ?_).trans ?_
  · unfold g0S
    cases q : brn c b h k <;> simp (disch := first | omega | assumption) only [↓bd_rt, ↓bd_bd, ↓bd_ite, ↓bd_jn, ↓jn_ap, ↓ite_ap, ↓bd_gI1, ↓bd_pI1, ↓bd_gR1, ↓bd_pR1, ↓bd_gM, rt_ap, ↓reduceIte, iN_div, iN_divL, iN_add, iN_mul, iN_addL, iN_Ladd, iN_mulL, iN_Lmul, iN_subL, iN_sub, iN_le_T, iN_le_F, iN_lt_T, iN_lt_F, iN_eq_F, iN_leL_T, iN_leL_F, iN_Lle_T, iN_Lle_F, iN_ltL_T, iN_ltL_F, iN_Llt_T, iN_Llt_F, iN_eqL_T, iN_eqL_F, iN_m1, m1_iN, iN_le_m1, m1_le_iN, iN_neg, iN_pos, i10, i01, i00, i11, u3_op, u3_or, u3_same, pup_eq, pup_ne, b01_f, b01_t] <;> rfl
  simp (disch := first | omega | assumption) only [↓bd_rt, ↓bd_bd, ↓bd_jn, ↓jn_ap, ↓bd_gI1, ↓bd_pI1, ↓bd_gR1, ↓bd_pR1, ↓bd_gM, rt_ap, ↓reduceIte, iN_div, iN_divL, iN_add, iN_mul, iN_addL, iN_Ladd, iN_mulL, iN_Lmul, iN_subL, iN_sub, iN_le_T, iN_le_F, iN_lt_T, iN_lt_F, iN_eq_F, iN_leL_T, iN_leL_F, iN_Lle_T, iN_Lle_F, iN_ltL_T, iN_ltL_F, iN_Llt_T, iN_Llt_F, iN_eqL_T, iN_eqL_F, iN_m1, m1_iN, iN_le_m1, m1_le_iN, iN_neg, iN_pos, i10, i01, i00, i11, u3_op, u3_or, u3_same, pup_eq, pup_ne, ↓bd_gI, hR.dr h hh]
  refine (bd_of (a := sdS c h) (S1 := S) ?_).trans ?_
  · unfold sdS
    rw [ite_ap]; split <;> rfl
  refine (bd_of (a := g1S c b h k) (S1 := S) ?_).trans ?_
  · unfold g1S
    by_cases c1 : 0 < k % c.wd h
    · have hb1 := hB h (k - 1) hh (by omega)
      cases q : brn c b h (k - 1) <;> simp only [q, b01_f, b01_t] at hb1 <;> simp (disch := first | omega | assumption) only [↓bd_rt, ↓bd_bd, ↓bd_ite, ↓bd_jn, ↓jn_ap, ↓ite_ap, ↓bd_gI1, ↓bd_pI1, ↓bd_gR1, ↓bd_pR1, ↓bd_gM, rt_ap, ↓reduceIte, iN_div, iN_divL, iN_add, iN_mul, iN_addL, iN_Ladd, iN_mulL, iN_Lmul, iN_subL, iN_sub, iN_le_T, iN_le_F, iN_lt_T, iN_lt_F, iN_eq_F, iN_leL_T, iN_leL_F, iN_Lle_T, iN_Lle_F, iN_ltL_T, iN_ltL_F, iN_Llt_T, iN_Llt_F, iN_eqL_T, iN_eqL_F, iN_m1, m1_iN, iN_le_m1, m1_le_iN, iN_neg, iN_pos, i10, i01, i00, i11, u3_op, u3_or, u3_same, pup_eq, pup_ne, ↓bd_gC hbn (show 5 < φ.2.1 4 (bnum cp h) by omega), ↓rI150, show 1 ≤ k from Nat.le_trans c1 (Nat.mod_le _ _), hb1] <;> simp [c1]
    · simp (disch := first | omega | assumption) only [↓bd_rt, ↓bd_bd, ↓bd_ite, ↓bd_jn, ↓jn_ap, ↓ite_ap, ↓bd_gI1, ↓bd_pI1, ↓bd_gR1, ↓bd_pR1, ↓bd_gM, rt_ap, ↓reduceIte, iN_div, iN_divL, iN_add, iN_mul, iN_addL, iN_Ladd, iN_mulL, iN_Lmul, iN_subL, iN_sub, iN_le_T, iN_le_F, iN_lt_T, iN_lt_F, iN_eq_F, iN_leL_T, iN_leL_F, iN_Lle_T, iN_Lle_F, iN_ltL_T, iN_ltL_F, iN_Llt_T, iN_Llt_F, iN_eqL_T, iN_eqL_F, iN_m1, m1_iN, iN_le_m1, m1_le_iN, iN_neg, iN_pos, i10, i01, i00, i11, u3_op, u3_or, u3_same, pup_eq, pup_ne]
      simp [c1]
  simp (disch := first | omega | assumption) only [↓bd_rt, ↓bd_bd, ↓bd_jn, ↓jn_ap, ↓bd_gI1, ↓bd_pI1, ↓bd_gR1, ↓bd_pR1, ↓bd_gM, rt_ap, ↓reduceIte, iN_div, iN_divL, iN_add, iN_mul, iN_addL, iN_Ladd, iN_mulL, iN_Lmul, iN_subL, iN_sub, iN_le_T, iN_le_F, iN_lt_T, iN_lt_F, iN_eq_F, iN_leL_T, iN_leL_F, iN_Lle_T, iN_Lle_F, iN_ltL_T, iN_ltL_F, iN_Llt_T, iN_Llt_F, iN_eqL_T, iN_eqL_F, iN_m1, m1_iN, iN_le_m1, m1_le_iN, iN_neg, iN_pos, i10, i01, i00, i11, u3_op, u3_or, u3_same, pup_eq, pup_ne, ↓bd_gI, hR.wd h hh]
  refine (bd_of (a := g2S c b h k) (S1 := S) ?_).trans ?_
  · unfold g2S
    by_cases c1 : k % c.wd h + 1 < c.wd h
    · have hlt : k + 1 < c.fl h * c.wd h := by
        have := fw_lt w hh hdv (r := k % c.wd h + 1) c1
        rw [Nat.mul_comm] at this
        omega
      have hb1 := hB h (k + 1) hh hlt
      cases q : brn c b h (k + 1) <;> simp only [q, b01_f, b01_t] at hb1 <;> simp (disch := first | omega | assumption) only [↓bd_rt, ↓bd_bd, ↓bd_ite, ↓bd_jn, ↓jn_ap, ↓ite_ap, ↓bd_gI1, ↓bd_pI1, ↓bd_gR1, ↓bd_pR1, ↓bd_gM, rt_ap, ↓reduceIte, iN_div, iN_divL, iN_add, iN_mul, iN_addL, iN_Ladd, iN_mulL, iN_Lmul, iN_subL, iN_sub, iN_le_T, iN_le_F, iN_lt_T, iN_lt_F, iN_eq_F, iN_leL_T, iN_leL_F, iN_Lle_T, iN_Lle_F, iN_ltL_T, iN_ltL_F, iN_Llt_T, iN_Llt_F, iN_eqL_T, iN_eqL_F, iN_m1, m1_iN, iN_le_m1, m1_le_iN, iN_neg, iN_pos, i10, i01, i00, i11, u3_op, u3_or, u3_same, pup_eq, pup_ne, ↓bd_gC hbn (show 5 < φ.2.1 4 (bnum cp h) by omega), ↓rI150, hb1] <;> simp [c1]
    · simp (disch := first | omega | assumption) only [↓bd_rt, ↓bd_bd, ↓bd_ite, ↓bd_jn, ↓jn_ap, ↓ite_ap, ↓bd_gI1, ↓bd_pI1, ↓bd_gR1, ↓bd_pR1, ↓bd_gM, rt_ap, ↓reduceIte, iN_div, iN_divL, iN_add, iN_mul, iN_addL, iN_Ladd, iN_mulL, iN_Lmul, iN_subL, iN_sub, iN_le_T, iN_le_F, iN_lt_T, iN_lt_F, iN_eq_F, iN_leL_T, iN_leL_F, iN_Lle_T, iN_Lle_F, iN_ltL_T, iN_ltL_F, iN_Llt_T, iN_Llt_F, iN_eqL_T, iN_eqL_F, iN_m1, m1_iN, iN_le_m1, m1_le_iN, iN_neg, iN_pos, i10, i01, i00, i11, u3_op, u3_or, u3_same, pup_eq, pup_ne]
      simp [c1]
  refine (bd_of (a := g3S c b h k) (S1 := S) ?_).trans ?_
  · unfold g3S
    by_cases c1 : 0 < k / c.wd h
    · have hwk : c.wd h ≤ k := by
        have := Nat.mul_le_mul_right (c.wd h) c1
        omega
      have hb1 := hB h (k - c.wd h) hh (by omega)
      cases q : brn c b h (k - c.wd h) <;> simp only [q, b01_f, b01_t] at hb1
      · simp (disch := first | omega | assumption) only [↓bd_rt, ↓bd_bd, ↓bd_ite, ↓bd_jn, ↓jn_ap, ↓ite_ap, ↓bd_gI1, ↓bd_pI1, ↓bd_gR1, ↓bd_pR1, ↓bd_gM, rt_ap, ↓reduceIte, iN_div, iN_divL, iN_add, iN_mul, iN_addL, iN_Ladd, iN_mulL, iN_Lmul, iN_subL, iN_sub, iN_le_T, iN_le_F, iN_lt_T, iN_lt_F, iN_eq_F, iN_leL_T, iN_leL_F, iN_Lle_T, iN_Lle_F, iN_ltL_T, iN_ltL_F, iN_Llt_T, iN_Llt_F, iN_eqL_T, iN_eqL_F, iN_m1, m1_iN, iN_le_m1, m1_le_iN, iN_neg, iN_pos, i10, i01, i00, i11, u3_op, u3_or, u3_same, pup_eq, pup_ne, ↓bd_gC hbn (show 5 < φ.2.1 4 (bnum cp h) by omega), ↓rI150, ↓bd_gI, hR.wd h hh, hb1]
        simp [c1]
      · by_cases c2 : iN (k % c.wd h) = c.sh h
        · simp (disch := first | omega | assumption) only [↓bd_rt, ↓bd_bd, ↓bd_ite, ↓bd_jn, ↓jn_ap, ↓ite_ap, ↓bd_gI1, ↓bd_pI1, ↓bd_gR1, ↓bd_pR1, ↓bd_gM, rt_ap, ↓reduceIte, iN_div, iN_divL, iN_add, iN_mul, iN_addL, iN_Ladd, iN_mulL, iN_Lmul, iN_subL, iN_sub, iN_le_T, iN_le_F, iN_lt_T, iN_lt_F, iN_eq_F, iN_leL_T, iN_leL_F, iN_Lle_T, iN_Lle_F, iN_ltL_T, iN_ltL_F, iN_Llt_T, iN_Llt_F, iN_eqL_T, iN_eqL_F, iN_m1, m1_iN, iN_le_m1, m1_le_iN, iN_neg, iN_pos, i10, i01, i00, i11, u3_op, u3_or, u3_same, pup_eq, pup_ne, ↓bd_gC hbn (show 5 < φ.2.1 4 (bnum cp h) by omega), ↓rI150, ↓bd_gI, hR.wd h hh, hR.sh h hh, hb1, c2, if_true]
          simp [c1]
        · simp (disch := first | omega | assumption) only [↓bd_rt, ↓bd_bd, ↓bd_ite, ↓bd_jn, ↓jn_ap, ↓ite_ap, ↓bd_gI1, ↓bd_pI1, ↓bd_gR1, ↓bd_pR1, ↓bd_gM, rt_ap, ↓reduceIte, iN_div, iN_divL, iN_add, iN_mul, iN_addL, iN_Ladd, iN_mulL, iN_Lmul, iN_subL, iN_sub, iN_le_T, iN_le_F, iN_lt_T, iN_lt_F, iN_eq_F, iN_leL_T, iN_leL_F, iN_Lle_T, iN_Lle_F, iN_ltL_T, iN_ltL_F, iN_Llt_T, iN_Llt_F, iN_eqL_T, iN_eqL_F, iN_m1, m1_iN, iN_le_m1, m1_le_iN, iN_neg, iN_pos, i10, i01, i00, i11, u3_op, u3_or, u3_same, pup_eq, pup_ne, ↓bd_gC hbn (show 5 < φ.2.1 4 (bnum cp h) by omega), ↓rI150, ↓bd_gI, hR.wd h hh, hR.sh h hh, hb1, if_neg c2]
          simp [c1, c2]
    · simp (disch := first | omega | assumption) only [↓bd_rt, ↓bd_bd, ↓bd_ite, ↓bd_jn, ↓jn_ap, ↓ite_ap, ↓bd_gI1, ↓bd_pI1, ↓bd_gR1, ↓bd_pR1, ↓bd_gM, rt_ap, ↓reduceIte, iN_div, iN_divL, iN_add, iN_mul, iN_addL, iN_Ladd, iN_mulL, iN_Lmul, iN_subL, iN_sub, iN_le_T, iN_le_F, iN_lt_T, iN_lt_F, iN_eq_F, iN_leL_T, iN_leL_F, iN_Lle_T, iN_Lle_F, iN_ltL_T, iN_ltL_F, iN_Llt_T, iN_Llt_F, iN_eqL_T, iN_eqL_F, iN_m1, m1_iN, iN_le_m1, m1_le_iN, iN_neg, iN_pos, i10, i01, i00, i11, u3_op, u3_or, u3_same, pup_eq, pup_ne]
      simp [c1]
  simp (disch := first | omega | assumption) only [↓bd_rt, ↓bd_bd, ↓bd_jn, ↓jn_ap, ↓bd_gI1, ↓bd_pI1, ↓bd_gR1, ↓bd_pR1, ↓bd_gM, rt_ap, ↓reduceIte, iN_div, iN_divL, iN_add, iN_mul, iN_addL, iN_Ladd, iN_mulL, iN_Lmul, iN_subL, iN_sub, iN_le_T, iN_le_F, iN_lt_T, iN_lt_F, iN_eq_F, iN_leL_T, iN_leL_F, iN_Lle_T, iN_Lle_F, iN_ltL_T, iN_ltL_F, iN_Llt_T, iN_Llt_F, iN_eqL_T, iN_eqL_F, iN_m1, m1_iN, iN_le_m1, m1_le_iN, iN_neg, iN_pos, i10, i01, i00, i11, u3_op, u3_or, u3_same, pup_eq, pup_ne, ↓bd_gI, hR.fl h hh]
  refine (bd_of (a := g4S c b h k) (S1 := S) ?_).trans ?_
  · unfold g4S
    by_cases c1 : k / c.wd h + 1 < c.fl h
    · have hlt : k + c.wd h < c.fl h * c.wd h := by
        have := fw_lt w hh c1 hmod
        rw [Nat.succ_mul, Nat.mul_comm] at this
        omega
      have hb1 := hB h (k + c.wd h) hh hlt
      cases q : brn c b h (k + c.wd h) <;> simp only [q, b01_f, b01_t] at hb1 <;> simp (disch := first | omega | assumption) only [↓bd_rt, ↓bd_bd, ↓bd_ite, ↓bd_jn, ↓jn_ap, ↓ite_ap, ↓bd_gI1, ↓bd_pI1, ↓bd_gR1, ↓bd_pR1, ↓bd_gM, rt_ap, ↓reduceIte, iN_div, iN_divL, iN_add, iN_mul, iN_addL, iN_Ladd, iN_mulL, iN_Lmul, iN_subL, iN_sub, iN_le_T, iN_le_F, iN_lt_T, iN_lt_F, iN_eq_F, iN_leL_T, iN_leL_F, iN_Lle_T, iN_Lle_F, iN_ltL_T, iN_ltL_F, iN_Llt_T, iN_Llt_F, iN_eqL_T, iN_eqL_F, iN_m1, m1_iN, iN_le_m1, m1_le_iN, iN_neg, iN_pos, i10, i01, i00, i11, u3_op, u3_or, u3_same, pup_eq, pup_ne, ↓bd_gC hbn (show 5 < φ.2.1 4 (bnum cp h) by omega), ↓rI150, ↓bd_gI, hR.wd h hh, hb1] <;> simp [c1]
    · simp (disch := first | omega | assumption) only [↓bd_rt, ↓bd_bd, ↓bd_ite, ↓bd_jn, ↓jn_ap, ↓ite_ap, ↓bd_gI1, ↓bd_pI1, ↓bd_gR1, ↓bd_pR1, ↓bd_gM, rt_ap, ↓reduceIte, iN_div, iN_divL, iN_add, iN_mul, iN_addL, iN_Ladd, iN_mulL, iN_Lmul, iN_subL, iN_sub, iN_le_T, iN_le_F, iN_lt_T, iN_lt_F, iN_eq_F, iN_leL_T, iN_leL_F, iN_Lle_T, iN_Lle_F, iN_ltL_T, iN_ltL_F, iN_Llt_T, iN_Llt_F, iN_eqL_T, iN_eqL_F, iN_m1, m1_iN, iN_le_m1, m1_le_iN, iN_neg, iN_pos, i10, i01, i00, i11, u3_op, u3_or, u3_same, pup_eq, pup_ne]
      simp [c1]
  have b1 : p_X1_beside (iN h) (-1) φ S = some (besS c h false, S) := sp_X1_beside w hφ hR hh false
  have b2 : p_X1_beside (iN h) 1 φ S = some (besS c h true, S) := sp_X1_beside w hφ hR hh true
  have g1 := sp_X1_gainBy w hR hB hh bl1 (f := k / c.wd h) (by omega)
  have g2 := sp_X1_gainBy w hR hB hh bl2 (f := k / c.wd h) (by omega)
  rw [bd_of b1, bd_of g1, bd_of b2, bd_of g2, bd_gC hbn (show 2 < φ.2.1 4 (bnum cp h) by omega), rI147 hbn (by omega), rt_ap, hwt]
  rfl
theorem sp_X3_gain {c : CHo} (w : c.WF) {b : CBz} {φ : amSh} {S : amSt} (hφ : φ.1 255 ≠ 0) (hR : RMho c S) (hb : RMbz b S) {h k : Nat} (hh : h < c.n) (hk : k < c.fl h * c.wd h) : p_X3_gain (iN h) (iN k) φ S = some (gainS c b h k, S) := by
  have hn := w.hn
  have hfl := w.fl h hh
  have hwd := w.wd h hh
  have hfw := w.fw hh
  have hdv := w.dv hh hk
  have hmod : k % c.wd h < c.wd h := Nat.mod_lt _ (by omega)
  have hmd := Nat.div_add_mod k (c.wd h)
  have em2 : iN (k - k / c.wd h * c.wd h) = iN (k % c.wd h) := by
    congr 1
    rw [Nat.mul_comm]; omega
  have hdm : k / c.wd h * c.wd h ≤ k := Nat.div_mul_le_self k (c.wd h)
  have bl1 := besS_le (c := c) (up := false) hh
  have bl2 := besS_le (c := c) (up := true) hh
  have hB : ∀ k', k' < c.fl h * c.wd h → p_X3_burns (iN h) (iN k') φ S = some (b01 (brn c b h k'), S) := fun k' hk' => sp_X3_burns w hφ hR hb hh hk'
  unfold p_X3_gain
  simp (disch := first | omega | assumption) only [↓bd_rt, ↓bd_bd, ↓bd_jn, ↓jn_ap, ↓bd_gI1, ↓bd_pI1, ↓bd_gR1, ↓bd_pR1, ↓bd_gM, rt_ap, ↓reduceIte, iN_div, iN_divL, iN_add, iN_mul, iN_addL, iN_Ladd, iN_mulL, iN_Lmul, iN_subL, iN_sub, iN_le_T, iN_le_F, iN_lt_T, iN_lt_F, iN_eq_F, iN_leL_T, iN_leL_F, iN_Lle_T, iN_Lle_F, iN_ltL_T, iN_ltL_F, iN_Llt_T, iN_Llt_F, iN_eqL_T, iN_eqL_F, iN_m1, m1_iN, iN_le_m1, m1_le_iN, iN_neg, iN_pos, i10, i01, i00, i11, u3_op, u3_or, u3_same, pup_eq, pup_ne, ↓rI65_1, hR.wd h hh, ↓bd_of (sp_X3_floorOf w hφ hR hh (k := k) (by omega)), ↓bd_nz, ↓bd_of (hB k hk)]
  rw [em2]
  refine (bd_of (a := g0S c b h k) (S1 := S) ?_).trans ?_
  · unfold g0S
    cases q : brn c b h k <;> simp (disch := first | omega | assumption) only [↓bd_rt, ↓bd_bd, ↓bd_ite, ↓bd_jn, ↓jn_ap, ↓ite_ap, ↓bd_gI1, ↓bd_pI1, ↓bd_gR1, ↓bd_pR1, ↓bd_gM, rt_ap, ↓reduceIte, iN_div, iN_divL, iN_add, iN_mul, iN_addL, iN_Ladd, iN_mulL, iN_Lmul, iN_subL, iN_sub, iN_le_T, iN_le_F, iN_lt_T, iN_lt_F, iN_eq_F, iN_leL_T, iN_leL_F, iN_Lle_T, iN_Lle_F, iN_ltL_T, iN_ltL_F, iN_Llt_T, iN_Llt_F, iN_eqL_T, iN_eqL_F, iN_m1, m1_iN, iN_le_m1, m1_le_iN, iN_neg, iN_pos, i10, i01, i00, i11, u3_op, u3_or, u3_same, pup_eq, pup_ne, b01_f, b01_t] <;> rfl
  simp (disch := first | omega | assumption) only [↓bd_rt, ↓bd_bd, ↓bd_jn, ↓jn_ap, ↓bd_gI1, ↓bd_pI1, ↓bd_gR1, ↓bd_pR1, ↓bd_gM, rt_ap, ↓reduceIte, iN_div, iN_divL, iN_add, iN_mul, iN_addL, iN_Ladd, iN_mulL, iN_Lmul, iN_subL, iN_sub, iN_le_T, iN_le_F, iN_lt_T, iN_lt_F, iN_eq_F, iN_leL_T, iN_leL_F, iN_Lle_T, iN_Lle_F, iN_ltL_T, iN_ltL_F, iN_Llt_T, iN_Llt_F, iN_eqL_T, iN_eqL_F, iN_m1, m1_iN, iN_le_m1, m1_le_iN, iN_neg, iN_pos, i10, i01, i00, i11, u3_op, u3_or, u3_same, pup_eq, pup_ne, ↓rI73_1, hR.dr h (by omega)]
  refine (bd_of (a := sdS c h) (S1 := S) ?_).trans ?_
  · unfold sdS
    rw [ite_ap]; split <;> rfl
  refine (bd_of (a := g1S c b h k) (S1 := S) ?_).trans ?_
  · unfold g1S
    by_cases c1 : 0 < k % c.wd h
    · have hb1 := hB (k - 1) (by omega)
      cases q : brn c b h (k - 1) <;> simp only [q, b01_f, b01_t] at hb1 <;> simp (disch := first | omega | assumption) only [↓bd_rt, ↓bd_bd, ↓bd_ite, ↓bd_jn, ↓jn_ap, ↓ite_ap, ↓bd_gI1, ↓bd_pI1, ↓bd_gR1, ↓bd_pR1, ↓bd_gM, rt_ap, ↓reduceIte, iN_div, iN_divL, iN_add, iN_mul, iN_addL, iN_Ladd, iN_mulL, iN_Lmul, iN_subL, iN_sub, iN_le_T, iN_le_F, iN_lt_T, iN_lt_F, iN_eq_F, iN_leL_T, iN_leL_F, iN_Lle_T, iN_Lle_F, iN_ltL_T, iN_ltL_F, iN_Llt_T, iN_Llt_F, iN_eqL_T, iN_eqL_F, iN_m1, m1_iN, iN_le_m1, m1_le_iN, iN_neg, iN_pos, i10, i01, i00, i11, u3_op, u3_or, u3_same, pup_eq, pup_ne, show 1 ≤ k from Nat.le_trans c1 (Nat.mod_le _ _), ↓bd_of hb1] <;> simp [c1]
    · simp (disch := first | omega | assumption) only [↓bd_rt, ↓bd_bd, ↓bd_ite, ↓bd_jn, ↓jn_ap, ↓ite_ap, ↓bd_gI1, ↓bd_pI1, ↓bd_gR1, ↓bd_pR1, ↓bd_gM, rt_ap, ↓reduceIte, iN_div, iN_divL, iN_add, iN_mul, iN_addL, iN_Ladd, iN_mulL, iN_Lmul, iN_subL, iN_sub, iN_le_T, iN_le_F, iN_lt_T, iN_lt_F, iN_eq_F, iN_leL_T, iN_leL_F, iN_Lle_T, iN_Lle_F, iN_ltL_T, iN_ltL_F, iN_Llt_T, iN_Llt_F, iN_eqL_T, iN_eqL_F, iN_m1, m1_iN, iN_le_m1, m1_le_iN, iN_neg, iN_pos, i10, i01, i00, i11, u3_op, u3_or, u3_same, pup_eq, pup_ne]
      simp [c1]
  refine (bd_of (a := g2S c b h k) (S1 := S) ?_).trans ?_
  · unfold g2S
    by_cases c1 : k % c.wd h + 1 < c.wd h
    · have hlt : k + 1 < c.fl h * c.wd h := by
        have := fw_lt w hh hdv (r := k % c.wd h + 1) c1
        rw [Nat.mul_comm] at this
        omega
      have hb1 := hB (k + 1) hlt
      cases q : brn c b h (k + 1) <;> simp only [q, b01_f, b01_t] at hb1 <;> simp (disch := first | omega | assumption) only [↓bd_rt, ↓bd_bd, ↓bd_ite, ↓bd_jn, ↓jn_ap, ↓ite_ap, ↓bd_gI1, ↓bd_pI1, ↓bd_gR1, ↓bd_pR1, ↓bd_gM, rt_ap, ↓reduceIte, iN_div, iN_divL, iN_add, iN_mul, iN_addL, iN_Ladd, iN_mulL, iN_Lmul, iN_subL, iN_sub, iN_le_T, iN_le_F, iN_lt_T, iN_lt_F, iN_eq_F, iN_leL_T, iN_leL_F, iN_Lle_T, iN_Lle_F, iN_ltL_T, iN_ltL_F, iN_Llt_T, iN_Llt_F, iN_eqL_T, iN_eqL_F, iN_m1, m1_iN, iN_le_m1, m1_le_iN, iN_neg, iN_pos, i10, i01, i00, i11, u3_op, u3_or, u3_same, pup_eq, pup_ne, ↓bd_of hb1] <;> simp [c1]
    · simp (disch := first | omega | assumption) only [↓bd_rt, ↓bd_bd, ↓bd_ite, ↓bd_jn, ↓jn_ap, ↓ite_ap, ↓bd_gI1, ↓bd_pI1, ↓bd_gR1, ↓bd_pR1, ↓bd_gM, rt_ap, ↓reduceIte, iN_div, iN_divL, iN_add, iN_mul, iN_addL, iN_Ladd, iN_mulL, iN_Lmul, iN_subL, iN_sub, iN_le_T, iN_le_F, iN_lt_T, iN_lt_F, iN_eq_F, iN_leL_T, iN_leL_F, iN_Lle_T, iN_Lle_F, iN_ltL_T, iN_ltL_F, iN_Llt_T, iN_Llt_F, iN_eqL_T, iN_eqL_F, iN_m1, m1_iN, iN_le_m1, m1_le_iN, iN_neg, iN_pos, i10, i01, i00, i11, u3_op, u3_or, u3_same, pup_eq, pup_ne]
      simp [c1]
  refine (bd_of (a := g3S c b h k) (S1 := S) ?_).trans ?_
  · unfold g3S
    by_cases c1 : 0 < k / c.wd h
    · have hwk : c.wd h ≤ k := by
        have := Nat.mul_le_mul_right (c.wd h) c1
        omega
      have hb1 := hB (k - c.wd h) (by omega)
      cases q : brn c b h (k - c.wd h) <;> simp only [q, b01_f, b01_t] at hb1
      · simp (disch := first | omega | assumption) only [↓bd_rt, ↓bd_bd, ↓bd_ite, ↓bd_jn, ↓jn_ap, ↓ite_ap, ↓bd_gI1, ↓bd_pI1, ↓bd_gR1, ↓bd_pR1, ↓bd_gM, rt_ap, ↓reduceIte, iN_div, iN_divL, iN_add, iN_mul, iN_addL, iN_Ladd, iN_mulL, iN_Lmul, iN_subL, iN_sub, iN_le_T, iN_le_F, iN_lt_T, iN_lt_F, iN_eq_F, iN_leL_T, iN_leL_F, iN_Lle_T, iN_Lle_F, iN_ltL_T, iN_ltL_F, iN_Llt_T, iN_Llt_F, iN_eqL_T, iN_eqL_F, iN_m1, m1_iN, iN_le_m1, m1_le_iN, iN_neg, iN_pos, i10, i01, i00, i11, u3_op, u3_or, u3_same, pup_eq, pup_ne, ↓bd_of hb1]
        simp [c1]
      · by_cases c2 : iN (k % c.wd h) = c.sh h
        · simp (disch := first | omega | assumption) only [↓bd_rt, ↓bd_bd, ↓bd_ite, ↓bd_jn, ↓jn_ap, ↓ite_ap, ↓bd_gI1, ↓bd_pI1, ↓bd_gR1, ↓bd_pR1, ↓bd_gM, rt_ap, ↓reduceIte, iN_div, iN_divL, iN_add, iN_mul, iN_addL, iN_Ladd, iN_mulL, iN_Lmul, iN_subL, iN_sub, iN_le_T, iN_le_F, iN_lt_T, iN_lt_F, iN_eq_F, iN_leL_T, iN_leL_F, iN_Lle_T, iN_Lle_F, iN_ltL_T, iN_ltL_F, iN_Llt_T, iN_Llt_F, iN_eqL_T, iN_eqL_F, iN_m1, m1_iN, iN_le_m1, m1_le_iN, iN_neg, iN_pos, i10, i01, i00, i11, u3_op, u3_or, u3_same, pup_eq, pup_ne, ↓bd_of hb1, ↓rI66_1, hR.sh h hh, c2, if_true]
          simp [c1]
        · simp (disch := first | omega | assumption) only [↓bd_rt, ↓bd_bd, ↓bd_ite, ↓bd_jn, ↓jn_ap, ↓ite_ap, ↓bd_gI1, ↓bd_pI1, ↓bd_gR1, ↓bd_pR1, ↓bd_gM, rt_ap, ↓reduceIte, iN_div, iN_divL, iN_add, iN_mul, iN_addL, iN_Ladd, iN_mulL, iN_Lmul, iN_subL, iN_sub, iN_le_T, iN_le_F, iN_lt_T, iN_lt_F, iN_eq_F, iN_leL_T, iN_leL_F, iN_Lle_T, iN_Lle_F, iN_ltL_T, iN_ltL_F, iN_Llt_T, iN_Llt_F, iN_eqL_T, iN_eqL_F, iN_m1, m1_iN, iN_le_m1, m1_le_iN, iN_neg, iN_pos, i10, i01, i00, i11, u3_op, u3_or, u3_same, pup_eq, pup_ne, ↓bd_of hb1, ↓rI66_1, hR.sh h hh, if_neg c2]
          simp [c1, c2]
    · simp (disch := first | omega | assumption) only [↓bd_rt, ↓bd_bd, ↓bd_ite, ↓bd_jn, ↓jn_ap, ↓ite_ap, ↓bd_gI1, ↓bd_pI1, ↓bd_gR1, ↓bd_pR1, ↓bd_gM, rt_ap, ↓reduceIte, iN_div, iN_divL, iN_add, iN_mul, iN_addL, iN_Ladd, iN_mulL, iN_Lmul, iN_subL, iN_sub, iN_le_T, iN_le_F, iN_lt_T, iN_lt_F, iN_eq_F, iN_leL_T, iN_leL_F, iN_Lle_T, iN_Lle_F, iN_ltL_T, iN_ltL_F, iN_Llt_T, iN_Llt_F, iN_eqL_T, iN_eqL_F, iN_m1, m1_iN, iN_le_m1, m1_le_iN, iN_neg, iN_pos, i10, i01, i00, i11, u3_op, u3_or, u3_same, pup_eq, pup_ne]
      simp [c1]
  simp (disch := first | omega | assumption) only [↓bd_rt, ↓bd_bd, ↓bd_jn, ↓jn_ap, ↓bd_gI1, ↓bd_pI1, ↓bd_gR1, ↓bd_pR1, ↓bd_gM, rt_ap, ↓reduceIte, iN_div, iN_divL, iN_add, iN_mul, iN_addL, iN_Ladd, iN_mulL, iN_Lmul, iN_subL, iN_sub, iN_le_T, iN_le_F, iN_lt_T, iN_lt_F, iN_eq_F, iN_leL_T, iN_leL_F, iN_Lle_T, iN_Lle_F, iN_ltL_T, iN_ltL_F, iN_Llt_T, iN_Llt_F, iN_eqL_T, iN_eqL_F, iN_m1, m1_iN, iN_le_m1, m1_le_iN, iN_neg, iN_pos, i10, i01, i00, i11, u3_op, u3_or, u3_same, pup_eq, pup_ne, ↓rI64_1, hR.fl h hh]
  refine (bd_of (a := g4S c b h k) (S1 := S) ?_).trans ?_
  · unfold g4S
    by_cases c1 : k / c.wd h + 1 < c.fl h
    · have hlt : k + c.wd h < c.fl h * c.wd h := by
        have := fw_lt w hh c1 hmod
        rw [Nat.succ_mul, Nat.mul_comm] at this
        omega
      have hb1 := hB (k + c.wd h) hlt
      cases q : brn c b h (k + c.wd h) <;> simp only [q, b01_f, b01_t] at hb1 <;> simp (disch := first | omega | assumption) only [↓bd_rt, ↓bd_bd, ↓bd_ite, ↓bd_jn, ↓jn_ap, ↓ite_ap, ↓bd_gI1, ↓bd_pI1, ↓bd_gR1, ↓bd_pR1, ↓bd_gM, rt_ap, ↓reduceIte, iN_div, iN_divL, iN_add, iN_mul, iN_addL, iN_Ladd, iN_mulL, iN_Lmul, iN_subL, iN_sub, iN_le_T, iN_le_F, iN_lt_T, iN_lt_F, iN_eq_F, iN_leL_T, iN_leL_F, iN_Lle_T, iN_Lle_F, iN_ltL_T, iN_ltL_F, iN_Llt_T, iN_Llt_F, iN_eqL_T, iN_eqL_F, iN_m1, m1_iN, iN_le_m1, m1_le_iN, iN_neg, iN_pos, i10, i01, i00, i11, u3_op, u3_or, u3_same, pup_eq, pup_ne, ↓bd_of hb1] <;> simp [c1]
    · simp (disch := first | omega | assumption) only [↓bd_rt, ↓bd_bd, ↓bd_ite, ↓bd_jn, ↓jn_ap, ↓ite_ap, ↓bd_gI1, ↓bd_pI1, ↓bd_gR1, ↓bd_pR1, ↓bd_gM, rt_ap, ↓reduceIte, iN_div, iN_divL, iN_add, iN_mul, iN_addL, iN_Ladd, iN_mulL, iN_Lmul, iN_subL, iN_sub, iN_le_T, iN_le_F, iN_lt_T, iN_lt_F, iN_eq_F, iN_leL_T, iN_leL_F, iN_Lle_T, iN_Lle_F, iN_ltL_T, iN_ltL_F, iN_Llt_T, iN_Llt_F, iN_eqL_T, iN_eqL_F, iN_m1, m1_iN, iN_le_m1, m1_le_iN, iN_neg, iN_pos, i10, i01, i00, i11, u3_op, u3_or, u3_same, pup_eq, pup_ne]
      simp [c1]
  have b1 : p_X3_beside (iN h) (-1) φ S = some (oW (besS c h false), S) := sp_X3_beside w hφ hR hh false
  have b2 : p_X3_beside (iN h) 1 φ S = some (oW (besS c h true), S) := sp_X3_beside w hφ hR hh true
  have g1 := sp_X3_fromBeside w hφ hR hb hh bl1 (f := k / c.wd h) (by omega)
  have g2 := sp_X3_fromBeside w hφ hR hb hh bl2 (f := k / c.wd h) (by omega)
  rw [bd_of b1, bd_of g1, bd_of b2, bd_of g2, bd_rt]
  simp (disch := first | omega | assumption) only [↓bd_rt, ↓bd_bd, ↓bd_ite, ↓bd_jn, ↓jn_ap, ↓ite_ap, ↓bd_gI1, ↓bd_pI1, ↓bd_gR1, ↓bd_pR1, ↓bd_gM, rt_ap, ↓reduceIte, iN_div, iN_divL, iN_add, iN_mul, iN_addL, iN_Ladd, iN_mulL, iN_Lmul, iN_subL, iN_sub, iN_le_T, iN_le_F, iN_lt_T, iN_lt_F, iN_eq_F, iN_leL_T, iN_leL_F, iN_Lle_T, iN_Lle_F, iN_ltL_T, iN_ltL_F, iN_Llt_T, iN_Llt_F, iN_eqL_T, iN_eqL_F, iN_m1, m1_iN, iN_le_m1, m1_le_iN, iN_neg, iN_pos, i10, i01, i00, i11, u3_op, u3_or, u3_same, pup_eq, pup_ne, ↓rI76_1, hb.water (24 * h + k) (by omega)]
  unfold gainS
  rw [Int32.add_assoc, iN_add]
