/-! PURE: the operations on notes -/
def usedOp (c : CNo) (ho : CHo) (now : Nat) (a1 a2 : Int32) : Int32 := if inN a1 ho.n then if out a2 0 (iN now) then -1 else useS c ho a1.toNatClampNeg a2 else -1
theorem sp_X1_isAsked {ho : CHo} (wh : ho.WF) {φ : amSh} {S : amSt} (hH : RCho ho φ S) {now : Nat} (hw : S.1 0 1 0 = iN now) {a1 a2 : Int32} : p_X1_isAsked a1 a2 φ S = some (if inN a1 ho.n then (if out a2 0 (iN now) then 0 else 1) else 0, S) := by
  unfold p_X1_isAsked
  rw [bd_of (sp_X1_isHouse wh hH), jn_ap]
  by_cases h1 : inN a1 ho.n
  · rw [ip h1, if_neg (by decide), if_pos h1, bd_gI1, hw, bd_of sp_X1_in]
    by_cases h2 : out a2 0 (iN now)
    · rw [if_pos h2, if_pos rfl]; rfl
    · rw [if_neg h2, if_neg (by decide), rt_ap]
  · rw [iq h1, if_pos rfl, if_neg h1]; rfl
theorem op_X1_used {c : CNo} (hn : c.n ≤ 100) {ho : CHo} (wh : ho.WF) {φ : amSh} {S : amSt} (hφ : φ.1 255 ≠ 0) (hN : RCno c S) (hH : RCho ho φ S) {now : Nat} (hw : S.1 0 1 0 = iN now) {a1 a2 : Int32} : p_X1_used a1 a2 φ S = some (usedOp c ho now a1 a2, S) := by
  have hhn := wh.hn
  unfold p_X1_used usedOp
  rw [bd_of (sp_X1_isAsked wh hH hw)]
  by_cases h1 : inN a1 ho.n
  · rw [if_pos h1, if_pos h1]
    by_cases h2 : out a2 0 (iN now)
    · rw [if_pos h2, if_pos h2, if_pos rfl, rt_ap]
    · obtain ⟨x, hx, rfl⟩ := h1.ex (by omega)
      rw [if_neg h2, if_neg h2, if_neg (by decide), bd_of (sp_X1_usedAt hn wh hφ hN hH hx), rt_ap, iN_nat (by omega)]
  · rw [if_neg h1, if_neg h1, if_pos rfl, rt_ap]
theorem op_X3_used {c : CNo} (hn : c.n ≤ 100) {ho : CHo} (wh : ho.WF) {φ : amSh} {S : amSt} (hφ : φ.1 255 ≠ 0) (hN0 : RMno c S) (hH0 : RMho ho S) {now : Nat} (hw0 : S.1 1 1 1 = iN now) {a1 a2 : Int32} : p_X3_used a1 a2 φ S = some (usedOp c ho now a1 a2, (u3 S.1 1 1 0 0, S.2)) := by
  have hhn := wh.hn
  have hN := hN0.fr th0 (by decide)
  have hH := hH0.fr th0 (by decide)
  have hw : (u3 S.1 1 1 0 0, S.2).1 1 1 1 = iN now := (th0.i 1 1 1 (by decide)).trans hw0
  unfold p_X3_used usedOp
  rw [bd_pI1, bd_of (sp_X3_isHouse hH), jn_ap]
  by_cases h1 : inN a1 ho.n
  · rw [ip h1, if_neg (by decide), if_pos h1, bd_gI1, hw, bd_of sp_X3_isIn]
    by_cases h2 : out a2 0 (iN now)
    · rw [jp h2, if_pos rfl, if_pos h2]; rfl
    · obtain ⟨x, hx, rfl⟩ := h1.ex (by omega)
      rw [jq h2, if_neg (by decide), if_neg h2, bd_of (sp_X3_useOf hn wh hφ hN hH hx), rt_ap, iN_nat (by omega)]
  · rw [iq h1, if_pos rfl, if_neg h1]; rfl
def noteS (c : CNo) (h u f : Int32) (now : Nat) : Int32 × CNo := if c.n = 100 then (0, c) else (1, CNo.mk (c.n + 1) (pup c.hs c.n h) (pup c.us c.n u) (pup c.frm c.n f) (pup c.td c.n (iN now)))
theorem noteS_n {c : CNo} (hn : c.n ≤ 100) {h u f : Int32} {now : Nat} : (noteS c h u f now).2.n ≤ 100 := by
  unfold noteS
  split
  · exact hn
  · show c.n + 1 ≤ 100; omega
theorem sp_X1_note {c : CNo} (hn : c.n ≤ 100) {φ : amSh} {S : amSt} (hφ : φ.1 255 ≠ 0) (hN : RCno c S) {now : Nat} (hw : S.1 0 1 0 = iN now) {h u f : Int32} : Rs (fun v S' => v = (noteS c h u f now).1 ∧ RCno (noteS c h u f now).2 S') (p_X1_note h u f φ S) := by
  unfold p_X1_note noteS
  by_cases e : c.n = 100
  · rw [if_pos e]
    simp (disch := first | omega | assumption) only [↓bd_rt, ↓bd_bd, ↓bd_ite, ↓bd_jn, ↓jn_ap, ↓ite_ap, ↓bd_gI1, ↓bd_pI1, ↓bd_gR1, ↓bd_pR1, ↓bd_gM, rt_ap, ↓reduceIte, iN_div, iN_divL, iN_add, iN_mul, iN_addL, iN_Ladd, iN_mulL, iN_Lmul, iN_subL, iN_sub, iN_le_T, iN_le_F, iN_lt_T, iN_lt_F, iN_eq_F, iN_leL_T, iN_leL_F, iN_Lle_T, iN_Lle_F, iN_ltL_T, iN_ltL_F, iN_Llt_T, iN_Llt_F, iN_eqL_T, iN_eqL_F, iN_m1, m1_iN, iN_le_m1, m1_le_iN, iN_neg, iN_pos, i10, i01, i00, i11, u3_op, u3_or, u3_same, pup_eq, pup_ne, hN.n]
    exact Rs.mk ⟨rfl, hN⟩
  · rw [if_neg e]
    simp (disch := first | omega | assumption) only [↓bd_rt, ↓bd_bd, ↓bd_ite, ↓bd_jn, ↓jn_ap, ↓ite_ap, ↓bd_gI1, ↓bd_pI1, ↓bd_gR1, ↓bd_pR1, ↓bd_gM, rt_ap, ↓reduceIte, iN_div, iN_divL, iN_add, iN_mul, iN_addL, iN_Ladd, iN_mulL, iN_Lmul, iN_subL, iN_sub, iN_le_T, iN_le_F, iN_lt_T, iN_lt_F, iN_eq_F, iN_leL_T, iN_leL_F, iN_Lle_T, iN_Lle_F, iN_ltL_T, iN_ltL_F, iN_Llt_T, iN_Llt_F, iN_eqL_T, iN_eqL_F, iN_m1, m1_iN, iN_le_m1, m1_le_iN, iN_neg, iN_pos, i10, i01, i00, i11, u3_op, u3_or, u3_same, pup_eq, pup_ne, hN.n, ↓wI38_1, ↓wI39_1, ↓wI40_1, ↓wI41_1, hw]
    refine Rs.mk ⟨rfl, RCno.mk ?_ ?_ ?_ ?_ ?_⟩
    · simp (disch := first | omega | assumption) only [↓bd_rt, ↓bd_bd, ↓bd_ite, ↓bd_jn, ↓jn_ap, ↓ite_ap, ↓bd_gI1, ↓bd_pI1, ↓bd_gR1, ↓bd_pR1, ↓bd_gM, rt_ap, ↓reduceIte, iN_div, iN_divL, iN_add, iN_mul, iN_addL, iN_Ladd, iN_mulL, iN_Lmul, iN_subL, iN_sub, iN_le_T, iN_le_F, iN_lt_T, iN_lt_F, iN_eq_F, iN_leL_T, iN_leL_F, iN_Lle_T, iN_Lle_F, iN_ltL_T, iN_ltL_F, iN_Llt_T, iN_Llt_F, iN_eqL_T, iN_eqL_F, iN_m1, m1_iN, iN_le_m1, m1_le_iN, iN_neg, iN_pos, i10, i01, i00, i11, u3_op, u3_or, u3_same, pup_eq, pup_ne]; rfl
    · intro k hk; show _ = pup c.hs c.n h k; have hk : k < c.n + 1 := hk; by_cases z : k = c.n
      · subst z; simp [u3, pup]
      · rw [pup_ne z]; refine Eq.trans ?_ (hN.hs k (by omega)); simp [u3, z]
    · intro k hk; show _ = pup c.us c.n u k; have hk : k < c.n + 1 := hk; by_cases z : k = c.n
      · subst z; simp [u3, pup]
      · rw [pup_ne z]; refine Eq.trans ?_ (hN.us k (by omega)); simp [u3, z]
    · intro k hk; show _ = pup c.frm c.n f k; have hk : k < c.n + 1 := hk; by_cases z : k = c.n
      · subst z; simp [u3, pup]
      · rw [pup_ne z]; refine Eq.trans ?_ (hN.frm k (by omega)); simp [u3, z]
    · intro k hk; show _ = pup c.td c.n (iN now) k; have hk : k < c.n + 1 := hk; by_cases z : k = c.n
      · subst z; simp [u3, pup]
      · rw [pup_ne z]; refine Eq.trans ?_ (hN.td k (by omega)); simp [u3, z]
theorem sp_X3_tell {c : CNo} (hn : c.n ≤ 100) {ho : CHo} {φ : amSh} {S : amSt} (hφ : φ.1 255 ≠ 0) (hN : RMno c S) (hH : RMho ho S) {now : Nat} (hw : S.1 1 1 1 = iN now) {h u f : Int32} :
    Rs (fun v S' => v = (if inN h ho.n then noteS c h u f now else (0, c)).1 ∧ RMno (if inN h ho.n then noteS c h u f now else (0, c)).2 S') (p_X3_tell h u f φ S) := by
  unfold p_X3_tell
  rw [bd_gM hφ, bd_of (sp_X3_isHouse hH)]
  by_cases h1 : inN h ho.n
  · rw [if_pos h1, ip h1]
    unfold noteS
    by_cases e : c.n = 100
    · rw [if_pos e]
      simp (disch := first | omega | assumption) only [↓bd_rt, ↓bd_bd, ↓bd_ite, ↓bd_jn, ↓jn_ap, ↓ite_ap, ↓bd_gI1, ↓bd_pI1, ↓bd_gR1, ↓bd_pR1, ↓bd_gM, rt_ap, ↓reduceIte, iN_div, iN_divL, iN_add, iN_mul, iN_addL, iN_Ladd, iN_mulL, iN_Lmul, iN_subL, iN_sub, iN_le_T, iN_le_F, iN_lt_T, iN_lt_F, iN_eq_F, iN_leL_T, iN_leL_F, iN_Lle_T, iN_Lle_F, iN_ltL_T, iN_ltL_F, iN_Llt_T, iN_Llt_F, iN_eqL_T, iN_eqL_F, iN_m1, m1_iN, iN_le_m1, m1_le_iN, iN_neg, iN_pos, i10, i01, i00, i11, u3_op, u3_or, u3_same, pup_eq, pup_ne, hN.n]
      exact Rs.mk ⟨rfl, hN⟩
    · rw [if_neg e]
      simp (disch := first | omega | assumption) only [↓bd_rt, ↓bd_bd, ↓bd_ite, ↓bd_jn, ↓jn_ap, ↓ite_ap, ↓bd_gI1, ↓bd_pI1, ↓bd_gR1, ↓bd_pR1, ↓bd_gM, rt_ap, ↓reduceIte, iN_div, iN_divL, iN_add, iN_mul, iN_addL, iN_Ladd, iN_mulL, iN_Lmul, iN_subL, iN_sub, iN_le_T, iN_le_F, iN_lt_T, iN_lt_F, iN_eq_F, iN_leL_T, iN_leL_F, iN_Lle_T, iN_Lle_F, iN_ltL_T, iN_ltL_F, iN_Llt_T, iN_Llt_F, iN_eqL_T, iN_eqL_F, iN_m1, m1_iN, iN_le_m1, m1_le_iN, iN_neg, iN_pos, i10, i01, i00, i11, u3_op, u3_or, u3_same, pup_eq, pup_ne, hN.n, ↓wI125_1, ↓wI126_1, ↓wI127_1, ↓wI128_1, hw]
      refine Rs.mk ⟨rfl, RMno.mk ?_ ?_ ?_ ?_ ?_⟩
      · simp (disch := first | omega | assumption) only [↓bd_rt, ↓bd_bd, ↓bd_ite, ↓bd_jn, ↓jn_ap, ↓ite_ap, ↓bd_gI1, ↓bd_pI1, ↓bd_gR1, ↓bd_pR1, ↓bd_gM, rt_ap, ↓reduceIte, iN_div, iN_divL, iN_add, iN_mul, iN_addL, iN_Ladd, iN_mulL, iN_Lmul, iN_subL, iN_sub, iN_le_T, iN_le_F, iN_lt_T, iN_lt_F, iN_eq_F, iN_leL_T, iN_leL_F, iN_Lle_T, iN_Lle_F, iN_ltL_T, iN_ltL_F, iN_Llt_T, iN_Llt_F, iN_eqL_T, iN_eqL_F, iN_m1, m1_iN, iN_le_m1, m1_le_iN, iN_neg, iN_pos, i10, i01, i00, i11, u3_op, u3_or, u3_same, pup_eq, pup_ne]; rfl
      · intro k hk; show _ = pup c.hs c.n h k; have hk : k < c.n + 1 := hk; by_cases z : k = c.n
        · subst z; simp [u3, pup]
        · rw [pup_ne z]; refine Eq.trans ?_ (hN.hs k (by omega)); simp [u3, z]
      · intro k hk; show _ = pup c.us c.n u k; have hk : k < c.n + 1 := hk; by_cases z : k = c.n
        · subst z; simp [u3, pup]
        · rw [pup_ne z]; refine Eq.trans ?_ (hN.us k (by omega)); simp [u3, z]
      · intro k hk; show _ = pup c.frm c.n f k; have hk : k < c.n + 1 := hk; by_cases z : k = c.n
        · subst z; simp [u3, pup]
        · rw [pup_ne z]; refine Eq.trans ?_ (hN.frm k (by omega)); simp [u3, z]
      · intro k hk; show _ = pup c.td c.n (iN now) k; have hk : k < c.n + 1 := hk; by_cases z : k = c.n
        · subst z; simp [u3, pup]
        · rw [pup_ne z]; refine Eq.trans ?_ (hN.td k (by omega)); simp [u3, z]
  · rw [if_neg h1, iq h1, if_pos rfl, rt_ap]
    exact Rs.mk ⟨rfl, hN⟩
def lookS (c : CNo) (ho : CHo) (now : Nat) (a1 : Int32) : Int32 × CNo := if inN a1 ho.n then noteS c a1 (-1) (iN now) now else (0, c)
theorem noteS_01 {c : CNo} {h u f : Int32} {now : Nat} : (noteS c h u f now).1 = 0 ∨ (noteS c h u f now).1 = 1 := by
  unfold noteS
  split
  · exact Or.inl rfl
  · exact Or.inr rfl
theorem op_X1_look {c : CNo} (hn : c.n ≤ 100) {ho : CHo} (wh : ho.WF) {φ : amSh} {S : amSt} (hφ : φ.1 255 ≠ 0) (hN : RCno c S) (hH : RCho ho φ S) {now : Nat} (hw : S.1 0 1 0 = iN now) {a1 : Int32} : Rs (fun v S' => v = (lookS c ho now a1).1 ∧ RCno (lookS c ho now a1).2 S') (p_X1_look_2 a1 φ S) := by
  unfold p_X1_look_2
  rw [bd_of (sp_X1_isHouse wh hH), jn_ap]
  by_cases h1 : inN a1 ho.n
  · rw [show lookS c ho now a1 = noteS c a1 (-1) (iN now) now from if_pos h1, ip h1, if_neg (by decide), bd_gI1, hw]
    refine bdR (sp_X1_note hn hφ hN hw) fun v S1 h2 => ?_
    obtain ⟨rfl, h3⟩ := h2
    rcases noteS_01 (c := c) (h := a1) (u := -1) (f := iN now) (now := now) with e | e
    · rw [e, if_pos rfl]; exact Rs.mk ⟨e.symm ▸ rfl, h3⟩
    · rw [e, if_neg (by decide), rt_ap]; exact Rs.mk ⟨e.symm ▸ rfl, h3⟩
  · rw [show lookS c ho now a1 = (0, c) from if_neg h1, iq h1, if_pos rfl]
    exact Rs.mk ⟨rfl, hN⟩
theorem op_X3_look {c : CNo} (hn : c.n ≤ 100) {ho : CHo} {φ : amSh} {S : amSt} (hφ : φ.1 255 ≠ 0) (hN0 : RMno c S) (hH0 : RMho ho S) {now : Nat} (hw0 : S.1 1 1 1 = iN now) {a1 : Int32} : Rs (fun v S' => v = (lookS c ho now a1).1 ∧ RMno (lookS c ho now a1).2 S') (p_X3_look_2 a1 φ S) := by
  have hN := hN0.fr th0 (by decide)
  have hH := hH0.fr th0 (by decide)
  have hw : (u3 S.1 1 1 0 0, S.2).1 1 1 1 = iN now := (th0.i 1 1 1 (by decide)).trans hw0
  unfold p_X3_look_2
  rw [bd_pI1, bd_gI1, hw]
  refine bdR (sp_X3_tell hn hφ hN hH hw) fun v S1 h2 => ?_
  obtain ⟨rfl, h3⟩ := h2
  have h01 : (if inN a1 ho.n then noteS c a1 (-1) (iN now) now else (0, c)).1 = 0 ∨ (if inN a1 ho.n then noteS c a1 (-1) (iN now) now else (0, c)).1 = 1 := by
    split
    · exact noteS_01
    · exact Or.inl rfl
  rw [bd_gd h01, rt_ap]
  exact Rs.mk ⟨rfl, h3⟩
