/-! PURE: changes told, first uses -/
def changeS (c : CNo) (ho : CHo) (now : Nat) (a1 a2 a3 : Int32) : Int32 × CNo := if inN a1 ho.n then if out a2 0 9 then (0, c) else if out a3 0 (iN now) then (0, c) else noteS c a1 a2 a3 now else (0, c)
theorem op_X1_change {c : CNo} (hn : c.n ≤ 100) {ho : CHo} (wh : ho.WF) {φ : amSh} {S : amSt} (hφ : φ.1 255 ≠ 0) (hN : RCno c S) (hH : RCho ho φ S) {now : Nat} (hw : S.1 0 1 0 = iN now) {a1 a2 a3 : Int32} : Rs (fun v S' => v = (changeS c ho now a1 a2 a3).1 ∧ RCno (changeS c ho now a1 a2 a3).2 S') (p_X1_change_2 a1 a2 a3 φ S) := by
  unfold p_X1_change_2
  rw [bd_of (sp_X1_isHouse wh hH), jn_ap]
  by_cases h1 : inN a1 ho.n
  · rw [ip h1, if_neg (by decide), bd_of sp_X1_in]
    by_cases h2 : out a2 0 9
    · rw [show changeS c ho now a1 a2 a3 = (0, c) by unfold changeS; rw [if_pos h1, if_pos h2], jp h2, if_pos rfl]
      exact Rs.mk ⟨rfl, hN⟩
    · rw [jq h2, if_neg (by decide), bd_gI1, hw, bd_of sp_X1_in]
      by_cases h3 : out a3 0 (iN now)
      · rw [show changeS c ho now a1 a2 a3 = (0, c) by unfold changeS; rw [if_pos h1, if_neg h2, if_pos h3], jp h3, if_pos rfl]
        exact Rs.mk ⟨rfl, hN⟩
      · rw [show changeS c ho now a1 a2 a3 = noteS c a1 a2 a3 now by unfold changeS; rw [if_pos h1, if_neg h2, if_neg h3], jq h3, if_neg (by decide)]
        refine bdR (sp_X1_note hn hφ hN hw) fun v S1 h4 => ?_
        obtain ⟨rfl, h5⟩ := h4
        rcases noteS_01 (c := c) (h := a1) (u := a2) (f := a3) (now := now) with e | e
        · rw [e, if_pos rfl]; exact Rs.mk ⟨e.symm ▸ rfl, h5⟩
        · rw [e, if_neg (by decide), rt_ap]; exact Rs.mk ⟨e.symm ▸ rfl, h5⟩
  · rw [show changeS c ho now a1 a2 a3 = (0, c) from if_neg h1, iq h1, if_pos rfl]
    exact Rs.mk ⟨rfl, hN⟩
theorem op_X3_change {c : CNo} (hn : c.n ≤ 100) {ho : CHo} {φ : amSh} {S : amSt} (hφ : φ.1 255 ≠ 0) (hN0 : RMno c S) (hH0 : RMho ho S) {now : Nat} (hw0 : S.1 1 1 1 = iN now) {a1 a2 a3 : Int32} : Rs (fun v S' => v = (changeS c ho now a1 a2 a3).1 ∧ RMno (changeS c ho now a1 a2 a3).2 S') (p_X3_change a1 a2 a3 φ S) := by
  have hN := hN0.fr th0 (by decide)
  have hH := hH0.fr th0 (by decide)
  have hw : (u3 S.1 1 1 0 0, S.2).1 1 1 1 = iN now := (th0.i 1 1 1 (by decide)).trans hw0
  have z0 : (out a2 0 9 ∨ out a3 0 (iN now)) → changeS c ho now a1 a2 a3 = (0, c) := fun h => by
    unfold changeS
    by_cases h1 : inN a1 ho.n
    · rw [if_pos h1]
      rcases h with h | h
      · rw [if_pos h]
      · rw [if_pos h]; split <;> rfl
    · rw [if_neg h1]
  unfold p_X3_change
  rw [bd_pI1, bd_of sp_X3_isIn, jn_ap]
  by_cases h2 : out a2 0 9
  · rw [z0 (Or.inl h2), jp h2, if_pos rfl]
    exact Rs.mk ⟨rfl, hN⟩
  · rw [jq h2, if_neg (by decide), bd_gI1, hw, bd_of sp_X3_isIn]
    by_cases h3 : out a3 0 (iN now)
    · rw [z0 (Or.inr h3), jp h3, if_pos rfl]
      exact Rs.mk ⟨rfl, hN⟩
    · rw [jq h3, if_neg (by decide)]
      have ec : changeS c ho now a1 a2 a3 = if inN a1 ho.n then noteS c a1 a2 a3 now else (0, c) := by
        unfold changeS; rw [if_neg h2, if_neg h3]
      rw [ec]
      have h01 : (if inN a1 ho.n then noteS c a1 a2 a3 now else (0, c)).1 = 0 ∨ (if inN a1 ho.n then noteS c a1 a2 a3 now else (0, c)).1 = 1 := by
        split
        · exact noteS_01
        · exact Or.inl rfl
      refine bdR (sp_X3_tell hn hφ hN hH hw) fun v S1 h4 => ?_
      obtain ⟨rfl, h5⟩ := h4
      generalize (if inN a1 ho.n then noteS c a1 a2 a3 now else (0, c)) = q at *
      rcases h01 with e | e
      · rw [e, if_pos rfl]; exact Rs.mk ⟨rfl, h5⟩
      · rw [e, if_neg (by decide), rt_ap]; exact Rs.mk ⟨rfl, h5⟩
/-! first uses -/
def chgJ (c : CNo) (h : Int32) (j : Nat) : Nat := itn (fun k a => if c.hs k = h then (if c.us k = -1 then a else a + 1) else a) 0 j
theorem chgJ_le {c : CNo} {h : Int32} : ∀ j, chgJ c h j ≤ j := by
  intro j
  induction j with
  | zero => exact Nat.le_refl _
  | succ j ih =>
    show (if c.hs j = h then (if c.us j = -1 then chgJ c h j else chgJ c h j + 1) else chgJ c h j) ≤ j + 1
    repeat' split
    all_goals omega
theorem chgJ_0 {c : CNo} {h : Int32} : ∀ j, chgJ c h j = 0 ↔ ∀ k, k < j → ¬ (c.hs k = h ∧ ¬ c.us k = -1) := by
  intro j
  induction j with
  | zero => exact ⟨fun _ k hk => by omega, fun _ => rfl⟩
  | succ j ih =>
    have e : chgJ c h (j + 1) = (if c.hs j = h then (if c.us j = -1 then chgJ c h j else chgJ c h j + 1) else chgJ c h j) := rfl
    rw [e]
    constructor
    · intro hz k hk
      by_cases ek : k = j
      · subst ek
        rintro ⟨a, b⟩
        rw [if_pos a, if_neg b] at hz
        omega
      · have : chgJ c h j = 0 := by
          split at hz
          · split at hz
            · exact hz
            · omega
          · exact hz
        exact ih.mp this k (by omega)
    · intro hk
      have h0 := ih.mpr fun k hk2 => hk k (by omega)
      have hj := hk j (by omega)
      by_cases a : c.hs j = h
      · by_cases b : c.us j = -1
        · rw [if_pos a, if_pos b]; exact h0
        · exact absurd ⟨a, b⟩ hj
      · rw [if_neg a]; exact h0
def useOp (c : CNo) (ho : CHo) (a1 a2 : Int32) : Int32 × CHo := if inN a1 ho.n then if out a2 0 9 then (0, ho) else if chgJ c a1 c.n = 0 then (1, ho.s_use (pup ho.use a1.toNatClampNeg a2)) else (0, ho) else (0, ho)
theorem sp_X1_changesOf {c : CNo} (hn : c.n ≤ 100) {φ : amSh} {S : amSt} (hφ : φ.1 255 ≠ 0) (hN : RCno c S) {h : Int32} : p_X1_changesOf h φ S = some (iN (chgJ c h c.n), S) := by
  unfold p_X1_changesOf
  rw [bd_gM hφ, bd_of (a := iN (chgJ c h c.n)) (S1 := S), rt_ap]
  refine alp_st (fun j => (iN (chgJ c h j), iN j)) (fun _ => S) c.n ?_ ?_ (amFu_lt (by omega))
  · intro j hj rec
    have e : chgJ c h (j + 1) = (if c.hs j = h then (if c.us j = -1 then chgJ c h j else chgJ c h j + 1) else chgJ c h j) := rfl
    rw [e]
    generalize chgJ c h j = d at *
    unfold p_X1_changesOf_L4
    by_cases c1 : c.hs j = h
    · by_cases c2 : c.us j = -1
      · rw [if_pos c1, if_pos c2]
        simp (disch := first | omega | assumption) only [↓bd_rt, ↓bd_bd, ↓bd_ite, ↓bd_jn, ↓jn_ap, ↓ite_ap, ↓bd_gI1, ↓bd_pI1, ↓bd_gR1, ↓bd_pR1, ↓bd_gM, rt_ap, ↓reduceIte, iN_div, iN_divL, iN_add, iN_mul, iN_addL, iN_Ladd, iN_mulL, iN_Lmul, iN_subL, iN_sub, iN_le_T, iN_le_F, iN_lt_T, iN_lt_F, iN_eq_F, iN_leL_T, iN_leL_F, iN_Lle_T, iN_Lle_F, iN_ltL_T, iN_ltL_F, iN_Llt_T, iN_Llt_F, iN_eqL_T, iN_eqL_F, iN_m1, m1_iN, iN_le_m1, m1_le_iN, iN_neg, iN_pos, i10, i01, i00, i11, u3_op, u3_or, u3_same, pup_eq, pup_ne, hN.n, ↓rI38_1, ↓rI39_1, hN.hs j hj, hN.us j hj, c1, c2, if_true]
      · rw [if_pos c1, if_neg c2]
        simp (disch := first | omega | assumption) only [↓bd_rt, ↓bd_bd, ↓bd_ite, ↓bd_jn, ↓jn_ap, ↓ite_ap, ↓bd_gI1, ↓bd_pI1, ↓bd_gR1, ↓bd_pR1, ↓bd_gM, rt_ap, ↓reduceIte, iN_div, iN_divL, iN_add, iN_mul, iN_addL, iN_Ladd, iN_mulL, iN_Lmul, iN_subL, iN_sub, iN_le_T, iN_le_F, iN_lt_T, iN_lt_F, iN_eq_F, iN_leL_T, iN_leL_F, iN_Lle_T, iN_Lle_F, iN_ltL_T, iN_ltL_F, iN_Llt_T, iN_Llt_F, iN_eqL_T, iN_eqL_F, iN_m1, m1_iN, iN_le_m1, m1_le_iN, iN_neg, iN_pos, i10, i01, i00, i11, u3_op, u3_or, u3_same, pup_eq, pup_ne, hN.n, ↓rI38_1, ↓rI39_1, hN.hs j hj, hN.us j hj, c1, if_true, if_neg c2]
    · rw [if_neg c1]
      simp (disch := first | omega | assumption) only [↓bd_rt, ↓bd_bd, ↓bd_ite, ↓bd_jn, ↓jn_ap, ↓ite_ap, ↓bd_gI1, ↓bd_pI1, ↓bd_gR1, ↓bd_pR1, ↓bd_gM, rt_ap, ↓reduceIte, iN_div, iN_divL, iN_add, iN_mul, iN_addL, iN_Ladd, iN_mulL, iN_Lmul, iN_subL, iN_sub, iN_le_T, iN_le_F, iN_lt_T, iN_lt_F, iN_eq_F, iN_leL_T, iN_leL_F, iN_Lle_T, iN_Lle_F, iN_ltL_T, iN_ltL_F, iN_Llt_T, iN_Llt_F, iN_eqL_T, iN_eqL_F, iN_m1, m1_iN, iN_le_m1, m1_le_iN, iN_neg, iN_pos, i10, i01, i00, i11, u3_op, u3_or, u3_same, pup_eq, pup_ne, hN.n, ↓rI38_1, hN.hs j hj, if_neg c1]
  · intro rec
    unfold p_X1_changesOf_L4
    dsimp only
    simp (disch := first | omega | assumption) only [↓bd_rt, ↓bd_bd, ↓bd_ite, ↓bd_jn, ↓jn_ap, ↓ite_ap, ↓bd_gI1, ↓bd_pI1, ↓bd_gR1, ↓bd_pR1, ↓bd_gM, rt_ap, ↓reduceIte, iN_div, iN_divL, iN_add, iN_mul, iN_addL, iN_Ladd, iN_mulL, iN_Lmul, iN_subL, iN_sub, iN_le_T, iN_le_F, iN_lt_T, iN_lt_F, iN_eq_F, iN_leL_T, iN_leL_F, iN_Lle_T, iN_Lle_F, iN_ltL_T, iN_ltL_F, iN_Llt_T, iN_Llt_F, iN_eqL_T, iN_eqL_F, iN_m1, m1_iN, iN_le_m1, m1_le_iN, iN_neg, iN_pos, i10, i01, i00, i11, u3_op, u3_or, u3_same, pup_eq, pup_ne, hN.n]
theorem RCho.setUse {c : CHo} {φ : amSh} {S : amSt} (hR : RCho c φ S) {x : Nat} {v : Int32} : RCho (c.s_use (pup c.use x v)) φ (u3 S.1 3 (x + 1) 8 v, S.2) := by
  refine RCho.mk ?_ hR.obj ?_ ?_ ?_ ?_ ?_ ?_ ?_ ?_ ?_ ?_ ?_ ?_ ?_ ?_ hR.stg hR.stb hR.stc hR.cnt hR.cnb
  · refine Eq.trans ?_ hR.n; simp [u3]
  · intro j hj; refine Eq.trans ?_ (hR.cor j hj); simp [u3]
  · intro j hj; refine Eq.trans ?_ (hR.kind j hj); simp [u3]
  · intro j hj; refine Eq.trans ?_ (hR.fl j hj); simp [u3]
  · intro j hj; refine Eq.trans ?_ (hR.wd j hj); simp [u3]
  · intro j hj; refine Eq.trans ?_ (hR.sh j hj); simp [u3]
  · intro j hj; refine Eq.trans ?_ (hR.dr j hj); simp [u3]
  · intro j hj; refine Eq.trans ?_ (hR.wl j hj); simp [u3]
  · intro j hj; refine Eq.trans ?_ (hR.yr j hj); simp [u3]
  · intro j hj; show _ = pup c.use x v j; by_cases e : j = x
    · subst e; simp [u3, pup]
    · rw [pup_ne e]; refine Eq.trans ?_ (hR.use j hj); simp [u3, e]
  · intro j hj; refine Eq.trans ?_ (hR.sav j hj); simp [u3]
  · intro j hj; refine Eq.trans ?_ (hR.lost j hj); simp [u3]
  · intro j hj; refine Eq.trans ?_ (hR.gal j hj); simp [u3]
  · intro j g hj hg; refine Eq.trans ?_ (hR.ppl j g hj hg); simp [u3]
  · intro j g hj hg; refine Eq.trans ?_ (hR.told j g hj hg); simp [u3]
theorem RMho.setUse {c : CHo} {S : amSt} (hR : RMho c S) {x : Nat} {v : Int32} : RMho (c.s_use (pup c.use x v)) (u3 S.1 69 1 x v, S.2) := by
  refine RMho.mk ?_ ?_ ?_ ?_ ?_ ?_ ?_ ?_ ?_ ?_ ?_ ?_ ?_ ?_ ?_
  · refine Eq.trans ?_ hR.n; simp [u3]
  · intro j hj; refine Eq.trans ?_ (hR.cor j hj); simp [u3]
  · intro j hj; refine Eq.trans ?_ (hR.kind j hj); simp [u3]
  · intro j hj; refine Eq.trans ?_ (hR.fl j hj); simp [u3]
  · intro j hj; refine Eq.trans ?_ (hR.wd j hj); simp [u3]
  · intro j hj; refine Eq.trans ?_ (hR.sh j hj); simp [u3]
  · intro j hj; refine Eq.trans ?_ (hR.wl j hj); simp [u3]
  · intro j hj; refine Eq.trans ?_ (hR.yr j hj); simp [u3]
  · intro j hj; show _ = pup c.use x v j; by_cases e : j = x
    · subst e; simp [u3, pup]
    · rw [pup_ne e]; refine Eq.trans ?_ (hR.use j hj); simp [u3, e]
  · intro j hj; refine Eq.trans ?_ (hR.sav j hj); simp [u3]
  · intro j hj; refine Eq.trans ?_ (hR.lost j hj); simp [u3]
  · intro j hj; refine Eq.trans ?_ (hR.gal j hj); simp [u3]
  · intro j hj; refine Eq.trans ?_ (hR.dr j hj); simp [u3]
  · intro j hj; refine Eq.trans ?_ (hR.ppl j hj); simp [u3]
  · intro j hj; refine Eq.trans ?_ (hR.told j hj); simp [u3]
theorem useOp_WF {c : CNo} {ho : CHo} (w : ho.WF) {a1 a2 : Int32} : (useOp c ho a1 a2).2.WF := by
  have hhn := w.hn
  unfold useOp
  split
  · rename_i h1
    split
    · exact w
    · split
      · obtain ⟨x, hx, rfl⟩ := h1.ex (by omega)
        rw [iN_nat (by omega)]
        refine CHo.WF.mk w.hn w.cor w.fl w.wd w.wl ?_ w.zf
        intro h hh
        have hh2 : ho.n ≤ h := hh
        have := w.z h hh2
        refine ⟨this.1, this.2.1, ?_, this.2.2.2⟩
        show pup ho.use x a2 h = 0
        rw [pup_ne (by omega)]; exact this.2.2.1
      · exact w
  · exact w
theorem op_X1_use {c : CNo} (hn : c.n ≤ 100) {ho : CHo} (wh : ho.WF) {φ : amSh} {S : amSt} (hφ : φ.1 255 ≠ 0) (hN : RCno c S) (hH : RCho ho φ S) {a1 a2 : Int32} : Rs (fun v S' => v = (useOp c ho a1 a2).1 ∧ RCho (useOp c ho a1 a2).2 φ S') (p_X1_use a1 a2 φ S) := by
  have hhn := wh.hn
  have hle := chgJ_le (c := c) (h := a1) c.n
  unfold p_X1_use
  rw [bd_gM hφ, bd_of (sp_X1_isHouse wh hH)]
  by_cases h1 : inN a1 ho.n
  · rw [ip h1, if_neg (by decide), bd_of sp_X1_in]
    by_cases h2 : out a2 0 9
    · rw [show useOp c ho a1 a2 = (0, ho) by unfold useOp; rw [if_pos h1, if_pos h2], jp h2, if_pos rfl, rt_ap]
      exact Rs.mk ⟨rfl, hH⟩
    · rw [jq h2, if_neg (by decide), bd_of (sp_X1_changesOf hn hφ hN)]
      by_cases h3 : chgJ c a1 c.n = 0
      · rw [show useOp c ho a1 a2 = (1, ho.s_use (pup ho.use a1.toNatClampNeg a2)) by unfold useOp; rw [if_pos h1, if_neg h2, if_pos h3], h3, if_pos (show iN 0 ≤ 0 by decide)]
        obtain ⟨x, hx, rfl⟩ := h1.ex (by omega)
        rw [rR24_1 (by omega), hH.obj x hx, bd_pI (by omega), rt_ap, iN_nat (by omega)]
        exact Rs.mk ⟨rfl, hH.setUse⟩
      · rw [show useOp c ho a1 a2 = (0, ho) by unfold useOp; rw [if_pos h1, if_neg h2, if_neg h3], if_neg (by rw [show (0 : Int32) = iN 0 from rfl, iN_le (by omega) (by decide)]; omega), rt_ap]
        exact Rs.mk ⟨rfl, hH⟩
  · rw [show useOp c ho a1 a2 = (0, ho) from if_neg h1, iq h1, if_pos rfl, rt_ap]
    exact Rs.mk ⟨rfl, hH⟩
theorem op_X3_use {c : CNo} (hn : c.n ≤ 100) {ho : CHo} (wh : ho.WF) {φ : amSh} {S : amSt} (hφ : φ.1 255 ≠ 0) (hN0 : RMno c S) (hH0 : RMho ho S) {a1 a2 : Int32} : Rs (fun v S' => v = (useOp c ho a1 a2).1 ∧ RMho (useOp c ho a1 a2).2 S') (p_X3_use a1 a2 φ S) := by
  have hhn := wh.hn
  have hN := hN0.fr th0 (by decide)
  have hH := hH0.fr th0 (by decide)
  unfold p_X3_use
  rw [bd_gM hφ, bd_pI1, bd_of (sp_X3_isHouse hH)]
  generalize hS1 : ((u3 S.1 1 1 0 0, S.2) : amSt) = S1 at *
  by_cases h1 : inN a1 ho.n
  · rw [ip h1, if_neg (by decide), bd_of sp_X3_isIn]
    by_cases h2 : out a2 0 9
    · rw [show useOp c ho a1 a2 = (0, ho) by unfold useOp; rw [if_pos h1, if_pos h2], jp h2, if_pos rfl, rt_ap]
      exact Rs.mk ⟨rfl, hH⟩
    · rw [jq h2, if_neg (by decide)]
      obtain ⟨x, hx, rfl⟩ := h1.ex (by omega)
      refine alp_I (fun j y S' => y = iN j ∧ S' = S1 ∧ ∀ k, k < j → ¬ (c.hs k = iN x ∧ ¬ c.us k = -1)) c.n (amFu_lt (by omega)) ⟨rfl, rfl, fun k hk => by omega⟩ ?_ ?_
      · rintro j y S' hj ⟨rfl, rfl, h0⟩ rec
        unfold p_X3_use_L27
        have nxt : ¬ (c.hs j = iN x ∧ ¬ c.us j = -1) → ∀ k, k < j + 1 → ¬ (c.hs k = iN x ∧ ¬ c.us k = -1) := fun h k hk => by
          by_cases e : k = j
          · subst e; exact h
          · exact h0 k (by omega)
        by_cases c1 : c.hs j = iN x
        · by_cases c2 : c.us j = -1
          · simp (disch := first | omega | assumption) only [↓bd_rt, ↓bd_bd, ↓bd_ite, ↓bd_jn, ↓jn_ap, ↓ite_ap, ↓bd_gI1, ↓bd_pI1, ↓bd_gR1, ↓bd_pR1, ↓bd_gM, rt_ap, ↓reduceIte, iN_div, iN_divL, iN_add, iN_mul, iN_addL, iN_Ladd, iN_mulL, iN_Lmul, iN_subL, iN_sub, iN_le_T, iN_le_F, iN_lt_T, iN_lt_F, iN_eq_F, iN_leL_T, iN_leL_F, iN_Lle_T, iN_Lle_F, iN_ltL_T, iN_ltL_F, iN_Llt_T, iN_Llt_F, iN_eqL_T, iN_eqL_F, iN_m1, m1_iN, iN_le_m1, m1_le_iN, iN_neg, iN_pos, i10, i01, i00, i11, u3_op, u3_or, u3_same, pup_eq, pup_ne, hN.n, ↓rI125_1, ↓rI126_1, hN.hs j hj, hN.us j hj, c1, c2, if_true]
            exact Lz.go ⟨rfl, rfl, nxt fun z => z.2 c2⟩
          · simp (disch := first | omega | assumption) only [↓bd_rt, ↓bd_bd, ↓bd_ite, ↓bd_jn, ↓jn_ap, ↓ite_ap, ↓bd_gI1, ↓bd_pI1, ↓bd_gR1, ↓bd_pR1, ↓bd_gM, rt_ap, ↓reduceIte, iN_div, iN_divL, iN_add, iN_mul, iN_addL, iN_Ladd, iN_mulL, iN_Lmul, iN_subL, iN_sub, iN_le_T, iN_le_F, iN_lt_T, iN_lt_F, iN_eq_F, iN_leL_T, iN_leL_F, iN_Lle_T, iN_Lle_F, iN_ltL_T, iN_ltL_F, iN_Llt_T, iN_Llt_F, iN_eqL_T, iN_eqL_F, iN_m1, m1_iN, iN_le_m1, m1_le_iN, iN_neg, iN_pos, i10, i01, i00, i11, u3_op, u3_or, u3_same, pup_eq, pup_ne, hN.n, ↓rI125_1, ↓rI126_1, hN.hs j hj, hN.us j hj, c1, if_true, if_neg c2]
            refine Lz.ret ?_
            have h3 : ¬ chgJ c (iN x) c.n = 0 := fun z => (chgJ_0 c.n).mp z j hj ⟨c1, c2⟩
            rw [show useOp c ho (iN x) a2 = (0, ho) by unfold useOp; rw [if_pos h1, if_neg h2, if_neg h3]]
            exact ⟨rfl, hH⟩
        · simp (disch := first | omega | assumption) only [↓bd_rt, ↓bd_bd, ↓bd_ite, ↓bd_jn, ↓jn_ap, ↓ite_ap, ↓bd_gI1, ↓bd_pI1, ↓bd_gR1, ↓bd_pR1, ↓bd_gM, rt_ap, ↓reduceIte, iN_div, iN_divL, iN_add, iN_mul, iN_addL, iN_Ladd, iN_mulL, iN_Lmul, iN_subL, iN_sub, iN_le_T, iN_le_F, iN_lt_T, iN_lt_F, iN_eq_F, iN_leL_T, iN_leL_F, iN_Lle_T, iN_Lle_F, iN_ltL_T, iN_ltL_F, iN_Llt_T, iN_Llt_F, iN_eqL_T, iN_eqL_F, iN_m1, m1_iN, iN_le_m1, m1_le_iN, iN_neg, iN_pos, i10, i01, i00, i11, u3_op, u3_or, u3_same, pup_eq, pup_ne, hN.n, ↓rI125_1, hN.hs j hj, if_neg c1]
          exact Lz.go ⟨rfl, rfl, nxt fun z => c1 z.1⟩
      · rintro y S' ⟨rfl, rfl, h0⟩ rec
        unfold p_X3_use_L27
        have h3 : chgJ c (iN x) c.n = 0 := (chgJ_0 c.n).mpr h0
        rw [show useOp c ho (iN x) a2 = (1, ho.s_use (pup ho.use x a2)) by unfold useOp; rw [if_pos h1, if_neg h2, if_pos h3, iN_nat (by omega)]]
        simp (disch := first | omega | assumption) only [↓bd_rt, ↓bd_bd, ↓bd_ite, ↓bd_jn, ↓jn_ap, ↓ite_ap, ↓bd_gI1, ↓bd_pI1, ↓bd_gR1, ↓bd_pR1, ↓bd_gM, rt_ap, ↓reduceIte, iN_div, iN_divL, iN_add, iN_mul, iN_addL, iN_Ladd, iN_mulL, iN_Lmul, iN_subL, iN_sub, iN_le_T, iN_le_F, iN_lt_T, iN_lt_F, iN_eq_F, iN_leL_T, iN_leL_F, iN_Lle_T, iN_Lle_F, iN_ltL_T, iN_ltL_F, iN_Llt_T, iN_Llt_F, iN_eqL_T, iN_eqL_F, iN_m1, m1_iN, iN_le_m1, m1_le_iN, iN_neg, iN_pos, i10, i01, i00, i11, u3_op, u3_or, u3_same, pup_eq, pup_ne, hN.n, ↓wI69_1]
        exact Rs.mk ⟨rfl, hH.setUse⟩
  · rw [show useOp c ho a1 a2 = (0, ho) from if_neg h1, iq h1, if_pos rfl, rt_ap]
    exact Rs.mk ⟨rfl, hH⟩
