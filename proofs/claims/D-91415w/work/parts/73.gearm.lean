/-! PURE: what crews have, the model; a new crew -/
theorem RMcr.gear {cr : CCr} {S : amSt} (hR : RMcr cr S) {k a b d : Nat} : RMcr (setG cr k a b d) (u3 (u3 (u3 S.1 91 1 k (iN a)) 92 1 k (iN b)) 93 1 k (iN d), S.2) := by
  refine RMcr.mk ?_ ?_ ?_ ?_ ?_ ?_ ?_ ?_ ?_ ?_ ?_ ?_ ?_ ?_ ?_ ?_ ?_ ?_ ?_
  · refine Eq.trans ?_ hR.n; simp [u3]
  · intro j hj; refine Eq.trans ?_ (hR.sort j hj); simp [u3]
  · intro j hj; refine Eq.trans ?_ (hR.home j hj); simp [u3]
  · intro j hj; refine Eq.trans ?_ (hR.best j hj); simp [u3]
  · intro j hj; refine Eq.trans ?_ (hR.men j hj); simp [u3]
  · intro j hj; refine Eq.trans ?_ (hR.hor j hj); simp [u3]
  · intro j hj; show _ = iN (pup cr.gA k a j); by_cases e : j = k
    · subst e; simp [u3, pup]
    · rw [pup_ne e]; refine Eq.trans ?_ (hR.gA j hj); simp [u3, e]
  · intro j hj; show _ = iN (pup cr.gB k b j); by_cases e : j = k
    · subst e; simp [u3, pup]
    · rw [pup_ne e]; refine Eq.trans ?_ (hR.gB j hj); simp [u3, e]
  · intro j hj; show _ = iN (pup cr.gC k d j); by_cases e : j = k
    · subst e; simp [u3, pup]
    · rw [pup_ne e]; refine Eq.trans ?_ (hR.gC j hj); simp [u3, e]
  · intro j hj; refine Eq.trans ?_ (hR.st j hj); simp [u3]
  · intro j hj; refine Eq.trans ?_ (hR.post j hj); simp [u3]
  · intro j hj; refine Eq.trans ?_ (hR.till j hj); simp [u3]
  · intro j hj; refine Eq.trans ?_ (hR.sent j hj); simp [u3]
  · intro j hj; refine Eq.trans ?_ (hR.wk j hj); simp [u3]
  · intro j hj; refine Eq.trans ?_ (hR.flr j hj); simp [u3]
  · intro j hj; refine Eq.trans ?_ (hR.tir j hj); simp [u3]
  · intro j hj; refine Eq.trans ?_ (hR.got j hj); simp [u3]
  · intro j hj; refine Eq.trans ?_ (hR.beg j hj); simp [u3]
  · intro j hj h16; refine Eq.trans ?_ (hR.st0 j hj h16); simp [u3]
def z5S (a b d : Int32) : Int32 := if a = 0 then (if b = 0 then (if d = 0 then 1 else 0) else 0) else 0
theorem op_X3_gear {cr : CCr} {nh : Nat} (w : cr.WF nh) {φ : amSh} {S : amSt} (hφ : φ.1 255 ≠ 0) (hC0 : RMcr cr S) {a1 a2 a3 a4 : Int32} : Rs (fun v S' => v = (gearS cr a1 a2 a3 a4).1 ∧ RMcr (gearS cr a1 a2 a3 a4).2 S') (p_X3_gear a1 a2 a3 a4 φ S) := by
  have hn := w.hn
  have hC := hC0.fr th0 (by decide)
  unfold p_X3_gear
  rw [bd_gM hφ, bd_pI1, bd_of (sp_X3_isCrew hC)]
  generalize hS1 : ((u3 S.1 1 1 0 0, S.2) : amSt) = S1 at *
  by_cases h1 : inN a1 cr.n
  · rw [ip h1, if_neg (by decide)]
    obtain ⟨k, hk, rfl⟩ := h1.ex (by omega)
    have en : (iN k).toNatClampNeg = k := iN_nat (by omega)
    have hsk := w.sort k hk
    rw [rI94_1 (by omega), hC.st k hk]
    by_cases h2 : cr.st k = 2
    · rw [show gearS cr (iN k) a2 a3 a4 = (0, cr) by unfold gearS; rw [if_pos h1, en, if_pos h2], if_pos h2, rt_ap]
      exact Rs.mk ⟨rfl, hC⟩
    · rw [if_neg h2]
      rw [bd_of (a := z5S a2 a3 a4) (S1 := S1)]
      rotate_left
      · unfold z5S
        rw [jn_ap]
        by_cases c1 : a2 = 0
        · by_cases c2 : a3 = 0
          · by_cases c3 : a4 = 0
            · rw [if_pos c1, if_pos c2, if_pos c3, if_pos c1, if_pos c2, if_pos c3, rt_ap]
            · rw [if_pos c1, if_pos c2, if_neg c3, if_pos c1, if_pos c2, if_neg c3]; rfl
          · rw [if_pos c1, if_neg c2, if_pos c1, if_neg c2]; rfl
        · rw [if_neg c1, if_neg c1]; rfl
      have key : ∀ {f : Int32 → am0 Int32}, bd (rI 87 1 (iN k)) (fun v10 => bd (if v10 = 2 then (bd (p_X3_isIn a2 1 6) fun v13 =>
          bd (jn (fun (z15 : Unit) => rt 0) fun (k15 : Unit → am0 ((Int32))) => if v13 = 0 then (k15 ()) else if a3 = 0 then (if a4 = 0 then (rt 1) else k15 ()) else k15 ()) fun (z14 : Int32) => rt z14) else rt (z5S a2 a3 a4)) f) φ S1
          = f (if cr.sort k = 2 then b01 (gearB 2 a2 a3 a4) else z5S a2 a3 a4) φ S1 := fun {f} => by
        rw [rI87_1 (by omega), hC.sort k hk]
        by_cases c2 : cr.sort k = 2
        · rw [if_pos c2]
          have hb : gearB 2 a2 a3 a4 = (!decide (out a2 1 6) && (decide (a3 = 0) && decide (a4 = 0))) := rfl
          rw [hb]
          by_cases o1 : out a2 1 6
          · simp (disch := first | omega | assumption) only [↓bd_rt, ↓bd_bd, ↓bd_ite, ↓bd_jn, ↓jn_ap, ↓ite_ap, ↓bd_gI1, ↓bd_pI1, ↓bd_gR1, ↓bd_pR1, ↓bd_gM, rt_ap, ↓reduceIte, iN_div, iN_divL, iN_add, iN_mul, iN_addL, iN_Ladd, iN_mulL, iN_Lmul, iN_subL, iN_sub, iN_le_T, iN_le_F, iN_lt_T, iN_lt_F, iN_eq_F, iN_leL_T, iN_leL_F, iN_Lle_T, iN_Lle_F, iN_ltL_T, iN_ltL_F, iN_Llt_T, iN_Llt_F, iN_eqL_T, iN_eqL_F, iN_m1, m1_iN, iN_le_m1, m1_le_iN, iN_neg, iN_pos, i10, i01, i00, i11, u3_op, u3_or, u3_same, pup_eq, pup_ne, c2, if_true, ↓bd_of sp_X3_isIn, jp o1]
            simp [o1, b01]
          · by_cases o2 : a3 = 0
            · by_cases o3 : a4 = 0
              · simp (disch := first | omega | assumption) only [↓bd_rt, ↓bd_bd, ↓bd_ite, ↓bd_jn, ↓jn_ap, ↓ite_ap, ↓bd_gI1, ↓bd_pI1, ↓bd_gR1, ↓bd_pR1, ↓bd_gM, rt_ap, ↓reduceIte, iN_div, iN_divL, iN_add, iN_mul, iN_addL, iN_Ladd, iN_mulL, iN_Lmul, iN_subL, iN_sub, iN_le_T, iN_le_F, iN_lt_T, iN_lt_F, iN_eq_F, iN_leL_T, iN_leL_F, iN_Lle_T, iN_Lle_F, iN_ltL_T, iN_ltL_F, iN_Llt_T, iN_Llt_F, iN_eqL_T, iN_eqL_F, iN_m1, m1_iN, iN_le_m1, m1_le_iN, iN_neg, iN_pos, i10, i01, i00, i11, u3_op, u3_or, u3_same, pup_eq, pup_ne, c2, if_true, ↓bd_of sp_X3_isIn, jq o1, if_pos o2, if_pos o3]
                simp [o1, o2, o3, b01]
              · simp (disch := first | omega | assumption) only [↓bd_rt, ↓bd_bd, ↓bd_ite, ↓bd_jn, ↓jn_ap, ↓ite_ap, ↓bd_gI1, ↓bd_pI1, ↓bd_gR1, ↓bd_pR1, ↓bd_gM, rt_ap, ↓reduceIte, iN_div, iN_divL, iN_add, iN_mul, iN_addL, iN_Ladd, iN_mulL, iN_Lmul, iN_subL, iN_sub, iN_le_T, iN_le_F, iN_lt_T, iN_lt_F, iN_eq_F, iN_leL_T, iN_leL_F, iN_Lle_T, iN_Lle_F, iN_ltL_T, iN_ltL_F, iN_Llt_T, iN_Llt_F, iN_eqL_T, iN_eqL_F, iN_m1, m1_iN, iN_le_m1, m1_le_iN, iN_neg, iN_pos, i10, i01, i00, i11, u3_op, u3_or, u3_same, pup_eq, pup_ne, c2, if_true, ↓bd_of sp_X3_isIn, jq o1, if_pos o2, if_neg o3]
                simp [o3, b01]
            · simp (disch := first | omega | assumption) only [↓bd_rt, ↓bd_bd, ↓bd_ite, ↓bd_jn, ↓jn_ap, ↓ite_ap, ↓bd_gI1, ↓bd_pI1, ↓bd_gR1, ↓bd_pR1, ↓bd_gM, rt_ap, ↓reduceIte, iN_div, iN_divL, iN_add, iN_mul, iN_addL, iN_Ladd, iN_mulL, iN_Lmul, iN_subL, iN_sub, iN_le_T, iN_le_F, iN_lt_T, iN_lt_F, iN_eq_F, iN_leL_T, iN_leL_F, iN_Lle_T, iN_Lle_F, iN_ltL_T, iN_ltL_F, iN_Llt_T, iN_Llt_F, iN_eqL_T, iN_eqL_F, iN_m1, m1_iN, iN_le_m1, m1_le_iN, iN_neg, iN_pos, i10, i01, i00, i11, u3_op, u3_or, u3_same, pup_eq, pup_ne, c2, if_true, ↓bd_of sp_X3_isIn, jq o1, if_neg o2]
              simp [o2, b01]
        · rw [if_neg c2, if_neg (by rw [show (2 : Int32) = iN 2 from rfl, iN_inj (by omega) (by decide)]; exact c2), bd_rt]
      rw [key]
      have key2 : ∀ {f : Int32 → am0 Int32} {z : Int32}, (2 ≤ cr.sort k → z = b01 (gearB (cr.sort k) a2 a3 a4)) → bd (rI 87 1 (iN k)) (fun v19 => bd (if 2 ≤ v19 then (rt z) else bd (p_X3_isIn a2 100 3000) fun v22 =>
          bd (jn (fun (z24 : Unit) => rt 0) fun (k24 : Unit → am0 ((Int32))) => if v22 = 0 then (k24 ()) else bd (p_X3_isIn a3 10 500) fun v26 => if v26 = 0 then (k24 ()) else bd (rI 87 1 (iN k)) fun v28 =>
          jn (fun (z29 : Unit) => rt 1) fun (k29 : Unit → am0 ((Int32))) => if v28 = 0 then (if a4 = 0 then (k29 ()) else k24 ()) else bd (p_X3_isIn a4 1 30) fun v32 => if v32 = 0 then (k24 ()) else k29 ()) fun (z23 : Int32) => rt z23) f) φ S1
          = f (b01 (gearB (cr.sort k) a2 a3 a4)) φ S1 := fun {f z} hz => by
        rw [rI87_1 (by omega), hC.sort k hk]
        by_cases c2 : 2 ≤ cr.sort k
        · rw [if_pos (by rw [show (2 : Int32) = iN 2 from rfl, iN_le (by decide) (by omega)]; exact c2), bd_rt, hz c2]
        · rw [if_neg (by rw [show (2 : Int32) = iN 2 from rfl, iN_le (by decide) (by omega)]; exact c2)]
          have h01 : cr.sort k = 0 ∨ cr.sort k = 1 := by omega
          rcases h01 with e | e
          · have hb : gearB (cr.sort k) a2 a3 a4 = (!decide (out a2 100 3000) && (!decide (out a3 10 500) && decide (a4 = 0))) := by rw [e]; rfl
            rw [hb]
            by_cases o1 : out a2 100 3000
            · simp (disch := first | omega | assumption) only [↓bd_rt, ↓bd_bd, ↓bd_ite, ↓bd_jn, ↓jn_ap, ↓ite_ap, ↓bd_gI1, ↓bd_pI1, ↓bd_gR1, ↓bd_pR1, ↓bd_gM, rt_ap, ↓reduceIte, iN_div, iN_divL, iN_add, iN_mul, iN_addL, iN_Ladd, iN_mulL, iN_Lmul, iN_subL, iN_sub, iN_le_T, iN_le_F, iN_lt_T, iN_lt_F, iN_eq_F, iN_leL_T, iN_leL_F, iN_Lle_T, iN_Lle_F, iN_ltL_T, iN_ltL_F, iN_Llt_T, iN_Llt_F, iN_eqL_T, iN_eqL_F, iN_m1, m1_iN, iN_le_m1, m1_le_iN, iN_neg, iN_pos, i10, i01, i00, i11, u3_op, u3_or, u3_same, pup_eq, pup_ne, ↓bd_of sp_X3_isIn, jp o1]
              simp [o1, b01]
            · by_cases o2 : out a3 10 500
              · simp (disch := first | omega | assumption) only [↓bd_rt, ↓bd_bd, ↓bd_ite, ↓bd_jn, ↓jn_ap, ↓ite_ap, ↓bd_gI1, ↓bd_pI1, ↓bd_gR1, ↓bd_pR1, ↓bd_gM, rt_ap, ↓reduceIte, iN_div, iN_divL, iN_add, iN_mul, iN_addL, iN_Ladd, iN_mulL, iN_Lmul, iN_subL, iN_sub, iN_le_T, iN_le_F, iN_lt_T, iN_lt_F, iN_eq_F, iN_leL_T, iN_leL_F, iN_Lle_T, iN_Lle_F, iN_ltL_T, iN_ltL_F, iN_Llt_T, iN_Llt_F, iN_eqL_T, iN_eqL_F, iN_m1, m1_iN, iN_le_m1, m1_le_iN, iN_neg, iN_pos, i10, i01, i00, i11, u3_op, u3_or, u3_same, pup_eq, pup_ne, ↓bd_of sp_X3_isIn, jq o1, jp o2]
                simp [o2, b01]
              · by_cases o3 : a4 = 0
                · simp (disch := first | omega | assumption) only [↓bd_rt, ↓bd_bd, ↓bd_ite, ↓bd_jn, ↓jn_ap, ↓ite_ap, ↓bd_gI1, ↓bd_pI1, ↓bd_gR1, ↓bd_pR1, ↓bd_gM, rt_ap, ↓reduceIte, iN_div, iN_divL, iN_add, iN_mul, iN_addL, iN_Ladd, iN_mulL, iN_Lmul, iN_subL, iN_sub, iN_le_T, iN_le_F, iN_lt_T, iN_lt_F, iN_eq_F, iN_leL_T, iN_leL_F, iN_Lle_T, iN_Lle_F, iN_ltL_T, iN_ltL_F, iN_Llt_T, iN_Llt_F, iN_eqL_T, iN_eqL_F, iN_m1, m1_iN, iN_le_m1, m1_le_iN, iN_neg, iN_pos, i10, i01, i00, i11, u3_op, u3_or, u3_same, pup_eq, pup_ne, ↓bd_of sp_X3_isIn, jq o1, jq o2, ↓rI87_1, hC.sort k hk, e, if_pos o3]
                  simp [o1, o2, o3, b01]
                · simp (disch := first | omega | assumption) only [↓bd_rt, ↓bd_bd, ↓bd_ite, ↓bd_jn, ↓jn_ap, ↓ite_ap, ↓bd_gI1, ↓bd_pI1, ↓bd_gR1, ↓bd_pR1, ↓bd_gM, rt_ap, ↓reduceIte, iN_div, iN_divL, iN_add, iN_mul, iN_addL, iN_Ladd, iN_mulL, iN_Lmul, iN_subL, iN_sub, iN_le_T, iN_le_F, iN_lt_T, iN_lt_F, iN_eq_F, iN_leL_T, iN_leL_F, iN_Lle_T, iN_Lle_F, iN_ltL_T, iN_ltL_F, iN_Llt_T, iN_Llt_F, iN_eqL_T, iN_eqL_F, iN_m1, m1_iN, iN_le_m1, m1_le_iN, iN_neg, iN_pos, i10, i01, i00, i11, u3_op, u3_or, u3_same, pup_eq, pup_ne, ↓bd_of sp_X3_isIn, jq o1, jq o2, ↓rI87_1, hC.sort k hk, e, if_neg o3]
                  simp [o3, b01]
          · have hb : gearB (cr.sort k) a2 a3 a4 = (!decide (out a4 1 30) && (!decide (out a2 100 3000) && !decide (out a3 10 500))) := by rw [e]; rfl
            rw [hb]
            by_cases o1 : out a2 100 3000
            · simp (disch := first | omega | assumption) only [↓bd_rt, ↓bd_bd, ↓bd_ite, ↓bd_jn, ↓jn_ap, ↓ite_ap, ↓bd_gI1, ↓bd_pI1, ↓bd_gR1, ↓bd_pR1, ↓bd_gM, rt_ap, ↓reduceIte, iN_div, iN_divL, iN_add, iN_mul, iN_addL, iN_Ladd, iN_mulL, iN_Lmul, iN_subL, iN_sub, iN_le_T, iN_le_F, iN_lt_T, iN_lt_F, iN_eq_F, iN_leL_T, iN_leL_F, iN_Lle_T, iN_Lle_F, iN_ltL_T, iN_ltL_F, iN_Llt_T, iN_Llt_F, iN_eqL_T, iN_eqL_F, iN_m1, m1_iN, iN_le_m1, m1_le_iN, iN_neg, iN_pos, i10, i01, i00, i11, u3_op, u3_or, u3_same, pup_eq, pup_ne, ↓bd_of sp_X3_isIn, jp o1]
              simp [o1, b01]
            · by_cases o2 : out a3 10 500
              · simp (disch := first | omega | assumption) only [↓bd_rt, ↓bd_bd, ↓bd_ite, ↓bd_jn, ↓jn_ap, ↓ite_ap, ↓bd_gI1, ↓bd_pI1, ↓bd_gR1, ↓bd_pR1, ↓bd_gM, rt_ap, ↓reduceIte, iN_div, iN_divL, iN_add, iN_mul, iN_addL, iN_Ladd, iN_mulL, iN_Lmul, iN_subL, iN_sub, iN_le_T, iN_le_F, iN_lt_T, iN_lt_F, iN_eq_F, iN_leL_T, iN_leL_F, iN_Lle_T, iN_Lle_F, iN_ltL_T, iN_ltL_F, iN_Llt_T, iN_Llt_F, iN_eqL_T, iN_eqL_F, iN_m1, m1_iN, iN_le_m1, m1_le_iN, iN_neg, iN_pos, i10, i01, i00, i11, u3_op, u3_or, u3_same, pup_eq, pup_ne, ↓bd_of sp_X3_isIn, jq o1, jp o2]
                simp [o2, b01]
              · by_cases o3 : out a4 1 30
                · simp (disch := first | omega | assumption) only [↓bd_rt, ↓bd_bd, ↓bd_ite, ↓bd_jn, ↓jn_ap, ↓ite_ap, ↓bd_gI1, ↓bd_pI1, ↓bd_gR1, ↓bd_pR1, ↓bd_gM, rt_ap, ↓reduceIte, iN_div, iN_divL, iN_add, iN_mul, iN_addL, iN_Ladd, iN_mulL, iN_Lmul, iN_subL, iN_sub, iN_le_T, iN_le_F, iN_lt_T, iN_lt_F, iN_eq_F, iN_leL_T, iN_leL_F, iN_Lle_T, iN_Lle_F, iN_ltL_T, iN_ltL_F, iN_Llt_T, iN_Llt_F, iN_eqL_T, iN_eqL_F, iN_m1, m1_iN, iN_le_m1, m1_le_iN, iN_neg, iN_pos, i10, i01, i00, i11, u3_op, u3_or, u3_same, pup_eq, pup_ne, ↓bd_of sp_X3_isIn, jq o1, jq o2, ↓rI87_1, hC.sort k hk, e, jp o3]
                  simp [o3, b01]
                · simp (disch := first | omega | assumption) only [↓bd_rt, ↓bd_bd, ↓bd_ite, ↓bd_jn, ↓jn_ap, ↓ite_ap, ↓bd_gI1, ↓bd_pI1, ↓bd_gR1, ↓bd_pR1, ↓bd_gM, rt_ap, ↓reduceIte, iN_div, iN_divL, iN_add, iN_mul, iN_addL, iN_Ladd, iN_mulL, iN_Lmul, iN_subL, iN_sub, iN_le_T, iN_le_F, iN_lt_T, iN_lt_F, iN_eq_F, iN_leL_T, iN_leL_F, iN_Lle_T, iN_Lle_F, iN_ltL_T, iN_ltL_F, iN_Llt_T, iN_Llt_F, iN_eqL_T, iN_eqL_F, iN_m1, m1_iN, iN_le_m1, m1_le_iN, iN_neg, iN_pos, i10, i01, i00, i11, u3_op, u3_or, u3_same, pup_eq, pup_ne, ↓bd_of sp_X3_isIn, jq o1, jq o2, ↓rI87_1, hC.sort k hk, e, jq o3]
                  simp [o1, o2, o3, b01]
      rw [key2]
      rotate_left
      · intro h2s
        by_cases c2 : cr.sort k = 2
        · rw [if_pos c2, c2]
        · have c3 : cr.sort k = 3 := by omega
          rw [if_neg c2, c3]
          have hb : gearB 3 a2 a3 a4 = (decide (a2 = 0) && (decide (a3 = 0) && decide (a4 = 0))) := rfl
          rw [hb]
          unfold z5S
          by_cases o1 : a2 = 0 <;> by_cases o2 : a3 = 0 <;> by_cases o3 : a4 = 0 <;> simp [o1, o2, o3, b01]
      cases q : gearB (cr.sort k) a2 a3 a4
      · rw [show gearS cr (iN k) a2 a3 a4 = (0, cr) by unfold gearS; rw [if_pos h1, en, if_neg h2, q]; rfl, b01_f, if_pos rfl, rt_ap]
        exact Rs.mk ⟨rfl, hC⟩
      · rw [show gearS cr (iN k) a2 a3 a4 = (1, setG cr k a2.toNatClampNeg a3.toNatClampNeg a4.toNatClampNeg) by unfold gearS; rw [if_pos h1, en, if_neg h2, q]; rfl, b01_t, if_neg (by decide)]
        obtain ⟨x, y, z, rfl, rfl, rfl, hx, hy, hz, _⟩ := gear_ex hsk q
        rw [wI91_1 (by omega), wI92_1 (by omega), wI93_1 (by omega), rt_ap, iN_nat (by omega), iN_nat (by omega), iN_nat (by omega)]
        exact Rs.mk ⟨rfl, hC.gear⟩
  · rw [show gearS cr a1 a2 a3 a4 = (0, cr) by unfold gearS; rw [if_neg h1], iq h1, if_pos rfl, rt_ap]
    exact Rs.mk ⟨rfl, hC⟩
