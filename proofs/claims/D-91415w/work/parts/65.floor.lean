/-! PURE: a floor is furnished; a new house -/
theorem RCho.furn {c : CHo} {φ : amSh} {S : amSt} (hR : RCho c φ S) {x f : Nat} (hf : f < 6) {v p : Int32} : RCho (furnC c x f v p) φ (u3 (u3 S.1 144 (x + 1) f v) 143 (x + 1) f p, S.2) := by
  refine RCho.mk ?_ hR.obj ?_ ?_ ?_ ?_ ?_ ?_ ?_ ?_ ?_ ?_ ?_ ?_ ?_ ?_ hR.stg hR.stb hR.stc hR.cnt hR.cnb
  · refine Eq.trans ?_ hR.n; simp [u3]
  · intro j hj; refine Eq.trans ?_ (hR.cor j hj); simp [u3]
  · intro j hj; refine Eq.trans ?_ (hR.kind j hj); simp [u3]
  · intro j hj; refine Eq.trans ?_ (hR.fl j hj); simp [u3]
  · intro j hj; refine Eq.trans ?_ (hR.wd j hj); simp [u3]
  · intro j hj; refine Eq.trans ?_ (hR.sh j hj); simp [u3]
  · intro j hj; refine Eq.trans ?_ (hR.dr j hj); simp [u3]
  · intro j hj; refine Eq.trans ?_ (hR.wl j hj); simp [u3]
  · intro j hj; refine Eq.trans ?_ (hR.yr j hj); simp [u3]
  · intro j hj; refine Eq.trans ?_ (hR.use j hj); simp [u3]
  · intro j hj; refine Eq.trans ?_ (hR.sav j hj); simp [u3]
  · intro j hj; refine Eq.trans ?_ (hR.lost j hj); simp [u3]
  · intro j hj; refine Eq.trans ?_ (hR.gal j hj); simp [u3]
  · intro j g hj hg; show _ = pup c.ppl (6 * x + f) p (6 * j + g); by_cases e : j = x ∧ g = f
    · obtain ⟨rfl, rfl⟩ := e; simp [u3, pup]
    · rw [pup_ne (by omega)]; refine Eq.trans ?_ (hR.ppl j g hj hg); simp [u3]; intro a b; exact absurd ⟨a, b⟩ e
  · intro j g hj hg; show _ = pup c.told (6 * x + f) v (6 * j + g); by_cases e : j = x ∧ g = f
    · obtain ⟨rfl, rfl⟩ := e; simp [u3, pup]
    · rw [pup_ne (by omega)]; refine Eq.trans ?_ (hR.told j g hj hg); simp [u3]; intro a b; exact absurd ⟨a, b⟩ e
theorem RMho.furn {c : CHo} {S : amSt} (hR : RMho c S) {x f : Nat} {v p : Int32} : RMho (furnC c x f v p) (u3 (u3 S.1 81 1 (6 * x + f) v) 80 1 (6 * x + f) p, S.2) := by
  refine RMho.mk ?_ ?_ ?_ ?_ ?_ ?_ ?_ ?_ ?_ ?_ ?_ ?_ ?_ ?_ ?_
  · refine Eq.trans ?_ hR.n; simp [u3]
  · intro j hj; refine Eq.trans ?_ (hR.cor j hj); simp [u3]
  · intro j hj; refine Eq.trans ?_ (hR.kind j hj); simp [u3]
  · intro j hj; refine Eq.trans ?_ (hR.fl j hj); simp [u3]
  · intro j hj; refine Eq.trans ?_ (hR.wd j hj); simp [u3]
  · intro j hj; refine Eq.trans ?_ (hR.sh j hj); simp [u3]
  · intro j hj; refine Eq.trans ?_ (hR.wl j hj); simp [u3]
  · intro j hj; refine Eq.trans ?_ (hR.yr j hj); simp [u3]
  · intro j hj; refine Eq.trans ?_ (hR.use j hj); simp [u3]
  · intro j hj; refine Eq.trans ?_ (hR.sav j hj); simp [u3]
  · intro j hj; refine Eq.trans ?_ (hR.lost j hj); simp [u3]
  · intro j hj; refine Eq.trans ?_ (hR.gal j hj); simp [u3]
  · intro j hj; refine Eq.trans ?_ (hR.dr j hj); simp [u3]
  · intro j hj; show _ = pup c.ppl (6 * x + f) p j; by_cases e : j = 6 * x + f
    · subst e; simp [u3, pup]
    · rw [pup_ne e]; refine Eq.trans ?_ (hR.ppl j hj); simp [u3, e]
  · intro j hj; show _ = pup c.told (6 * x + f) v j; by_cases e : j = 6 * x + f
    · subst e; simp [u3, pup]
    · rw [pup_ne e]; refine Eq.trans ?_ (hR.told j hj); simp [u3, e]
theorem op_X1_floor {c : CHo} (w : c.WF) {b : CBz} {ca : CCa} (wa : ca.WF) {φ : amSh} {S : amSt} (hφ : φ.1 255 ≠ 0) (hR : RCho c φ S) (hb : RCbk b c.n false S) (hA : RCca ca φ S) {a1 a2 a3 a4 : Int32} :
    Rs (fun v S' => v = (floorS c b ca a1 a2 a3 a4).1 ∧ RCho (floorS c b ca a1 a2 a3 a4).2.1 φ S' ∧ RCbk (floorS c b ca a1 a2 a3 a4).2.2.1 c.n false S' ∧ RCca (floorS c b ca a1 a2 a3 a4).2.2.2 φ S') (p_X1_floor a1 a2 a3 a4 φ S) := by
  have hn := w.hn
  unfold p_X1_floor
  by_cases h : isFl c a1 a2
  · by_cases h3 : out a3 0 500
    · rw [show floorS c b ca a1 a2 a3 a4 = (0, c, b, ca) by unfold floorS; rw [if_pos h, if_pos h3]]
      simp (disch := first | omega | assumption) only [↓bd_rt, ↓bd_bd, ↓bd_ite, ↓bd_jn, ↓jn_ap, ↓ite_ap, ↓bd_gI1, ↓bd_pI1, ↓bd_gR1, ↓bd_pR1, ↓bd_gM, rt_ap, ↓reduceIte, iN_div, iN_divL, iN_add, iN_mul, iN_addL, iN_Ladd, iN_mulL, iN_Lmul, iN_subL, iN_sub, iN_le_T, iN_le_F, iN_lt_T, iN_lt_F, iN_eq_F, iN_leL_T, iN_leL_F, iN_Lle_T, iN_Lle_F, iN_ltL_T, iN_ltL_F, iN_Llt_T, iN_Llt_F, iN_eqL_T, iN_eqL_F, iN_m1, m1_iN, iN_le_m1, m1_le_iN, iN_neg, iN_pos, i10, i01, i00, i11, u3_op, u3_or, u3_same, pup_eq, pup_ne, ↓bd_of (sp_X1_isFloor w hφ hR), ip h, ↓bd_of sp_X1_in, jp h3]
      exact Rs.mk ⟨rfl, hR, hb, hA⟩
    · by_cases h4 : out a4 0 20
      · rw [show floorS c b ca a1 a2 a3 a4 = (0, c, b, ca) by unfold floorS; rw [if_pos h, if_neg h3, if_pos h4]]
        simp (disch := first | omega | assumption) only [↓bd_rt, ↓bd_bd, ↓bd_ite, ↓bd_jn, ↓jn_ap, ↓ite_ap, ↓bd_gI1, ↓bd_pI1, ↓bd_gR1, ↓bd_pR1, ↓bd_gM, rt_ap, ↓reduceIte, iN_div, iN_divL, iN_add, iN_mul, iN_addL, iN_Ladd, iN_mulL, iN_Lmul, iN_subL, iN_sub, iN_le_T, iN_le_F, iN_lt_T, iN_lt_F, iN_eq_F, iN_leL_T, iN_leL_F, iN_Lle_T, iN_Lle_F, iN_ltL_T, iN_ltL_F, iN_Llt_T, iN_Llt_F, iN_eqL_T, iN_eqL_F, iN_m1, m1_iN, iN_le_m1, m1_le_iN, iN_neg, iN_pos, i10, i01, i00, i11, u3_op, u3_or, u3_same, pup_eq, pup_ne, ↓bd_of (sp_X1_isFloor w hφ hR), ip h, ↓bd_of sp_X1_in, jq h3, jp h4]
        exact Rs.mk ⟨rfl, hR, hb, hA⟩
      · have hh := h
        obtain ⟨x, f, hx, hf, rfl, rfl⟩ := isFl.ex w h
        have hfl := w.fl x hx
        have hst := hR.stb x hx
        have hst3 := hR.stg x hx
        have hbx : RCb1 b x (2 * (x + 1) - 1) S := hb x hx
        have ex : (iN x).toNatClampNeg = x := iN_nat (by omega)
        have ef : (iN f).toNatClampNeg = f := iN_nat (by omega)
        have g2 := fun {β : Type} {f : Unit → am0 β} {S : amSt} => bd_gC (f := f) (S := S) (show x + 1 ≠ 0 by omega) (show 2 < φ.2.1 3 (x + 1) by omega)
        have g1 := fun {β : Type} {f : Unit → am0 β} {S : amSt} => bd_gC (f := f) (S := S) (show x + 1 ≠ 0 by omega) (show 1 < φ.2.1 3 (x + 1) by omega)
        have g0 := fun {β : Type} {f : Unit → am0 β} {S : amSt} => bd_gC (f := f) (S := S) (show x + 1 ≠ 0 by omega) (show 0 < φ.2.1 3 (x + 1) by omega)
        have g4 := fun {β : Type} {f : Unit → am0 β} {S : amSt} => bd_gC (f := f) (S := S) (show 2 * (x + 1) - 1 ≠ 0 by omega) (show 4 < φ.2.1 4 (2 * (x + 1) - 1) by omega)
        by_cases cf : b.fal (6 * x + f) = 0
        · rw [show floorS c b ca (iN x) (iN f) a3 a4 = (1, furnC c x f a3 a4, furn c b x f a3, notS (furnC c x f a3 a4) (furn c b x f a3) ca) by unfold floorS; rw [if_pos h, if_neg h3, if_neg h4, ex, ef, if_pos cf]]
          simp (disch := first | omega | assumption) only [↓bd_rt, ↓bd_bd, ↓bd_ite, ↓bd_jn, ↓jn_ap, ↓ite_ap, ↓bd_gI1, ↓bd_pI1, ↓bd_gR1, ↓bd_pR1, ↓bd_gM, rt_ap, ↓reduceIte, iN_div, iN_divL, iN_add, iN_mul, iN_addL, iN_Ladd, iN_mulL, iN_Lmul, iN_subL, iN_sub, iN_le_T, iN_le_F, iN_lt_T, iN_lt_F, iN_eq_F, iN_leL_T, iN_leL_F, iN_Lle_T, iN_Lle_F, iN_ltL_T, iN_ltL_F, iN_Llt_T, iN_Llt_F, iN_eqL_T, iN_eqL_F, iN_m1, m1_iN, iN_le_m1, m1_le_iN, iN_neg, iN_pos, i10, i01, i00, i11, u3_op, u3_or, u3_same, pup_eq, pup_ne, ↓bd_of (sp_X1_isFloor w hφ hR), ip hh, ↓bd_of sp_X1_in, jq h3, jq h4, ↓rR24_1, hR.obj x hx, ↓g2, ↓g4, ↓rI149, hbx.fal f (by omega), cf, if_true]
          refine bdRF (L := [146]) (Fr.halp (fun rec hrec x => fr_p_X1_floor_L61 (by decide) hrec x) _ _) (sp_X1_floor_L61 w hR hb (v := a3) hx hf) fun _ S1 h1 hF1 => ?_
          simp (disch := first | omega | assumption) only [↓bd_rt, ↓bd_bd, ↓bd_ite, ↓bd_jn, ↓jn_ap, ↓ite_ap, ↓bd_gI1, ↓bd_pI1, ↓bd_gR1, ↓bd_pR1, ↓bd_gM, rt_ap, ↓reduceIte, iN_div, iN_divL, iN_add, iN_mul, iN_addL, iN_Ladd, iN_mulL, iN_Lmul, iN_subL, iN_sub, iN_le_T, iN_le_F, iN_lt_T, iN_lt_F, iN_eq_F, iN_leL_T, iN_leL_F, iN_Lle_T, iN_Lle_F, iN_ltL_T, iN_ltL_F, iN_Llt_T, iN_Llt_F, iN_eqL_T, iN_eqL_F, iN_m1, m1_iN, iN_le_m1, m1_le_iN, iN_neg, iN_pos, i10, i01, i00, i11, u3_op, u3_or, u3_same, pup_eq, pup_ne, ↓g1, ↓g0, ↓wI144, ↓wI143]
          have hf2 : FrS [143, 144] S1 (u3 (u3 S1.1 144 (x + 1) f a3) 143 (x + 1) f a4, S1.2) := fun p r j hk => by
            have k1 : ¬ (p = 143) := fun e => by subst e; exact hk (kyA (by decide) (by decide) (by decide) _)
            have k3 : ¬ (p = 144) := fun e => by subst e; exact hk (kyA (by decide) (by decide) (by decide) _)
            refine ⟨?_, rfl, rfl⟩
            simp only [u3_op k1, u3_op k3]
          have hR2 := h1.1.furn (x := x) (f := f) (by omega) (v := a3) (p := a4)
          have hb2 := h1.2.fr hf2 (by decide)
          refine bdRF fr_p_X1_notice (sp_X1_notice (furnC_WF w hx (by omega)) wa hφ hR2 hb2 ((hA.fr hF1 (by decide)).fr hf2 (by decide))) fun _ S2 h2 hF => ?_
          exact Rs.mk ⟨rfl, hR2.fr hF (by decide), hb2.fr hF (by decide), h2⟩
        · rw [show floorS c b ca (iN x) (iN f) a3 a4 = (0, c, b, ca) by unfold floorS; rw [if_pos h, if_neg h3, if_neg h4, ex, ef, if_neg cf]]
          simp (disch := first | omega | assumption) only [↓bd_rt, ↓bd_bd, ↓bd_ite, ↓bd_jn, ↓jn_ap, ↓ite_ap, ↓bd_gI1, ↓bd_pI1, ↓bd_gR1, ↓bd_pR1, ↓bd_gM, rt_ap, ↓reduceIte, iN_div, iN_divL, iN_add, iN_mul, iN_addL, iN_Ladd, iN_mulL, iN_Lmul, iN_subL, iN_sub, iN_le_T, iN_le_F, iN_lt_T, iN_lt_F, iN_eq_F, iN_leL_T, iN_leL_F, iN_Lle_T, iN_Lle_F, iN_ltL_T, iN_ltL_F, iN_Llt_T, iN_Llt_F, iN_eqL_T, iN_eqL_F, iN_m1, m1_iN, iN_le_m1, m1_le_iN, iN_neg, iN_pos, i10, i01, i00, i11, u3_op, u3_or, u3_same, pup_eq, pup_ne, ↓bd_of (sp_X1_isFloor w hφ hR), ip hh, ↓bd_of sp_X1_in, jq h3, jq h4, ↓rR24_1, hR.obj x hx, ↓g2, ↓g4, ↓rI149, hbx.fal f (by omega), if_neg cf]
          exact Rs.mk ⟨rfl, hR, hb, hA⟩
  · rw [show floorS c b ca a1 a2 a3 a4 = (0, c, b, ca) by unfold floorS; rw [if_neg h]]
    simp (disch := first | omega | assumption) only [↓bd_rt, ↓bd_bd, ↓bd_ite, ↓bd_jn, ↓jn_ap, ↓ite_ap, ↓bd_gI1, ↓bd_pI1, ↓bd_gR1, ↓bd_pR1, ↓bd_gM, rt_ap, ↓reduceIte, iN_div, iN_divL, iN_add, iN_mul, iN_addL, iN_Ladd, iN_mulL, iN_Lmul, iN_subL, iN_sub, iN_le_T, iN_le_F, iN_lt_T, iN_lt_F, iN_eq_F, iN_leL_T, iN_leL_F, iN_Lle_T, iN_Lle_F, iN_ltL_T, iN_ltL_F, iN_Llt_T, iN_Llt_F, iN_eqL_T, iN_eqL_F, iN_m1, m1_iN, iN_le_m1, m1_le_iN, iN_neg, iN_pos, i10, i01, i00, i11, u3_op, u3_or, u3_same, pup_eq, pup_ne, ↓bd_of (sp_X1_isFloor w hφ hR), iq h]
    exact Rs.mk ⟨rfl, hR, hb, hA⟩
theorem op_X3_floor {c : CHo} (w : c.WF) {b : CBz} {ca : CCa} (wa : ca.WF) (hkp : keptA c b ca) {φ : amSh} {S : amSt} (hφ : φ.1 255 ≠ 0) (hR0 : RMho c S) (hb0 : RMbz b S) (hA0 : RMca ca S) {a1 a2 a3 a4 : Int32} :
    Rs (fun v S' => v = (floorS c b ca a1 a2 a3 a4).1 ∧ RMho (floorS c b ca a1 a2 a3 a4).2.1 S' ∧ RMbz (floorS c b ca a1 a2 a3 a4).2.2.1 S' ∧ RMca (floorS c b ca a1 a2 a3 a4).2.2.2 S') (p_X3_floor a1 a2 a3 a4 φ S) := by
  have hn := w.hn
  have hR := hR0.fr th0 (by decide)
  have hb := hb0.fr th0 (by decide)
  have hA := hA0.fr th0 (by decide)
  unfold p_X3_floor
  rw [bd_gM hφ, bd_pI1]
  generalize hS1 : ((u3 S.1 1 1 0 0, S.2) : amSt) = S1 at *
  by_cases h : isFl c a1 a2
  · by_cases h3 : out a3 0 500
    · rw [show floorS c b ca a1 a2 a3 a4 = (0, c, b, ca) by unfold floorS; rw [if_pos h, if_pos h3]]
      simp (disch := first | omega | assumption) only [↓bd_rt, ↓bd_bd, ↓bd_ite, ↓bd_jn, ↓jn_ap, ↓ite_ap, ↓bd_gI1, ↓bd_pI1, ↓bd_gR1, ↓bd_pR1, ↓bd_gM, rt_ap, ↓reduceIte, iN_div, iN_divL, iN_add, iN_mul, iN_addL, iN_Ladd, iN_mulL, iN_Lmul, iN_subL, iN_sub, iN_le_T, iN_le_F, iN_lt_T, iN_lt_F, iN_eq_F, iN_leL_T, iN_leL_F, iN_Lle_T, iN_Lle_F, iN_ltL_T, iN_ltL_F, iN_Llt_T, iN_Llt_F, iN_eqL_T, iN_eqL_F, iN_m1, m1_iN, iN_le_m1, m1_le_iN, iN_neg, iN_pos, i10, i01, i00, i11, u3_op, u3_or, u3_same, pup_eq, pup_ne, ↓bd_of (sp_X3_isFloor w hφ hR), ip h, ↓bd_of sp_X3_isIn, jp h3]
      exact Rs.mk ⟨rfl, hR, hb, hA⟩
    · by_cases h4 : out a4 0 20
      · rw [show floorS c b ca a1 a2 a3 a4 = (0, c, b, ca) by unfold floorS; rw [if_pos h, if_neg h3, if_pos h4]]
        simp (disch := first | omega | assumption) only [↓bd_rt, ↓bd_bd, ↓bd_ite, ↓bd_jn, ↓jn_ap, ↓ite_ap, ↓bd_gI1, ↓bd_pI1, ↓bd_gR1, ↓bd_pR1, ↓bd_gM, rt_ap, ↓reduceIte, iN_div, iN_divL, iN_add, iN_mul, iN_addL, iN_Ladd, iN_mulL, iN_Lmul, iN_subL, iN_sub, iN_le_T, iN_le_F, iN_lt_T, iN_lt_F, iN_eq_F, iN_leL_T, iN_leL_F, iN_Lle_T, iN_Lle_F, iN_ltL_T, iN_ltL_F, iN_Llt_T, iN_Llt_F, iN_eqL_T, iN_eqL_F, iN_m1, m1_iN, iN_le_m1, m1_le_iN, iN_neg, iN_pos, i10, i01, i00, i11, u3_op, u3_or, u3_same, pup_eq, pup_ne, ↓bd_of (sp_X3_isFloor w hφ hR), ip h, ↓bd_of sp_X3_isIn, jq h3, jp h4]
        exact Rs.mk ⟨rfl, hR, hb, hA⟩
      · have hh := h
        obtain ⟨x, f, hx, hf, rfl, rfl⟩ := isFl.ex w h
        have hfl := w.fl x hx
        have ex : (iN x).toNatClampNeg = x := iN_nat (by omega)
        have ef : (iN f).toNatClampNeg = f := iN_nat (by omega)
        by_cases cf : b.fal (6 * x + f) = 0
        · rw [show floorS c b ca (iN x) (iN f) a3 a4 = (1, furnC c x f a3 a4, furn c b x f a3, notS (furnC c x f a3 a4) (furn c b x f a3) ca) by unfold floorS; rw [if_pos h, if_neg h3, if_neg h4, ex, ef, if_pos cf]]
          simp (disch := first | omega | assumption) only [↓bd_rt, ↓bd_bd, ↓bd_ite, ↓bd_jn, ↓jn_ap, ↓ite_ap, ↓bd_gI1, ↓bd_pI1, ↓bd_gR1, ↓bd_pR1, ↓bd_gM, rt_ap, ↓reduceIte, iN_div, iN_divL, iN_add, iN_mul, iN_addL, iN_Ladd, iN_mulL, iN_Lmul, iN_subL, iN_sub, iN_le_T, iN_le_F, iN_lt_T, iN_lt_F, iN_eq_F, iN_leL_T, iN_leL_F, iN_Lle_T, iN_Lle_F, iN_ltL_T, iN_ltL_F, iN_Llt_T, iN_Llt_F, iN_eqL_T, iN_eqL_F, iN_m1, m1_iN, iN_le_m1, m1_le_iN, iN_neg, iN_pos, i10, i01, i00, i11, u3_op, u3_or, u3_same, pup_eq, pup_ne, ↓bd_of (sp_X3_isFloor w hφ hR), ip hh, ↓bd_of sp_X3_isIn, jq h3, jq h4, ↓rI82_1, hb.fal (6 * x + f) (by omega), cf, if_true]
          refine bdRF (L := [75]) (Fr.halp (fun rec hrec x => fr_p_X3_floor_L55 (by decide) hrec x) _ _) (sp_X3_floor_L55 w hR hb (v := a3) hx hf) fun _ S2 h1 hF1 => ?_
          have hR2 := h1.1.furn (x := x) (f := f) (v := a3) (p := a4)
          have hcor : (furnC c x f a3 a4).cor x = c.cor x := rfl
          have e62 := hR2.cor x hx
          simp (disch := first | omega | assumption) only [↓bd_rt, ↓bd_bd, ↓bd_ite, ↓bd_jn, ↓jn_ap, ↓ite_ap, ↓bd_gI1, ↓bd_pI1, ↓bd_gR1, ↓bd_pR1, ↓bd_gM, rt_ap, ↓reduceIte, iN_div, iN_divL, iN_add, iN_mul, iN_addL, iN_Ladd, iN_mulL, iN_Lmul, iN_subL, iN_sub, iN_le_T, iN_le_F, iN_lt_T, iN_lt_F, iN_eq_F, iN_leL_T, iN_leL_F, iN_Lle_T, iN_Lle_F, iN_ltL_T, iN_ltL_F, iN_Llt_T, iN_Llt_F, iN_eqL_T, iN_eqL_F, iN_m1, m1_iN, iN_le_m1, m1_le_iN, iN_neg, iN_pos, i10, i01, i00, i11, u3_op, u3_or, u3_same, pup_eq, pup_ne, ↓wI81_1, ↓wI80_1, ↓rI62_1, h1.1.cor x hx]
          have hf2 : FrS [80, 81] S2 (u3 (u3 S2.1 81 1 (6 * x + f) a3) 80 1 (6 * x + f) a4, S2.2) := fun p r j hk => by
            have k1 : ¬ (p = 80) := fun e => by subst e; exact hk (kyA (by decide) (by decide) (by decide) _)
            have k3 : ¬ (p = 81) := fun e => by subst e; exact hk (kyA (by decide) (by decide) (by decide) _)
            refine ⟨?_, rfl, rfl⟩
            simp only [u3_op k1, u3_op k3]
          have hb2 := h1.2.fr hf2 (by decide)
          refine bdRF (fr_p_X3_mark _) (sp_X3_mark (furnC_WF w hx (by omega)) wa hφ hR2 hb2 ((hA.fr hF1 (by decide)).fr hf2 (by decide)) (w.cor x hx) (furn_kept w hkp hx hf)) fun _ S3 h2 hF => ?_
          exact Rs.mk ⟨rfl, hR2.fr hF (by decide), hb2.fr hF (by decide), h2⟩
        · rw [show floorS c b ca (iN x) (iN f) a3 a4 = (0, c, b, ca) by unfold floorS; rw [if_pos h, if_neg h3, if_neg h4, ex, ef, if_neg cf]]
          simp (disch := first | omega | assumption) only [↓bd_rt, ↓bd_bd, ↓bd_ite, ↓bd_jn, ↓jn_ap, ↓ite_ap, ↓bd_gI1, ↓bd_pI1, ↓bd_gR1, ↓bd_pR1, ↓bd_gM, rt_ap, ↓reduceIte, iN_div, iN_divL, iN_add, iN_mul, iN_addL, iN_Ladd, iN_mulL, iN_Lmul, iN_subL, iN_sub, iN_le_T, iN_le_F, iN_lt_T, iN_lt_F, iN_eq_F, iN_leL_T, iN_leL_F, iN_Lle_T, iN_Lle_F, iN_ltL_T, iN_ltL_F, iN_Llt_T, iN_Llt_F, iN_eqL_T, iN_eqL_F, iN_m1, m1_iN, iN_le_m1, m1_le_iN, iN_neg, iN_pos, i10, i01, i00, i11, u3_op, u3_or, u3_same, pup_eq, pup_ne, ↓bd_of (sp_X3_isFloor w hφ hR), ip hh, ↓bd_of sp_X3_isIn, jq h3, jq h4, ↓rI82_1, hb.fal (6 * x + f) (by omega), if_neg cf]
          exact Rs.mk ⟨rfl, hR, hb, hA⟩
  · rw [show floorS c b ca a1 a2 a3 a4 = (0, c, b, ca) by unfold floorS; rw [if_neg h]]
    simp (disch := first | omega | assumption) only [↓bd_rt, ↓bd_bd, ↓bd_ite, ↓bd_jn, ↓jn_ap, ↓ite_ap, ↓bd_gI1, ↓bd_pI1, ↓bd_gR1, ↓bd_pR1, ↓bd_gM, rt_ap, ↓reduceIte, iN_div, iN_divL, iN_add, iN_mul, iN_addL, iN_Ladd, iN_mulL, iN_Lmul, iN_subL, iN_sub, iN_le_T, iN_le_F, iN_lt_T, iN_lt_F, iN_eq_F, iN_leL_T, iN_leL_F, iN_Lle_T, iN_Lle_F, iN_ltL_T, iN_ltL_F, iN_Llt_T, iN_Llt_F, iN_eqL_T, iN_eqL_F, iN_m1, m1_iN, iN_le_m1, m1_le_iN, iN_neg, iN_pos, i10, i01, i00, i11, u3_op, u3_or, u3_same, pup_eq, pup_ne, ↓bd_of (sp_X3_isFloor w hφ hR), iq h]
    exact Rs.mk ⟨rfl, hR, hb, hA⟩
/-! a new house -/
def houseC (c : CHo) (cor : Nat) (kind : Int32) (fl wd : Nat) (sh : Int32) : CHo :=
  CHo.mk (c.n + 1) (pup c.cor c.n cor) (pup c.kind c.n kind) (pup c.fl c.n fl) (pup c.wd c.n wd) (pup c.sh c.n sh) c.dr c.wl (pup c.yr c.n 1) c.use c.sav c.lost c.gal c.ppl c.told
def houseS (c : CHo) (a1 a2 a3 a4 a5 : Int32) : Int32 × CHo :=
  if inN a1 20 then if out a2 0 2 then (-1, c) else if out a3 1 6 then (-1, c) else if out a4 1 4 then (-1, c) else if out a5 (-1) (a4 - 1) then (-1, c) else if c.n = 12 then (-1, c) else
    (iN c.n, houseC c a1.toNatClampNeg a2 a3.toNatClampNeg a4.toNatClampNeg a5) else (-1, c)
theorem houseC_WF {c : CHo} (w : c.WF) {cor fl wd : Nat} {kind sh : Int32} (hc : c.n ≠ 12) (h1 : cor < 20) (h2 : 1 ≤ fl ∧ fl ≤ 6) (h3 : 1 ≤ wd ∧ wd ≤ 4) : (houseC c cor kind fl wd sh).WF := by
  have hn := w.hn
  refine CHo.WF.mk (show c.n + 1 ≤ 12 by omega) ?_ ?_ ?_ w.wl ?_ ?_
  · intro h hh
    have hh : h < c.n + 1 := hh
    show pup c.cor c.n cor h < 20
    unfold pup; split
    · exact h1
    · exact w.cor h (by omega)
  · intro h hh
    have hh : h < c.n + 1 := hh
    show 1 ≤ pup c.fl c.n fl h ∧ pup c.fl c.n fl h ≤ 6
    unfold pup; split
    · exact h2
    · exact w.fl h (by omega)
  · intro h hh
    have hh : h < c.n + 1 := hh
    show 1 ≤ pup c.wd c.n wd h ∧ pup c.wd c.n wd h ≤ 4
    unfold pup; split
    · exact h3
    · exact w.wd h (by omega)
  · intro h hh; exact w.z h (by have : c.n + 1 ≤ h := hh; omega)
  · intro k hk; exact w.zf k (by have : 6 * (c.n + 1) ≤ k := hk; omega)
theorem op_X3_house {c : CHo} (w : c.WF) {φ : amSh} {S : amSt} (hφ : φ.1 255 ≠ 0) (hR0 : RMho c S) {a1 a2 a3 a4 a5 : Int32} : Rs (fun v S' => v = (houseS c a1 a2 a3 a4 a5).1 ∧ RMho (houseS c a1 a2 a3 a4 a5).2 S' ∧ (houseS c a1 a2 a3 a4 a5).2.WF) (p_X3_house a1 a2 a3 a4 a5 φ S) := by
  have hn := w.hn
  have hR := hR0.fr th0 (by decide)
  have h9 := hR0.n
  unfold p_X3_house
  by_cases h0 : c.n = 12
  · rw [show houseS c a1 a2 a3 a4 a5 = (-1, c) by unfold houseS; repeat' split
                                                  all_goals simp_all]
    simp (disch := first | omega | assumption) only [↓bd_rt, ↓bd_bd, ↓bd_ite, ↓bd_jn, ↓jn_ap, ↓ite_ap, ↓bd_gI1, ↓bd_pI1, ↓bd_gR1, ↓bd_pR1, ↓bd_gM, rt_ap, ↓reduceIte, iN_div, iN_divL, iN_add, iN_mul, iN_addL, iN_Ladd, iN_mulL, iN_Lmul, iN_subL, iN_sub, iN_le_T, iN_le_F, iN_lt_T, iN_lt_F, iN_eq_F, iN_leL_T, iN_leL_F, iN_Lle_T, iN_Lle_F, iN_ltL_T, iN_ltL_F, iN_Llt_T, iN_Llt_F, iN_eqL_T, iN_eqL_F, iN_m1, m1_iN, iN_le_m1, m1_le_iN, iN_neg, iN_pos, i10, i01, i00, i11, u3_op, u3_or, u3_same, pup_eq, pup_ne, h9]
    exact Rs.mk ⟨rfl, hR, w⟩
  by_cases h1 : inN a1 20
  · by_cases h2 : out a2 0 2
    · rw [show houseS c a1 a2 a3 a4 a5 = (-1, c) by unfold houseS; rw [if_pos h1, if_pos h2]]
      simp (disch := first | omega | assumption) only [↓bd_rt, ↓bd_bd, ↓bd_ite, ↓bd_jn, ↓jn_ap, ↓ite_ap, ↓bd_gI1, ↓bd_pI1, ↓bd_gR1, ↓bd_pR1, ↓bd_gM, rt_ap, ↓reduceIte, iN_div, iN_divL, iN_add, iN_mul, iN_addL, iN_Ladd, iN_mulL, iN_Lmul, iN_subL, iN_sub, iN_le_T, iN_le_F, iN_lt_T, iN_lt_F, iN_eq_F, iN_leL_T, iN_leL_F, iN_Lle_T, iN_Lle_F, iN_ltL_T, iN_ltL_F, iN_Llt_T, iN_Llt_F, iN_eqL_T, iN_eqL_F, iN_m1, m1_iN, iN_le_m1, m1_le_iN, iN_neg, iN_pos, i10, i01, i00, i11, u3_op, u3_or, u3_same, pup_eq, pup_ne, h9, ↓bd_of sp_X3_isCorner, ip h1, ↓bd_of sp_X3_isIn, jp h2]
      exact Rs.mk ⟨rfl, hR, w⟩
    by_cases h3 : out a3 1 6
    · rw [show houseS c a1 a2 a3 a4 a5 = (-1, c) by unfold houseS; rw [if_pos h1, if_neg h2, if_pos h3]]
      simp (disch := first | omega | assumption) only [↓bd_rt, ↓bd_bd, ↓bd_ite, ↓bd_jn, ↓jn_ap, ↓ite_ap, ↓bd_gI1, ↓bd_pI1, ↓bd_gR1, ↓bd_pR1, ↓bd_gM, rt_ap, ↓reduceIte, iN_div, iN_divL, iN_add, iN_mul, iN_addL, iN_Ladd, iN_mulL, iN_Lmul, iN_subL, iN_sub, iN_le_T, iN_le_F, iN_lt_T, iN_lt_F, iN_eq_F, iN_leL_T, iN_leL_F, iN_Lle_T, iN_Lle_F, iN_ltL_T, iN_ltL_F, iN_Llt_T, iN_Llt_F, iN_eqL_T, iN_eqL_F, iN_m1, m1_iN, iN_le_m1, m1_le_iN, iN_neg, iN_pos, i10, i01, i00, i11, u3_op, u3_or, u3_same, pup_eq, pup_ne, h9, ↓bd_of sp_X3_isCorner, ip h1, ↓bd_of sp_X3_isIn, jq h2, jp h3]
      exact Rs.mk ⟨rfl, hR, w⟩
    by_cases h4 : out a4 1 4
    · rw [show houseS c a1 a2 a3 a4 a5 = (-1, c) by unfold houseS; rw [if_pos h1, if_neg h2, if_neg h3, if_pos h4]]
      simp (disch := first | omega | assumption) only [↓bd_rt, ↓bd_bd, ↓bd_ite, ↓bd_jn, ↓jn_ap, ↓ite_ap, ↓bd_gI1, ↓bd_pI1, ↓bd_gR1, ↓bd_pR1, ↓bd_gM, rt_ap, ↓reduceIte, iN_div, iN_divL, iN_add, iN_mul, iN_addL, iN_Ladd, iN_mulL, iN_Lmul, iN_subL, iN_sub, iN_le_T, iN_le_F, iN_lt_T, iN_lt_F, iN_eq_F, iN_leL_T, iN_leL_F, iN_Lle_T, iN_Lle_F, iN_ltL_T, iN_ltL_F, iN_Llt_T, iN_Llt_F, iN_eqL_T, iN_eqL_F, iN_m1, m1_iN, iN_le_m1, m1_le_iN, iN_neg, iN_pos, i10, i01, i00, i11, u3_op, u3_or, u3_same, pup_eq, pup_ne, h9, ↓bd_of sp_X3_isCorner, ip h1, ↓bd_of sp_X3_isIn, jq h2, jq h3, jp h4]
      exact Rs.mk ⟨rfl, hR, w⟩
    by_cases h5 : out a5 (-1) (a4 - 1)
    · rw [show houseS c a1 a2 a3 a4 a5 = (-1, c) by unfold houseS; rw [if_pos h1, if_neg h2, if_neg h3, if_neg h4, if_pos h5]]
      simp (disch := first | omega | assumption) only [↓bd_rt, ↓bd_bd, ↓bd_ite, ↓bd_jn, ↓jn_ap, ↓ite_ap, ↓bd_gI1, ↓bd_pI1, ↓bd_gR1, ↓bd_pR1, ↓bd_gM, rt_ap, ↓reduceIte, iN_div, iN_divL, iN_add, iN_mul, iN_addL, iN_Ladd, iN_mulL, iN_Lmul, iN_subL, iN_sub, iN_le_T, iN_le_F, iN_lt_T, iN_lt_F, iN_eq_F, iN_leL_T, iN_leL_F, iN_Lle_T, iN_Lle_F, iN_ltL_T, iN_ltL_F, iN_Llt_T, iN_Llt_F, iN_eqL_T, iN_eqL_F, iN_m1, m1_iN, iN_le_m1, m1_le_iN, iN_neg, iN_pos, i10, i01, i00, i11, u3_op, u3_or, u3_same, pup_eq, pup_ne, h9, ↓bd_of sp_X3_isCorner, ip h1, ↓bd_of sp_X3_isIn, jq h2, jq h3, jq h4, jp h5]
      exact Rs.mk ⟨rfl, hR, w⟩
    obtain ⟨x, hx, rfl⟩ := h1.ex (by decide)
    obtain ⟨fl, rfl, f1, f2⟩ := not_out (lo := 1) (hi := 6) h3 (by decide) (by decide)
    obtain ⟨wd, rfl, w1, w2⟩ := not_out (lo := 1) (hi := 4) h4 (by decide) (by decide)
    rw [show houseS c (iN x) a2 (iN fl) (iN wd) a5 = (iN c.n, houseC c x a2 fl wd a5) by unfold houseS; rw [if_pos h1, if_neg h2, if_neg h3, if_neg h4, if_neg h5, if_neg h0, iN_nat (by omega), iN_nat (by omega), iN_nat (by omega)]]
    have h5' := jq h5
    simp (disch := first | omega | assumption) only [↓bd_rt, ↓bd_bd, ↓bd_jn, ↓jn_ap, ↓bd_gI1, ↓bd_pI1, ↓bd_gR1, ↓bd_pR1, ↓bd_gM, rt_ap, ↓reduceIte, iN_div, iN_divL, iN_add, iN_mul, iN_addL, iN_Ladd, iN_mulL, iN_Lmul, iN_subL, iN_sub, iN_le_T, iN_le_F, iN_lt_T, iN_lt_F, iN_eq_F, iN_leL_T, iN_leL_F, iN_Lle_T, iN_Lle_F, iN_ltL_T, iN_ltL_F, iN_Llt_T, iN_Llt_F, iN_eqL_T, iN_eqL_F, iN_m1, m1_iN, iN_le_m1, m1_le_iN, iN_neg, iN_pos, i10, i01, i00, i11, u3_op, u3_or, u3_same, pup_eq, pup_ne, h9, ↓bd_of sp_X3_isCorner, ip h1, if_false, ↓bd_of sp_X3_isIn, jq h2, jq h3, jq h4]
    rw [iN_subL (show (1 : Nat) ≤ wd from w1)] at h5'
    simp (disch := first | omega | assumption) only [↓bd_rt, ↓bd_bd, ↓bd_jn, ↓jn_ap, ↓bd_gI1, ↓bd_pI1, ↓bd_gR1, ↓bd_pR1, ↓bd_gM, rt_ap, ↓reduceIte, iN_div, iN_divL, iN_add, iN_mul, iN_addL, iN_Ladd, iN_mulL, iN_Lmul, iN_subL, iN_sub, iN_le_T, iN_le_F, iN_lt_T, iN_lt_F, iN_eq_F, iN_leL_T, iN_leL_F, iN_Lle_T, iN_Lle_F, iN_ltL_T, iN_ltL_F, iN_Llt_T, iN_Llt_F, iN_eqL_T, iN_eqL_F, iN_m1, m1_iN, iN_le_m1, m1_le_iN, iN_neg, iN_pos, i10, i01, i00, i11, u3_op, u3_or, u3_same, pup_eq, pup_ne, h9, h5', if_false, ↓wI62_1, ↓wI63_1, ↓wI64_1, ↓wI65_1, ↓wI66_1, ↓wI68_1, Nat.add_sub_cancel]
    refine Rs.mk ⟨rfl, ?_, houseC_WF w h0 hx ⟨f1, f2⟩ ⟨w1, w2⟩⟩
    have lt : ∀ {h : Nat}, h < (houseC c x a2 fl wd a5).n → h ≠ c.n → h < c.n := fun {h} hh hne => by have : h < c.n + 1 := hh; omega
    refine RMho.mk ?_ ?_ ?_ ?_ ?_ ?_ ?_ ?_ ?_ ?_ ?_ ?_ ?_ ?_ ?_
    · simp (disch := first | omega | assumption) only [↓bd_rt, ↓bd_bd, ↓bd_ite, ↓bd_jn, ↓jn_ap, ↓ite_ap, ↓bd_gI1, ↓bd_pI1, ↓bd_gR1, ↓bd_pR1, ↓bd_gM, rt_ap, ↓reduceIte, iN_div, iN_divL, iN_add, iN_mul, iN_addL, iN_Ladd, iN_mulL, iN_Lmul, iN_subL, iN_sub, iN_le_T, iN_le_F, iN_lt_T, iN_lt_F, iN_eq_F, iN_leL_T, iN_leL_F, iN_Lle_T, iN_Lle_F, iN_ltL_T, iN_ltL_F, iN_Llt_T, iN_Llt_F, iN_eqL_T, iN_eqL_F, iN_m1, m1_iN, iN_le_m1, m1_le_iN, iN_neg, iN_pos, i10, i01, i00, i11, u3_op, u3_or, u3_same, pup_eq, pup_ne]; rfl
    · intro j hj; show _ = iN (pup c.cor c.n x j); by_cases e : j = c.n
      · subst e; simp [u3, pup]
      · rw [pup_ne e]; refine Eq.trans ?_ (hR0.cor j (lt hj e)); simp [u3, e]
    · intro j hj; show _ = pup c.kind c.n a2 j; by_cases e : j = c.n
      · subst e; simp [u3, pup]
      · rw [pup_ne e]; refine Eq.trans ?_ (hR0.kind j (lt hj e)); simp [u3, e]
    · intro j hj; show _ = iN (pup c.fl c.n fl j); by_cases e : j = c.n
      · subst e; simp [u3, pup]
      · rw [pup_ne e]; refine Eq.trans ?_ (hR0.fl j (lt hj e)); simp [u3, e]
    · intro j hj; show _ = iN (pup c.wd c.n wd j); by_cases e : j = c.n
      · subst e; simp [u3, pup]
      · rw [pup_ne e]; refine Eq.trans ?_ (hR0.wd j (lt hj e)); simp [u3, e]
    · intro j hj; show _ = pup c.sh c.n a5 j; by_cases e : j = c.n
      · subst e; simp [u3, pup]
      · rw [pup_ne e]; refine Eq.trans ?_ (hR0.sh j (lt hj e)); simp [u3, e]
    · intro j hj; refine Eq.trans ?_ (hR0.wl j hj); simp [u3]
    · intro j hj; show _ = pup c.yr c.n 1 j; by_cases e : j = c.n
      · subst e; simp [u3, pup]
      · rw [pup_ne e]; refine Eq.trans ?_ (hR0.yr j (lt hj e)); simp [u3, e]
    · intro j hj; refine Eq.trans ?_ (hR0.use j hj); simp [u3]
    · intro j hj; refine Eq.trans ?_ (hR0.sav j hj); simp [u3]
    · intro j hj; refine Eq.trans ?_ (hR0.lost j hj); simp [u3]
    · intro j hj; refine Eq.trans ?_ (hR0.gal j hj); simp [u3]
    · intro j hj; refine Eq.trans ?_ (hR0.dr j hj); simp [u3]
    · intro j hj; refine Eq.trans ?_ (hR0.ppl j hj); simp [u3]
    · intro j hj; refine Eq.trans ?_ (hR0.told j hj); simp [u3]
  · rw [show houseS c a1 a2 a3 a4 a5 = (-1, c) by unfold houseS; rw [if_neg h1]]
    simp (disch := first | omega | assumption) only [↓bd_rt, ↓bd_bd, ↓bd_ite, ↓bd_jn, ↓jn_ap, ↓ite_ap, ↓bd_gI1, ↓bd_pI1, ↓bd_gR1, ↓bd_pR1, ↓bd_gM, rt_ap, ↓reduceIte, iN_div, iN_divL, iN_add, iN_mul, iN_addL, iN_Ladd, iN_mulL, iN_Lmul, iN_subL, iN_sub, iN_le_T, iN_le_F, iN_lt_T, iN_lt_F, iN_eq_F, iN_leL_T, iN_leL_F, iN_Lle_T, iN_Lle_F, iN_ltL_T, iN_ltL_F, iN_Llt_T, iN_Llt_F, iN_eqL_T, iN_eqL_F, iN_m1, m1_iN, iN_le_m1, m1_le_iN, iN_neg, iN_pos, i10, i01, i00, i11, u3_op, u3_or, u3_same, pup_eq, pup_ne, h9, ↓bd_of sp_X3_isCorner, iq h1]
    exact Rs.mk ⟨rfl, hR, w⟩
