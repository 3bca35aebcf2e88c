/-! PURE: a minute of fire, whole -/
theorem fdn_W {real : Bool} {h : Nat} : ∀ (m : Nat) (t : Tr), TW t → h < t.1.n → m < t.1.fl h → TW (fdn real h m t) ∧ alike t.1 (fdn real h m t).1 := by
  intro m
  induction m with
  | zero => intro t w _ _; exact ⟨w, alike.rf⟩
  | succ m ih =>
    intro t w hh hm
    have hfl := w.1.fl h hh
    have a := fallT_a (real := real) (h := h) (f := m + 1) (t := t)
    have := ih (fallT real h (m + 1) t) (fallT_W w hh (by omega)) (by rw [a.1]; exact hh) (by rw [a.2.2.2.1]; omega)
    exact ⟨this.1, a.tr this.2⟩
def fallsJ (real : Bool) (t : Tr) (j : Nat) : Tr := itn (fun h t => fdn real h (t.1.fl h - 1) t) t j
theorem fallsJ_W {real : Bool} {t : Tr} (w : TW t) : ∀ j, j ≤ t.1.n → TW (fallsJ real t j) ∧ alike t.1 (fallsJ real t j).1 := by
  intro j
  induction j with
  | zero => intro _; exact ⟨w, alike.rf⟩
  | succ j ih =>
    intro hj
    obtain ⟨w1, a1⟩ := ih (by omega)
    have hn : j < (fallsJ real t j).1.n := by rw [a1.1]; omega
    have hfl := w1.1.fl j hn
    have := fdn_W (real := real) (h := j) ((fallsJ real t j).1.fl j - 1) _ w1 hn (by omega)
    exact ⟨this.1, a1.tr this.2⟩
theorem sp_X1_change_L316 {cp : Bool} {φ : amSh} {S : amSt} (hφ : φ.1 255 ≠ 0) {t : Tr} (w : TW t) (hT : T1 cp φ t S) :
    Rs (fun _ S' => T1 cp φ (fallsS (!cp) t) S') (alp (p_X1_change_L316 (i32b cp)) amFu 0 φ S) := by
  have hn := w.1.hn
  refine alp_I (fun j x S' => x = iN j ∧ T1 cp φ (fallsJ (!cp) t j) S') t.1.n (amFu_lt (by omega)) ⟨rfl, hT⟩ ?_ ?_
  · rintro j x S1 hj ⟨rfl, hT⟩ rec
    obtain ⟨w1, a1⟩ := fallsJ_W (real := !cp) w j (by omega)
    have hnj : (fallsJ (!cp) t j).1.n = t.1.n := a1.1
    show Lz rec φ (fun x S' => x = iN (j + 1) ∧ T1 cp φ (fdn (!cp) j ((fallsJ (!cp) t j).1.fl j - 1) (fallsJ (!cp) t j)) S') _ _
    generalize fallsJ (!cp) t j = d at *
    have hR := hT.1
    have hh : j < d.1.n := by omega
    have hfl := w1.1.fl j hh
    unfold p_X1_change_L316
    have ez : (if i32b cp = 0 then (1 : Int32) else 0) = i32b (!cp) := by cases cp <;> rfl
    have ef : p_X1_fall (j + 1) (bnum cp j) (i32b (!cp)) φ S1 = bd (alp (p_X1_fall_L8 (j + 1) (bnum cp j) (i32b (!cp))) amFu (iN (d.1.fl j - 1))) (fun _ => rt ()) φ S1 := by
      unfold p_X1_fall
      simp (disch := first | omega | assumption) only [↓bd_rt, ↓bd_bd, ↓bd_ite, ↓bd_jn, ↓jn_ap, ↓ite_ap, ↓bd_gI1, ↓bd_pI1, ↓bd_gR1, ↓bd_pR1, ↓bd_gM, rt_ap, ↓reduceIte, iN_div, iN_divL, iN_add, iN_mul, iN_addL, iN_Ladd, iN_mulL, iN_Lmul, iN_subL, iN_sub, iN_le_T, iN_le_F, iN_lt_T, iN_lt_F, iN_eq_F, iN_leL_T, iN_leL_F, iN_Lle_T, iN_Lle_F, iN_ltL_T, iN_ltL_F, iN_Llt_T, iN_Llt_F, iN_eqL_T, iN_eqL_F, iN_m1, m1_iN, iN_le_m1, m1_le_iN, iN_neg, iN_pos, i10, i01, i00, i11, u3_op, u3_or, u3_same, pup_eq, pup_ne, ↓bd_gI, hR.fl j hh]
    have key : Rs (fun _ S' => T1 cp φ (fdn (!cp) j (d.1.fl j - 1) d) S') (p_X1_fall (j + 1) (bnum cp j) (i32b (!cp)) φ S1) := by
      rw [ef]
      exact bdR (sp_X1_fall_L8 hφ (d.1.fl j - 1) d S1 w1 hT hh (by omega) amFu (amFu_lt (by omega))) fun _ S2 h2 => Rs.mk h2
    simp (disch := first | omega | assumption) only [↓bd_rt, ↓bd_bd, ↓bd_jn, ↓jn_ap, ↓bd_gI1, ↓bd_pI1, ↓bd_gR1, ↓bd_pR1, ↓bd_gM, rt_ap, ↓reduceIte, iN_div, iN_divL, iN_add, iN_mul, iN_addL, iN_Ladd, iN_mulL, iN_Lmul, iN_subL, iN_sub, iN_le_T, iN_le_F, iN_lt_T, iN_lt_F, iN_eq_F, iN_leL_T, iN_leL_F, iN_Lle_T, iN_Lle_F, iN_ltL_T, iN_ltL_F, iN_Llt_T, iN_Llt_F, iN_eqL_T, iN_eqL_F, iN_m1, m1_iN, iN_le_m1, m1_le_iN, iN_neg, iN_pos, i10, i01, i00, i11, u3_op, u3_or, u3_same, pup_eq, pup_ne, hR.n, ite_ap, if_false, ↓rR24_1, hR.obj j hh, ↓bd_of (sp_X1_blazeOf hR hh cp)]
    refine (bdR (Q := fun v S2 => v = i32b (!cp) ∧ S2 = S1) ?_ fun v S2 hv => ?_)
    · cases cp <;> exact Rs.mk ⟨rfl, rfl⟩
    obtain ⟨rfl, rfl⟩ := hv
    refine bdR key fun _ S2 h2 => ?_
    exact Lz.go ⟨rfl, h2⟩
  · rintro x S1 ⟨rfl, hT⟩ rec
    obtain ⟨w1, a1⟩ := fallsJ_W (real := !cp) w t.1.n (by omega)
    have hR := hT.1
    have hnj : (fallsJ (!cp) t t.1.n).1.n = t.1.n := a1.1
    have hnn := hR.n
    rw [hnj] at hnn
    unfold p_X1_change_L316
    simp (disch := first | omega | assumption) only [↓bd_rt, ↓bd_bd, ↓bd_ite, ↓bd_jn, ↓jn_ap, ↓ite_ap, ↓bd_gI1, ↓bd_pI1, ↓bd_gR1, ↓bd_pR1, ↓bd_gM, rt_ap, ↓reduceIte, iN_div, iN_divL, iN_add, iN_mul, iN_addL, iN_Ladd, iN_mulL, iN_Lmul, iN_subL, iN_sub, iN_le_T, iN_le_F, iN_lt_T, iN_lt_F, iN_eq_F, iN_leL_T, iN_leL_F, iN_Lle_T, iN_Lle_F, iN_ltL_T, iN_ltL_F, iN_Llt_T, iN_Llt_F, iN_eqL_T, iN_eqL_F, iN_m1, m1_iN, iN_le_m1, m1_le_iN, iN_neg, iN_pos, i10, i01, i00, i11, u3_op, u3_or, u3_same, pup_eq, pup_ne, hnn]
    exact Rs.mk hT
/-- a minute of fire; the model leaves its water -/
def chgS (z : Bool) (t : Tr) : Tr := (t.1, bP t.1 t.2.1 z t.1.n 0, t.2.2)
theorem sp_X1_change {cp : Bool} {φ : amSh} {S : amSt} (hφ : φ.1 255 ≠ 0) {t : Tr} (w : TW t) (hT : T1 cp φ t S) :
    Rs (fun _ S' => T1 cp φ (fallsS (!cp) (chgS true t)) S') (p_X1_change (i32b cp) φ S) := by
  obtain ⟨c, b, cr⟩ := t
  obtain ⟨hR, hb, hC⟩ := hT
  dsimp only at hR hb hC
  unfold p_X1_change
  simp (disch := first | omega | assumption) only [↓bd_rt, ↓bd_bd, ↓bd_jn, ↓jn_ap, ↓bd_gI1, ↓bd_pI1, ↓bd_gR1, ↓bd_pR1, ↓bd_gM, rt_ap, ↓reduceIte, iN_div, iN_divL, iN_add, iN_mul, iN_addL, iN_Ladd, iN_mulL, iN_Lmul, iN_subL, iN_sub, iN_le_T, iN_le_F, iN_lt_T, iN_lt_F, iN_eq_F, iN_leL_T, iN_leL_F, iN_Lle_T, iN_Lle_F, iN_ltL_T, iN_ltL_F, iN_Llt_T, iN_Llt_F, iN_eqL_T, iN_eqL_F, iN_m1, m1_iN, iN_le_m1, m1_le_iN, iN_neg, iN_pos, i10, i01, i00, i11, u3_op, u3_or, u3_same, pup_eq, pup_ne]
  refine bdRF (L := [150]) (Fr.halp (fun rec hrec x => fr_p_X1_change_L2 (by decide) hrec x) _ _) (sp_X1_change_L2 w.1 hR hb) fun _ S1 h1 hF1 => ?_
  refine bdRF (L := [151]) (Fr.halp (fun rec hrec x => fr_p_X1_change_L76 (by decide) hrec x) _ _) (sp_X1_change_L76 w.1 hφ h1.1.1 h1.1.2 h1.2) fun _ S2 h2 hF2 => ?_
  refine bdRF (L := [145, 146, 147, 148]) (Fr.halp (fun rec hrec x => fr_p_X1_change_L136 (by decide) hrec x) _ _) (sp_X1_change_L136 w.1 h2.1.1 h2.1.2.2 h2.2 h2.1.2.1) fun _ S3 h3 hF3 => ?_
  refine bdR (sp_X1_change_L316 (t := chgS true (c, b, cr)) hφ w ⟨h3.1, h3.2, ((hC.fr hF1 (by decide)).fr hF2 (by decide)).fr hF3 (by decide)⟩) fun _ S4 h4 => ?_
  exact Rs.mk h4
/-! the model's floors -/
theorem sp_X3_falls {real : Bool} {φ : amSh} {S : amSt} (hφ : φ.1 255 ≠ 0) {c : CHo} {b : CBz} {cr : CCr} (w : TW (c, b, cr)) (hT : T3 (c, b, cr) S) {h f : Nat} (hh : h < c.n) (hf : f < c.fl h) (hf0 : 0 < f) :
    Rs (fun _ S' => T3 (if real then lossC c h f else c, fallB c h f b, if real then hurtS cr h f else cr) S') (p_X3_falls (iN h) (iN f) (i32b real) φ S) := by
  obtain ⟨hR, hb, hC⟩ := hT
  dsimp only at hR hb hC
  have hn := w.1.hn
  dsimp only at hn
  have hfl := w.1.fl h hh
  dsimp only at hfl
  unfold p_X3_falls
  simp (disch := first | omega | assumption) only [↓bd_rt, ↓bd_bd, ↓bd_jn, ↓jn_ap, ↓bd_gI1, ↓bd_pI1, ↓bd_gR1, ↓bd_pR1, ↓bd_gM, rt_ap, ↓reduceIte, iN_div, iN_divL, iN_add, iN_mul, iN_addL, iN_Ladd, iN_mulL, iN_Lmul, iN_subL, iN_sub, iN_le_T, iN_le_F, iN_lt_T, iN_lt_F, iN_eq_F, iN_leL_T, iN_leL_F, iN_Lle_T, iN_Lle_F, iN_ltL_T, iN_ltL_F, iN_Llt_T, iN_Llt_F, iN_eqL_T, iN_eqL_F, iN_m1, m1_iN, iN_le_m1, m1_le_iN, iN_neg, iN_pos, i10, i01, i00, i11, u3_op, u3_or, u3_same, pup_eq, pup_ne, ↓wI82_1]
  have hf1 : FrS [82] S (u3 S.1 82 1 (6 * h + f) 1, S.2) := fun p r j hk => sm_u3 fun z => hk (z ▸ kyA (by decide) (by decide) (by decide) _)
  refine bdRF (L := [74, 75]) (Fr.halp (fun rec hrec x => fr_p_X3_falls_L15 (by decide) hrec x) _ _) (sp_X3_falls_L15 w.1 (hR.fr hf1 (by decide)) hh hf hf0 hb.fal1) fun _ S2 h2 hF2 => ?_
  have hC2 : RMcr cr S2 := (hC.fr hf1 (by decide)).fr hF2 (by decide)
  cases real
  · simp (disch := first | omega | assumption) only [↓bd_rt, ↓bd_bd, ↓bd_ite, ↓bd_jn, ↓jn_ap, ↓ite_ap, ↓bd_gI1, ↓bd_pI1, ↓bd_gR1, ↓bd_pR1, ↓bd_gM, rt_ap, ↓reduceIte, iN_div, iN_divL, iN_add, iN_mul, iN_addL, iN_Ladd, iN_mulL, iN_Lmul, iN_subL, iN_sub, iN_le_T, iN_le_F, iN_lt_T, iN_lt_F, iN_eq_F, iN_leL_T, iN_leL_F, iN_Lle_T, iN_Lle_F, iN_ltL_T, iN_ltL_F, iN_Llt_T, iN_Llt_F, iN_eqL_T, iN_eqL_F, iN_m1, m1_iN, iN_le_m1, m1_le_iN, iN_neg, iN_pos, i10, i01, i00, i11, u3_op, u3_or, u3_same, pup_eq, pup_ne, i32b, Bool.false_eq_true, if_false, if_true]
    exact Rs.mk ⟨h2.1, h2.2, hC2⟩
  · have hl := h2.1.loss (h := h) (f := f) (by omega)
    have hf3 : FrS [71, 80] S2 (u3 (u3 S2.1 71 1 h (c.lost h + c.ppl (6 * h + f))) 80 1 (6 * h + f) 0, S2.2) := fun p r j hk => by
      have h1 : ¬ (p = 71) := fun e => by subst e; exact hk (kyA (by decide) (by decide) (by decide) _)
      have h3 : ¬ (p = 80) := fun e => by subst e; exact hk (kyA (by decide) (by decide) (by decide) _)
      refine ⟨?_, rfl, rfl⟩
      simp only [u3_op h1, u3_op h3]
    simp (disch := first | omega | assumption) only [↓bd_rt, ↓bd_bd, ↓bd_jn, ↓jn_ap, ↓bd_gI1, ↓bd_pI1, ↓bd_gR1, ↓bd_pR1, ↓bd_gM, rt_ap, ↓reduceIte, iN_div, iN_divL, iN_add, iN_mul, iN_addL, iN_Ladd, iN_mulL, iN_Lmul, iN_subL, iN_sub, iN_le_T, iN_le_F, iN_lt_T, iN_lt_F, iN_eq_F, iN_leL_T, iN_leL_F, iN_Lle_T, iN_Lle_F, iN_ltL_T, iN_ltL_F, iN_Llt_T, iN_Llt_F, iN_eqL_T, iN_eqL_F, iN_m1, m1_iN, iN_le_m1, m1_le_iN, iN_neg, iN_pos, i10, i01, i00, i11, u3_op, u3_or, u3_same, pup_eq, pup_ne, i32b, if_true, i10, if_false, ite_ap, ↓rI71_1, ↓rI80_1, ↓wI71_1, ↓wI80_1, h2.1.lost h (by omega), h2.1.ppl (6 * h + f) (by omega)]
    refine bdRF (L := [94, 95, 96, 98, 99]) (Fr.halp (fun rec hrec x => fr_p_X3_falls_L185 (by decide) hrec x) _ _) (sp_X3_hurt w.2.1 w.2.2 (hC2.fr hf3 (by decide)) (h := h) (f := f) (by omega)) fun _ S3 h3 hF3 => ?_
    exact Rs.mk ⟨hl.fr hF3 (by decide), ((show RMbz (fallB c h f b) S2 from h2.2).fr hf3 (by decide)).fr hF3 (by decide), h3⟩
theorem sp_X3_burn_L271 {real : Bool} {φ : amSh} (hφ : φ.1 255 ≠ 0) {h : Nat} : ∀ (m : Nat) (t : Tr) (S : amSt), TW t → T3 t S → h < t.1.n → m < t.1.fl h → ∀ fu, m < fu →
    Rs (fun _ S' => T3 (fdn real h m t) S') (alp (p_X3_burn_L271 (i32b real) (iN h)) fu (iN m) φ S) := by
  intro m
  induction m with
  | zero =>
    intro t S w hT hh hm fu hfu
    obtain ⟨fu, rfl⟩ : ∃ j, fu = j + 1 := ⟨fu - 1, by omega⟩
    rw [alp_s]
    unfold p_X3_burn_L271
    simp (disch := first | omega | assumption) only [↓bd_rt, ↓bd_bd, ↓bd_ite, ↓bd_jn, ↓jn_ap, ↓ite_ap, ↓bd_gI1, ↓bd_pI1, ↓bd_gR1, ↓bd_pR1, ↓bd_gM, rt_ap, ↓reduceIte, iN_div, iN_divL, iN_add, iN_mul, iN_addL, iN_Ladd, iN_mulL, iN_Lmul, iN_subL, iN_sub, iN_le_T, iN_le_F, iN_lt_T, iN_lt_F, iN_eq_F, iN_leL_T, iN_leL_F, iN_Lle_T, iN_Lle_F, iN_ltL_T, iN_ltL_F, iN_Llt_T, iN_Llt_F, iN_eqL_T, iN_eqL_F, iN_m1, m1_iN, iN_le_m1, m1_le_iN, iN_neg, iN_pos, i10, i01, i00, i11, u3_op, u3_or, u3_same, pup_eq, pup_ne]
    exact Rs.mk hT
  | succ m ih =>
    intro t S w hT hh hm fu hfu
    obtain ⟨fu, rfl⟩ : ∃ j, fu = j + 1 := ⟨fu - 1, by omega⟩
    rw [alp_s]
    obtain ⟨c, b, cr⟩ := t
    have hT0 := hT
    obtain ⟨hR, hb, hC⟩ := hT
    dsimp only at hR hb hC hh hm
    have hfl := w.1.fl h hh
    have hn := w.1.hn
    dsimp only at hfl hn
    have w' := fallT_W (real := real) (f := m + 1) w hh (by omega)
    have a' := fallT_a (real := real) (h := h) (f := m + 1) (t := (c, b, cr))
    have nxt : ∀ {S2 : amSt}, T3 (fallT real h (m + 1) (c, b, cr)) S2 → Rs (fun _ S' => T3 (fdn real h (m + 1) (c, b, cr)) S') (alp (p_X3_burn_L271 (i32b real) (iN h)) fu (iN m) φ S2) := fun {S2} hT2 =>
      ih _ S2 w' hT2 (by rw [a'.1]; exact hh) (by rw [a'.2.2.2.1]; show m < c.fl h; omega) fu (by omega)
    generalize alp (p_X3_burn_L271 (i32b real) (iN h)) fu = rec at *
    unfold p_X3_burn_L271
    by_cases c1 : b.fal (6 * h + (m + 1)) = 0
    · by_cases c2 : loadS b h (m + 1) < bearS c h
      · have e : fallT real h (m + 1) (c, b, cr) = (c, b, cr) := by unfold fallT; rw [if_pos c1, if_pos c2]
        rw [e] at nxt
        simp (disch := first | omega | assumption) only [↓bd_rt, ↓bd_bd, ↓bd_ite, ↓bd_jn, ↓jn_ap, ↓ite_ap, ↓bd_gI1, ↓bd_pI1, ↓bd_gR1, ↓bd_pR1, ↓bd_gM, rt_ap, ↓reduceIte, iN_div, iN_divL, iN_add, iN_mul, iN_addL, iN_Ladd, iN_mulL, iN_Lmul, iN_subL, iN_sub, iN_le_T, iN_le_F, iN_lt_T, iN_lt_F, iN_eq_F, iN_leL_T, iN_leL_F, iN_Lle_T, iN_Lle_F, iN_ltL_T, iN_ltL_F, iN_Llt_T, iN_Llt_F, iN_eqL_T, iN_eqL_F, iN_m1, m1_iN, iN_le_m1, m1_le_iN, iN_neg, iN_pos, i10, i01, i00, i11, u3_op, u3_or, u3_same, pup_eq, pup_ne, ↓rI82_1, hb.fal (6 * h + (m + 1)) (by omega), c1, if_true, ↓bd_of (sp_X3_loadOf hφ hb (h := h) (f := m + 1) (by omega) (by omega)), ↓bd_of (sp_X3_bears w.1 hφ hR hh), if_pos c2, iN_dn]
        exact nxt ⟨hR, hb, hC⟩
      · have e : fallT real h (m + 1) (c, b, cr) = (if real then lossC c h (m + 1) else c, fallB c h (m + 1) b, if real then hurtS cr h (m + 1) else cr) := by unfold fallT; rw [if_pos c1, if_neg c2]
        rw [e] at nxt
        simp (disch := first | omega | assumption) only [↓bd_rt, ↓bd_bd, ↓bd_ite, ↓bd_jn, ↓jn_ap, ↓ite_ap, ↓bd_gI1, ↓bd_pI1, ↓bd_gR1, ↓bd_pR1, ↓bd_gM, rt_ap, ↓reduceIte, iN_div, iN_divL, iN_add, iN_mul, iN_addL, iN_Ladd, iN_mulL, iN_Lmul, iN_subL, iN_sub, iN_le_T, iN_le_F, iN_lt_T, iN_lt_F, iN_eq_F, iN_leL_T, iN_leL_F, iN_Lle_T, iN_Lle_F, iN_ltL_T, iN_ltL_F, iN_Llt_T, iN_Llt_F, iN_eqL_T, iN_eqL_F, iN_m1, m1_iN, iN_le_m1, m1_le_iN, iN_neg, iN_pos, i10, i01, i00, i11, u3_op, u3_or, u3_same, pup_eq, pup_ne, ↓rI82_1, hb.fal (6 * h + (m + 1)) (by omega), c1, if_true, ↓bd_of (sp_X3_loadOf hφ hb (h := h) (f := m + 1) (by omega) (by omega)), ↓bd_of (sp_X3_bears w.1 hφ hR hh), if_neg c2]
        refine bdR (sp_X3_falls hφ w hT0 hh (f := m + 1) hm (by omega)) fun _ S2 h2 => ?_
        simp (disch := first | omega | assumption) only [↓bd_rt, ↓bd_bd, ↓bd_ite, ↓bd_jn, ↓jn_ap, ↓ite_ap, ↓bd_gI1, ↓bd_pI1, ↓bd_gR1, ↓bd_pR1, ↓bd_gM, rt_ap, ↓reduceIte, iN_div, iN_divL, iN_add, iN_mul, iN_addL, iN_Ladd, iN_mulL, iN_Lmul, iN_subL, iN_sub, iN_le_T, iN_le_F, iN_lt_T, iN_lt_F, iN_eq_F, iN_leL_T, iN_leL_F, iN_Lle_T, iN_Lle_F, iN_ltL_T, iN_ltL_F, iN_Llt_T, iN_Llt_F, iN_eqL_T, iN_eqL_F, iN_m1, m1_iN, iN_le_m1, m1_le_iN, iN_neg, iN_pos, i10, i01, i00, i11, u3_op, u3_or, u3_same, pup_eq, pup_ne, iN_dn]
        exact nxt h2
    · have e : fallT real h (m + 1) (c, b, cr) = (c, b, cr) := by unfold fallT; rw [if_neg c1]
      rw [e] at nxt
      simp (disch := first | omega | assumption) only [↓bd_rt, ↓bd_bd, ↓bd_ite, ↓bd_jn, ↓jn_ap, ↓ite_ap, ↓bd_gI1, ↓bd_pI1, ↓bd_gR1, ↓bd_pR1, ↓bd_gM, rt_ap, ↓reduceIte, iN_div, iN_divL, iN_add, iN_mul, iN_addL, iN_Ladd, iN_mulL, iN_Lmul, iN_subL, iN_sub, iN_le_T, iN_le_F, iN_lt_T, iN_lt_F, iN_eq_F, iN_leL_T, iN_leL_F, iN_Lle_T, iN_Lle_F, iN_ltL_T, iN_ltL_F, iN_Llt_T, iN_Llt_F, iN_eqL_T, iN_eqL_F, iN_m1, m1_iN, iN_le_m1, m1_le_iN, iN_neg, iN_pos, i10, i01, i00, i11, u3_op, u3_or, u3_same, pup_eq, pup_ne, ↓rI82_1, hb.fal (6 * h + (m + 1)) (by omega), if_neg c1, iN_dn]
      exact nxt ⟨hR, hb, hC⟩
theorem sp_X3_burn_L254 {real : Bool} {φ : amSh} {S : amSt} (hφ : φ.1 255 ≠ 0) {t : Tr} (w : TW t) (hT : T3 t S) :
    Rs (fun _ S' => T3 (fallsS real t) S') (alp (p_X3_burn_L254 (i32b real)) amFu 0 φ S) := by
  have hn := w.1.hn
  refine alp_I (fun j x S' => x = iN j ∧ T3 (fallsJ real t j) S') t.1.n (amFu_lt (by omega)) ⟨rfl, hT⟩ ?_ ?_
  · rintro j x S1 hj ⟨rfl, hT⟩ rec
    obtain ⟨w1, a1⟩ := fallsJ_W (real := real) w j (by omega)
    have hnj : (fallsJ real t j).1.n = t.1.n := a1.1
    show Lz rec φ (fun x S' => x = iN (j + 1) ∧ T3 (fdn real j ((fallsJ real t j).1.fl j - 1) (fallsJ real t j)) S') _ _
    generalize fallsJ real t j = d at *
    have hR := hT.1
    have hh : j < d.1.n := by omega
    have hfl := w1.1.fl j hh
    have hnn := hR.n
    rw [hnj] at hnn
    unfold p_X3_burn_L254
    simp (disch := first | omega | assumption) only [↓bd_rt, ↓bd_bd, ↓bd_ite, ↓bd_jn, ↓jn_ap, ↓ite_ap, ↓bd_gI1, ↓bd_pI1, ↓bd_gR1, ↓bd_pR1, ↓bd_gM, rt_ap, ↓reduceIte, iN_div, iN_divL, iN_add, iN_mul, iN_addL, iN_Ladd, iN_mulL, iN_Lmul, iN_subL, iN_sub, iN_le_T, iN_le_F, iN_lt_T, iN_lt_F, iN_eq_F, iN_leL_T, iN_leL_F, iN_Lle_T, iN_Lle_F, iN_ltL_T, iN_ltL_F, iN_Llt_T, iN_Llt_F, iN_eqL_T, iN_eqL_F, iN_m1, m1_iN, iN_le_m1, m1_le_iN, iN_neg, iN_pos, i10, i01, i00, i11, u3_op, u3_or, u3_same, pup_eq, pup_ne, hnn, ↓rI64_1, hR.fl j hh]
    exact bdR (sp_X3_burn_L271 hφ (d.1.fl j - 1) d S1 w1 hT hh (by omega) amFu (amFu_lt (by omega))) fun _ S2 h2 => Lz.go ⟨rfl, h2⟩
  · rintro x S1 ⟨rfl, hT⟩ rec
    obtain ⟨w1, a1⟩ := fallsJ_W (real := real) w t.1.n (by omega)
    have hnj : (fallsJ real t t.1.n).1.n = t.1.n := a1.1
    have hnn := hT.1.n
    rw [hnj] at hnn
    unfold p_X3_burn_L254
    simp (disch := first | omega | assumption) only [↓bd_rt, ↓bd_bd, ↓bd_ite, ↓bd_jn, ↓jn_ap, ↓ite_ap, ↓bd_gI1, ↓bd_pI1, ↓bd_gR1, ↓bd_pR1, ↓bd_gM, rt_ap, ↓reduceIte, iN_div, iN_divL, iN_add, iN_mul, iN_addL, iN_Ladd, iN_mulL, iN_Lmul, iN_subL, iN_sub, iN_le_T, iN_le_F, iN_lt_T, iN_lt_F, iN_eq_F, iN_leL_T, iN_leL_F, iN_Lle_T, iN_Lle_F, iN_ltL_T, iN_ltL_F, iN_Llt_T, iN_Llt_F, iN_eqL_T, iN_eqL_F, iN_m1, m1_iN, iN_le_m1, m1_le_iN, iN_neg, iN_pos, i10, i01, i00, i11, u3_op, u3_or, u3_same, pup_eq, pup_ne, hnn]
    exact Rs.mk hT
