/-! PURE: what crews have -/
abbrev gearOk (s : Nat) (a b d : Int32) : Prop := if s = 0 then ¬ out a 100 3000 ∧ ¬ out b 10 500 ∧ d = 0 else if s = 1 then ¬ out d 1 30 ∧ ¬ out a 100 3000 ∧ ¬ out b 10 500 else if s = 2 then ¬ out a 1 6 ∧ b = 0 ∧ d = 0 else a = 0 ∧ b = 0 ∧ d = 0
def gearB (s : Nat) (a b d : Int32) : Bool := if s = 0 then !decide (out a 100 3000) && (!decide (out b 10 500) && decide (d = 0)) else if s = 1 then !decide (out d 1 30) && (!decide (out a 100 3000) && !decide (out b 10 500)) else if s = 2 then !decide (out a 1 6) && (decide (b = 0) && decide (d = 0)) else decide (a = 0) && (decide (b = 0) && decide (d = 0))
def setG (cr : CCr) (k a b d : Nat) : CCr := CCr.mk cr.n cr.sort cr.home cr.best cr.men cr.hor (pup cr.gA k a) (pup cr.gB k b) (pup cr.gC k d) cr.st cr.post cr.till cr.sent cr.flr cr.wk cr.tir cr.got cr.beg
def gearS (cr : CCr) (a1 a2 a3 a4 : Int32) : Int32 × CCr := if inN a1 cr.n then if cr.st a1.toNatClampNeg = 2 then (0, cr) else if gearB (cr.sort a1.toNatClampNeg) a2 a3 a4 = true then (1, setG cr a1.toNatClampNeg a2.toNatClampNeg a3.toNatClampNeg a4.toNatClampNeg) else (0, cr) else (0, cr)
/-- a good gear, as numbers -/
theorem gear_ex {s : Nat} (hs : s < 4) {a b d : Int32} (h : gearB s a b d = true) : ∃ x y z, a = iN x ∧ b = iN y ∧ d = iN z ∧ x ≤ 3000 ∧ y ≤ 500 ∧ z ≤ 30 ∧ (s < 2 → 10 ≤ y) ∧ (s ≠ 1 → z = 0) ∧ (2 ≤ s → y = 0) ∧ (s = 3 → x = 0) := by
  have hs4 : s = 0 ∨ s = 1 ∨ s = 2 ∨ s = 3 := by omega
  unfold gearB at h
  rcases hs4 with rfl | rfl | rfl | rfl
  · simp only [if_true, Bool.and_eq_true, Bool.not_eq_true', decide_eq_false_iff_not, decide_eq_true_eq] at h
    obtain ⟨h1, h2, rfl⟩ := h
    obtain ⟨x, rfl, _, hx⟩ := not_out (lo := 100) (hi := 3000) h1 (by decide) (by decide)
    obtain ⟨y, rfl, hy0, hy⟩ := not_out (lo := 10) (hi := 500) h2 (by decide) (by decide)
    exact ⟨x, y, 0, rfl, rfl, rfl, hx, hy, by omega, fun _ => hy0, fun _ => rfl, fun z => by omega, fun z => by omega⟩
  · simp only [Nat.one_ne_zero, if_false, if_true, Bool.and_eq_true, Bool.not_eq_true', decide_eq_false_iff_not] at h
    obtain ⟨h3, h1, h2⟩ := h
    obtain ⟨z, rfl, _, hz⟩ := not_out (lo := 1) (hi := 30) h3 (by decide) (by decide)
    obtain ⟨x, rfl, _, hx⟩ := not_out (lo := 100) (hi := 3000) h1 (by decide) (by decide)
    obtain ⟨y, rfl, hy0, hy⟩ := not_out (lo := 10) (hi := 500) h2 (by decide) (by decide)
    exact ⟨x, y, z, rfl, rfl, rfl, hx, hy, hz, fun _ => hy0, fun w => absurd rfl w, fun z => by omega, fun z => by omega⟩
  · simp only [show ¬ (2 = 0) by decide, show ¬ (2 = 1) by decide, if_false, if_true, Bool.and_eq_true, Bool.not_eq_true', decide_eq_false_iff_not, decide_eq_true_eq] at h
    obtain ⟨h1, rfl, rfl⟩ := h
    obtain ⟨x, rfl, _, hx⟩ := not_out (lo := 1) (hi := 6) h1 (by decide) (by decide)
    exact ⟨x, 0, 0, rfl, rfl, rfl, by omega, by omega, by omega, fun z => by omega, fun _ => rfl, fun _ => rfl, fun z => by omega⟩
  · simp only [show ¬ (3 = 0) by decide, show ¬ (3 = 1) by decide, show ¬ (3 = 2) by decide, if_false, Bool.and_eq_true, decide_eq_true_eq] at h
    obtain ⟨rfl, rfl, rfl⟩ := h
    exact ⟨0, 0, 0, rfl, rfl, rfl, by omega, by omega, by omega, fun z => by omega, fun _ => rfl, fun _ => rfl, fun _ => rfl⟩
theorem gearS_WF {cr : CCr} {nh : Nat} (w : cr.WF nh) (a1 a2 a3 a4 : Int32) : (gearS cr a1 a2 a3 a4).2.WF nh := by
  unfold gearS
  split
  · rename_i h1
    split
    · exact w
    · split
      · rename_i h3
        have hn := w.hn
        obtain ⟨k, hk, rfl⟩ := h1.ex (by omega)
        rw [iN_nat (by omega)] at h3 ⊢
        obtain ⟨x, y, z, rfl, rfl, rfl, hx, hy, hz, h10, _, _, _⟩ := gear_ex (w.sort k hk) h3
        rw [iN_nat (by omega), iN_nat (by omega), iN_nat (by omega)]
        refine CCr.WF.mk w.hn w.sort w.home w.best ?_ ?_ ?_ w.post w.tir w.wk w.till w.z
        · intro j hj; show pup cr.gA k x j ≤ 3000; unfold pup; split
          · exact hx
          · exact w.gA j hj
        · intro j hj
          show pup cr.gB k y j ≤ 500 ∧ (cr.sort j < 2 → 10 ≤ pup cr.gB k y j)
          by_cases e : j = k
          · subst e; rw [pup_eq]; exact ⟨hy, h10⟩
          · rw [pup_ne e]; exact w.gB j hj
        · intro j hj; show pup cr.gC k z j ≤ 30; unfold pup; split
          · exact hz
          · exact w.gC j hj
      · exact w
  · exact w
theorem bd_pIs {β : Type} {cs : List Nat} {p r j : Nat} {v : Int32} {f : Unit → am0 β} {φ : amSh} {S : amSt} (h : r ≠ 0) (h2 : amK φ p r ∈ cs) : bd (pIs cs p r j v) f φ S = f () φ (u3 S.1 p r j v, S.2) := bd_of (by simp [pIs, h, h2])
theorem sp_X3_gearB {s : Nat} {a b d : Int32} : True := trivial
theorem RCcr.gear {cr : CCr} {φ : amSh} {S : amSt} (hR : RCcr cr φ S) {k a b d : Nat} (hk : k < cr.n) {S' : amSt} (e2 : S'.2 = S.2) (eo : ∀ q r j, ¬ (q = 6 ∧ r = k + 1 ∧ 16 ≤ j) → S'.1 q r j = S.1 q r j)
    (eA : cr.sort k < 3 → S'.1 6 (k + 1) 16 = iN a) (eB : cr.sort k < 2 → S'.1 6 (k + 1) 17 = iN b) (eC : cr.sort k = 1 → S'.1 6 (k + 1) 18 = iN d) : RCcr (setG cr k a b d) φ S' := by
  refine RCcr.mk ?_ ?_ ?_ ?_ ?_ ?_ ?_ ?_ ?_ ?_ ?_ ?_ ?_ ?_ ?_ ?_ ?_ ?_ ?_ hR.cls hR.cnt
  · rw [eo _ _ _ (by omega)]; exact hR.n
  · intro j hj; rw [e2]; exact hR.obj j hj
  · intro j hj; rw [eo _ _ _ (by omega)]; exact hR.num j hj
  · intro j hj; rw [eo _ _ _ (by omega)]; exact hR.home j hj
  · intro j hj; rw [eo _ _ _ (by omega)]; exact hR.best j hj
  · intro j hj; rw [eo _ _ _ (by omega)]; exact hR.men j hj
  · intro j hj; rw [eo _ _ _ (by omega)]; exact hR.hor j hj
  · intro j hj; rw [eo _ _ _ (by omega)]; exact hR.st j hj
  · intro j hj; rw [eo _ _ _ (by omega)]; exact hR.post j hj
  · intro j hj; rw [eo _ _ _ (by omega)]; exact hR.till j hj
  · intro j hj; rw [eo _ _ _ (by omega)]; exact hR.sent j hj
  · intro j hj; rw [eo _ _ _ (by omega)]; exact hR.flr j hj
  · intro j hj; rw [eo _ _ _ (by omega)]; exact hR.tir j hj
  · intro j hj; rw [eo _ _ _ (by omega)]; exact hR.got j hj
  · intro j hj; rw [eo _ _ _ (by omega)]; exact hR.beg j hj
  · intro j hj; rw [e2]; exact hR.wk j hj
  · intro j hj h2; show _ = iN (pup cr.gA k a j); by_cases e : j = k
    · subst e; rw [pup_eq]; exact eA h2
    · rw [pup_ne e, eo _ _ _ (by omega)]; exact hR.gA j hj h2
  · intro j hj h2; show _ = iN (pup cr.gB k b j); by_cases e : j = k
    · subst e; rw [pup_eq]; exact eB h2
    · rw [pup_ne e, eo _ _ _ (by omega)]; exact hR.gB j hj h2
  · intro j hj h2; show _ = iN (pup cr.gC k d j); by_cases e : j = k
    · subst e; rw [pup_eq]; exact eC h2
    · rw [pup_ne e, eo _ _ _ (by omega)]; exact hR.gC j hj h2
def gearQ (cr : CCr) (φ : amSh) (k : Nat) (a b d : Int32) : Int32 → amSt → Prop := fun v S' => v = b01 (gearB (cr.sort k) a b d) ∧ RCcr (if gearB (cr.sort k) a b d = true then setG cr k a.toNatClampNeg b.toNatClampNeg d.toNatClampNeg else cr) φ S'
theorem sp_X1_gearV {cr : CCr} {nh : Nat} (w : cr.WF nh) {φ : amSh} {S : amSt} (hC : RCcr cr φ S) {k : Nat} (hk : k < cr.n) {a b d : Int32} :
    Rs (gearQ cr φ k a b d)
      (vc 6 (k + 1) (fun c => if c = 6 then p_X9_gear (k + 1) a b d else if c = 7 then p_X10_gear (k + 1) a b d else if c = 8 then p_X11_gear (k + 1) a b d else if c = 9 then p_X12_gear (k + 1) a b d else fl0) φ S) := by
  have hcls : amK φ 6 (k + 1) = 6 + cr.sort k := hC.cls k hk
  have hs := w.sort k hk
  rw [vc4 hC hk hs]
  -- a bad gear changes nothing
  have bad : gearB (cr.sort k) a b d = false → Rs (gearQ cr φ k a b d) (some ((0 : Int32), S)) := fun e => by
    unfold gearQ; rw [e]; exact Rs.mk ⟨rfl, hC⟩
  have good : ∀ {S' : amSt}, gearB (cr.sort k) a b d = true → (∀ x y z, a = iN x → b = iN y → d = iN z → RCcr (setG cr k x y z) φ S') → Rs (gearQ cr φ k a b d) (some ((1 : Int32), S')) := fun {S'} e h => by
    obtain ⟨x, y, z, rfl, rfl, rfl, hx, hy, hz, _⟩ := gear_ex hs e
    unfold gearQ; rw [e, if_pos rfl, iN_nat (by omega), iN_nat (by omega), iN_nat (by omega)]
    exact Rs.mk ⟨rfl, h x y z rfl rfl rfl⟩
  have hs4 : cr.sort k = 0 ∨ cr.sort k = 1 ∨ cr.sort k = 2 ∨ cr.sort k = 3 := by omega
  rcases hs4 with e | e | e | e
  · rw [e] at hcls
    rw [if_pos e]
    unfold p_X9_gear
    by_cases h1 : out a 100 3000
    · simp (disch := first | omega | assumption) only [↓bd_rt, ↓bd_bd, ↓bd_ite, ↓bd_jn, ↓jn_ap, ↓ite_ap, ↓bd_gI1, ↓bd_pI1, ↓bd_gR1, ↓bd_pR1, ↓bd_gM, rt_ap, ↓reduceIte, iN_div, iN_divL, iN_add, iN_mul, iN_addL, iN_Ladd, iN_mulL, iN_Lmul, iN_subL, iN_sub, iN_le_T, iN_le_F, iN_lt_T, iN_lt_F, iN_eq_F, iN_leL_T, iN_leL_F, iN_Lle_T, iN_Lle_F, iN_ltL_T, iN_ltL_F, iN_Llt_T, iN_Llt_F, iN_eqL_T, iN_eqL_F, iN_m1, m1_iN, iN_le_m1, m1_le_iN, iN_neg, iN_pos, i10, i01, i00, i11, u3_op, u3_or, u3_same, pup_eq, pup_ne, ↓bd_of sp_X1_in, jp h1]
      exact bad (by rw [e]; unfold gearB; simp [h1])
    · by_cases h2 : out b 10 500
      · simp (disch := first | omega | assumption) only [↓bd_rt, ↓bd_bd, ↓bd_ite, ↓bd_jn, ↓jn_ap, ↓ite_ap, ↓bd_gI1, ↓bd_pI1, ↓bd_gR1, ↓bd_pR1, ↓bd_gM, rt_ap, ↓reduceIte, iN_div, iN_divL, iN_add, iN_mul, iN_addL, iN_Ladd, iN_mulL, iN_Lmul, iN_subL, iN_sub, iN_le_T, iN_le_F, iN_lt_T, iN_lt_F, iN_eq_F, iN_leL_T, iN_leL_F, iN_Lle_T, iN_Lle_F, iN_ltL_T, iN_ltL_F, iN_Llt_T, iN_Llt_F, iN_eqL_T, iN_eqL_F, iN_m1, m1_iN, iN_le_m1, m1_le_iN, iN_neg, iN_pos, i10, i01, i00, i11, u3_op, u3_or, u3_same, pup_eq, pup_ne, ↓bd_of sp_X1_in, jq h1, jp h2]
        exact bad (by rw [e]; unfold gearB; simp [h2])
      · by_cases h3 : d = 0
        · rw [bd_of sp_X1_in, jq h1, if_neg (by decide), bd_of sp_X1_in, jq h2, if_neg (by decide), if_pos h3, bd_pIs (by omega) (by rw [hcls]; decide), bd_pIs (by omega) (by rw [hcls]; decide), rt_ap]
          refine good (by rw [e]; unfold gearB; simp [h1, h2, h3]) fun x y z ex ey ez => hC.gear hk rfl ?_ ?_ ?_ ?_
          · intro q r j h; simp only [u3]; rw [if_neg (by omega), if_neg (by omega)]
          · intro _; rw [← ex]; simp [u3]
          · intro _; rw [← ey]; simp [u3]
          · intro z; omega
        · rw [bd_of sp_X1_in, jq h1, if_neg (by decide), bd_of sp_X1_in, jq h2, if_neg (by decide), if_neg h3, rt_ap]
          exact bad (by rw [e]; unfold gearB; simp [h3])
  · rw [e] at hcls
    rw [if_neg (by omega), if_pos e]
    unfold p_X10_gear
    by_cases h0 : out d 1 30
    · simp (disch := first | omega | assumption) only [↓bd_rt, ↓bd_bd, ↓bd_ite, ↓bd_jn, ↓jn_ap, ↓ite_ap, ↓bd_gI1, ↓bd_pI1, ↓bd_gR1, ↓bd_pR1, ↓bd_gM, rt_ap, ↓reduceIte, iN_div, iN_divL, iN_add, iN_mul, iN_addL, iN_Ladd, iN_mulL, iN_Lmul, iN_subL, iN_sub, iN_le_T, iN_le_F, iN_lt_T, iN_lt_F, iN_eq_F, iN_leL_T, iN_leL_F, iN_Lle_T, iN_Lle_F, iN_ltL_T, iN_ltL_F, iN_Llt_T, iN_Llt_F, iN_eqL_T, iN_eqL_F, iN_m1, m1_iN, iN_le_m1, m1_le_iN, iN_neg, iN_pos, i10, i01, i00, i11, u3_op, u3_or, u3_same, pup_eq, pup_ne, ↓bd_of sp_X1_in, jp h0]
      exact bad (by rw [e]; unfold gearB; simp [h0])
    rw [bd_of sp_X1_in, jq h0, if_neg (by decide), bd_nn (by omega)]
    by_cases h1 : out a 100 3000
    · have hz : p_X9_gear (k + 1) a b 0 φ S = some (0, S) := by
        unfold p_X9_gear
        simp (disch := first | omega | assumption) only [↓bd_rt, ↓bd_bd, ↓bd_ite, ↓bd_jn, ↓jn_ap, ↓ite_ap, ↓bd_gI1, ↓bd_pI1, ↓bd_gR1, ↓bd_pR1, ↓bd_gM, rt_ap, ↓reduceIte, iN_div, iN_divL, iN_add, iN_mul, iN_addL, iN_Ladd, iN_mulL, iN_Lmul, iN_subL, iN_sub, iN_le_T, iN_le_F, iN_lt_T, iN_lt_F, iN_eq_F, iN_leL_T, iN_leL_F, iN_Lle_T, iN_Lle_F, iN_ltL_T, iN_ltL_F, iN_Llt_T, iN_Llt_F, iN_eqL_T, iN_eqL_F, iN_m1, m1_iN, iN_le_m1, m1_le_iN, iN_neg, iN_pos, i10, i01, i00, i11, u3_op, u3_or, u3_same, pup_eq, pup_ne, ↓bd_of sp_X1_in, jp h1]
      rw [bd_of hz, if_pos rfl, rt_ap]
      exact bad (by rw [e]; unfold gearB; simp [h1])
    · by_cases h2 : out b 10 500
      · have hz : p_X9_gear (k + 1) a b 0 φ S = some (0, S) := by
          unfold p_X9_gear
          simp (disch := first | omega | assumption) only [↓bd_rt, ↓bd_bd, ↓bd_ite, ↓bd_jn, ↓jn_ap, ↓ite_ap, ↓bd_gI1, ↓bd_pI1, ↓bd_gR1, ↓bd_pR1, ↓bd_gM, rt_ap, ↓reduceIte, iN_div, iN_divL, iN_add, iN_mul, iN_addL, iN_Ladd, iN_mulL, iN_Lmul, iN_subL, iN_sub, iN_le_T, iN_le_F, iN_lt_T, iN_lt_F, iN_eq_F, iN_leL_T, iN_leL_F, iN_Lle_T, iN_Lle_F, iN_ltL_T, iN_ltL_F, iN_Llt_T, iN_Llt_F, iN_eqL_T, iN_eqL_F, iN_m1, m1_iN, iN_le_m1, m1_le_iN, iN_neg, iN_pos, i10, i01, i00, i11, u3_op, u3_or, u3_same, pup_eq, pup_ne, ↓bd_of sp_X1_in, jq h1, jp h2]
        rw [bd_of hz, if_pos rfl, rt_ap]
        exact bad (by rw [e]; unfold gearB; simp [h2])
      · have hz : p_X9_gear (k + 1) a b 0 φ S = some (1, (u3 (u3 S.1 6 (k + 1) 16 a) 6 (k + 1) 17 b, S.2)) := by
          unfold p_X9_gear
          rw [bd_of sp_X1_in, jq h1, if_neg (by decide), bd_of sp_X1_in, jq h2, if_neg (by decide), if_pos rfl, bd_pIs (by omega) (by rw [hcls]; decide), bd_pIs (by omega) (by rw [hcls]; decide), rt_ap]
        rw [bd_of hz, if_neg (by decide), bd_pIs (by omega) (by rw [hcls]; decide), rt_ap]
        refine good (by rw [e]; unfold gearB; simp [h0, h1, h2]) fun x y z ex ey ez => hC.gear hk rfl ?_ ?_ ?_ ?_
        · intro q r j h; simp only [u3]; rw [if_neg (by omega), if_neg (by omega), if_neg (by omega)]
        · intro _; rw [← ex]; simp [u3]
        · intro _; rw [← ey]; simp [u3]
        · intro _; rw [← ez]; simp [u3]
  · rw [e] at hcls
    rw [if_neg (by omega), if_neg (by omega), if_pos e]
    unfold p_X11_gear
    by_cases h1 : out a 1 6
    · simp (disch := first | omega | assumption) only [↓bd_rt, ↓bd_bd, ↓bd_ite, ↓bd_jn, ↓jn_ap, ↓ite_ap, ↓bd_gI1, ↓bd_pI1, ↓bd_gR1, ↓bd_pR1, ↓bd_gM, rt_ap, ↓reduceIte, iN_div, iN_divL, iN_add, iN_mul, iN_addL, iN_Ladd, iN_mulL, iN_Lmul, iN_subL, iN_sub, iN_le_T, iN_le_F, iN_lt_T, iN_lt_F, iN_eq_F, iN_leL_T, iN_leL_F, iN_Lle_T, iN_Lle_F, iN_ltL_T, iN_ltL_F, iN_Llt_T, iN_Llt_F, iN_eqL_T, iN_eqL_F, iN_m1, m1_iN, iN_le_m1, m1_le_iN, iN_neg, iN_pos, i10, i01, i00, i11, u3_op, u3_or, u3_same, pup_eq, pup_ne, ↓bd_of sp_X1_in, jp h1]
      exact bad (by rw [e]; unfold gearB; simp [h1])
    · by_cases h2 : b = 0
      · by_cases h3 : d = 0
        · rw [bd_of sp_X1_in, jq h1, if_neg (by decide), if_pos h2, if_pos h3, bd_pIs (by omega) (by rw [hcls]; decide), rt_ap]
          refine good (by rw [e]; unfold gearB; simp [h1, h2, h3]) fun x y z ex ey ez => hC.gear hk rfl ?_ ?_ ?_ ?_
          · intro q r j h; simp only [u3]; rw [if_neg (by omega)]
          · intro _; rw [← ex]; simp [u3]
          · intro z; omega
          · intro z; omega
        · rw [bd_of sp_X1_in, jq h1, if_neg (by decide), if_pos h2, if_neg h3, rt_ap]
          exact bad (by rw [e]; unfold gearB; simp [h3])
      · rw [bd_of sp_X1_in, jq h1, if_neg (by decide), if_neg h2, rt_ap]
        exact bad (by rw [e]; unfold gearB; simp [h2])
  · rw [if_neg (by omega), if_neg (by omega), if_neg (by omega)]
    unfold p_X12_gear
    rw [jn_ap]
    by_cases h1 : a = 0
    · by_cases h2 : b = 0
      · by_cases h3 : d = 0
        · rw [if_pos h1, if_pos h2, if_pos h3, rt_ap]
          refine good (by rw [e]; unfold gearB; simp [h1, h2, h3]) fun x y z ex ey ez => hC.gear hk rfl (fun _ _ _ _ => rfl) ?_ ?_ ?_
          · intro z; omega
          · intro z; omega
          · intro z; omega
        · rw [if_pos h1, if_pos h2, if_neg h3]
          exact bad (by rw [e]; unfold gearB; simp [h3])
      · rw [if_pos h1, if_neg h2]
        exact bad (by rw [e]; unfold gearB; simp [h2])
    · rw [if_neg h1]
      exact bad (by rw [e]; unfold gearB; simp [h1])
theorem op_X1_gear {cr : CCr} {nh : Nat} (w : cr.WF nh) {φ : amSh} {S : amSt} (hφ : φ.1 255 ≠ 0) (hC : RCcr cr φ S) {a1 a2 a3 a4 : Int32} : Rs (fun v S' => v = (gearS cr a1 a2 a3 a4).1 ∧ RCcr (gearS cr a1 a2 a3 a4).2 φ S') (p_X1_gear a1 a2 a3 a4 φ S) := by
  have hn := w.hn
  unfold p_X1_gear
  rw [bd_gM hφ, bd_of (sp_X1_isCrew w hC), jn_ap]
  by_cases h1 : inN a1 cr.n
  · rw [ip h1, if_neg (by decide)]
    obtain ⟨k, hk, rfl⟩ := h1.ex (by omega)
    have en : (iN k).toNatClampNeg = k := iN_nat (by omega)
    rw [rR28_1 (by omega), hC.obj k hk, bd_gI (by omega), hC.st k hk]
    by_cases h2 : cr.st k = 2
    · rw [show gearS cr (iN k) a2 a3 a4 = (0, cr) by unfold gearS; rw [if_pos h1, en, if_pos h2], if_pos h2]
      exact Rs.mk ⟨rfl, hC⟩
    · rw [if_neg h2, rR28_1 (by omega), hC.obj k hk]
      refine bdR (sp_X1_gearV w hC hk (a := a2) (b := a3) (d := a4)) fun v S1 h3 => ?_
      obtain ⟨rfl, h4⟩ := h3
      cases q : gearB (cr.sort k) a2 a3 a4
      · rw [show gearS cr (iN k) a2 a3 a4 = (0, cr) by unfold gearS; rw [if_pos h1, en, if_neg h2, q]; rfl]
        rw [q] at h4
        exact Rs.mk ⟨rfl, h4⟩
      · rw [show gearS cr (iN k) a2 a3 a4 = (1, setG cr k a2.toNatClampNeg a3.toNatClampNeg a4.toNatClampNeg) by unfold gearS; rw [if_pos h1, en, if_neg h2, q]; rfl]
        rw [q, if_pos rfl] at h4
        exact Rs.mk ⟨rfl, h4⟩
  · rw [show gearS cr a1 a2 a3 a4 = (0, cr) by unfold gearS; rw [if_neg h1], iq h1, if_pos rfl]
    exact Rs.mk ⟨rfl, hC⟩
