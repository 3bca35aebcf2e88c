/-! PURE: houses are told things -/
theorem itn_congr {α : Type} {f g : Nat → α → α} {a : α} : ∀ n, (∀ k x, k < n → f k x = g k x) → itn f a n = itn g a n := by
  intro n
  induction n with
  | zero => intro _; rfl
  | succ n ih => intro h; show f n (itn f a n) = g n (itn g a n); rw [ih fun k x hk => h k x (by omega), h n _ (by omega)]
theorem brnN_congr {c c' : CHo} (w : c.WF) {b b' : CBz} {h : Nat} (hh : h < c.n) (e1 : c'.fl h = c.fl h) (e2 : c'.wd h = c.wd h) (e3 : ∀ k, k < 24 → b'.heat (24 * h + k) = b.heat (24 * h + k) ∧ b'.stuff (24 * h + k) = b.stuff (24 * h + k)) (e4 : ∀ f, f < 6 → b'.fal (6 * h + f) = b.fal (6 * h + f)) : brnN c' b' h = brnN c b h := by
  unfold brnN
  rw [e1, e2]
  refine itn_congr _ fun k x hk => ?_
  have hfw := w.fw hh
  have hfl := w.fl h hh
  have hdv := w.dv hh hk
  have h6 : k / c.wd h < 6 := Nat.lt_of_lt_of_le hdv hfl.2
  have : brn c' b' h k = brn c b h k := by
    unfold brn
    rw [(e3 k (by omega)).1, (e3 k (by omega)).2, e2, e4 _ h6]
  rw [this]
theorem worJ_congr {c c' : CHo} {b b' : CBz} {cor : Nat} : ∀ j, (∀ h, h < j → c'.cor h = c.cor h ∧ (c.cor h = cor → brnN c' b' h = brnN c b h)) → worJ c' b' cor j = worJ c b cor j := by
  intro j
  induction j with
  | zero => intro _; rfl
  | succ j ih =>
    intro h
    have ihj := ih fun x hx => h x (by omega)
    have e : worJ c b cor (j + 1) = (if c.cor j = cor then (if most c b (worJ c b cor j) < brnN c b j then j + 1 else worJ c b cor j) else worJ c b cor j) := rfl
    have e' : worJ c' b' cor (j + 1) = (if c'.cor j = cor then (if most c' b' (worJ c' b' cor j) < brnN c' b' j then j + 1 else worJ c' b' cor j) else worJ c' b' cor j) := rfl
    rw [e, e', ihj, (h j (by omega)).1]
    by_cases c1 : c.cor j = cor
    · rw [if_pos c1, if_pos c1, (h j (by omega)).2 c1]
      have hm : most c' b' (worJ c b cor j) = most c b (worJ c b cor j) := by
        unfold most
        by_cases z : worJ c b cor j = 0
        · rw [if_pos z, if_pos z]
        · rw [if_neg z, if_neg z]
          have hle := worJ_le (c := c) (b := b) (cor := cor) j
          exact (h _ (by omega)).2 (worJ_cor j z)
      rw [hm]
    · rw [if_neg c1, if_neg c1]
def keptA (c : CHo) (b : CBz) (ca : CCa) : Prop := ∀ k, k < ca.n → ca.what k = 0 → worS c b (ca.cor k) ≠ 0 → ca.bur k = 1
theorem keptA.but {c c' : CHo} {b b' : CBz} {ca : CCa} (h : keptA c b ca) {x : Nat} (en : c'.n = c.n) (e : ∀ h, h < c.n → c'.cor h = c.cor h ∧ (h ≠ x → brnN c' b' h = brnN c b h)) : kept c' b' ca (c.cor x) := by
  intro k hk hw hne hb
  refine h k hk hw ?_
  have : worS c' b' (ca.cor k) = worS c b (ca.cor k) := by
    unfold worS
    rw [en]
    refine worJ_congr _ fun y hy => ⟨(e y hy).1, fun hc => (e y hy).2 fun z => hne ?_⟩
    rw [← hc, z]
  rw [← this]; exact hb
theorem notS_kept {c : CHo} {b : CBz} {ca : CCa} : keptA c b (notS c b ca) := by
  intro k hk hw hb
  show (if k < ca.n ∧ ca.what k = 0 ∧ worS c b (ca.cor k) ≠ 0 then (1 : Int32) else ca.bur k) = 1
  rw [if_pos ⟨hk, hw, hb⟩]
theorem notS_WF {c : CHo} {b : CBz} {ca : CCa} (w : ca.WF) : (notS c b ca).WF := by
  refine CCa.WF.mk w.hn w.cor w.word w.beg w.uniq ?_ w.z
  intro k hk
  show (if k < ca.n ∧ ca.what k = 0 ∧ worS c b (ca.cor k) ≠ 0 then (1 : Int32) else ca.bur k) = 0 ∨ (if k < ca.n ∧ ca.what k = 0 ∧ worS c b (ca.cor k) ≠ 0 then (1 : Int32) else ca.bur k) = 1
  split
  · exact Or.inr rfl
  · exact w.bur k hk
/-! build -/
def buildS (c : CHo) (a1 a2 a3 a4 : Int32) : Int32 × CHo :=
  if inN a1 c.n then if out a3 0 3 then (0, c) else if out a4 1 200 then (0, c) else
    (1, ((c.s_dr (pup c.dr a1.toNatClampNeg a2)).s_wl (pup c.wl a1.toNatClampNeg a3.toNatClampNeg)).s_yr (pup c.yr a1.toNatClampNeg a4)) else (0, c)
theorem buildS_WF {c : CHo} (w : c.WF) (a1 a2 a3 a4 : Int32) : (buildS c a1 a2 a3 a4).2.WF := by
  unfold buildS
  split
  · rename_i h1
    split
    · exact w
    · split
      · exact w
      · rename_i h2 h3
        have hn := w.hn
        obtain ⟨x, hx, rfl⟩ := h1.ex (by omega)
        obtain ⟨v, rfl, v1, v2⟩ := not_out (lo := 0) (hi := 3) h2 (by decide) (by decide)
        refine CHo.WF.mk w.hn w.cor w.fl w.wd ?_ ?_ w.zf
        · intro h
          show pup c.wl _ _ h ≤ 3
          unfold pup
          split
          · rw [iN_nat (by omega)]; exact v2
          · exact w.wl h
        · intro h hh
          have hh2 : c.n ≤ h := hh
          have := w.z h hh2
          refine ⟨?_, ?_, this.2.2⟩
          · show pup c.dr _ _ h = 0
            rw [iN_nat (by omega), pup_ne (by omega)]; exact this.1
          · show pup c.wl _ _ h = 0
            rw [iN_nat (by omega), pup_ne (by omega)]; exact this.2.1
  · exact w
theorem op_X1_build {c : CHo} (w : c.WF) {φ : amSh} {S : amSt} (hφ : φ.1 255 ≠ 0) (hR : RCho c φ S) {a1 a2 a3 a4 : Int32} (hz : a2 = 0 ∨ a2 = 1) : Rs (fun v S' => v = (buildS c a1 a2 a3 a4).1 ∧ RCho (buildS c a1 a2 a3 a4).2 φ S') (p_X1_build a1 a2 a3 a4 φ S) := by
  have hn := w.hn
  unfold p_X1_build
  by_cases h1 : inN a1 c.n
  · by_cases h2 : out a3 0 3
    · rw [show buildS c a1 a2 a3 a4 = (0, c) by unfold buildS; rw [if_pos h1, if_pos h2]]
      simp (disch := first | omega | assumption) only [↓bd_rt, ↓bd_bd, ↓bd_ite, ↓bd_jn, ↓jn_ap, ↓ite_ap, ↓bd_gI1, ↓bd_pI1, ↓bd_gR1, ↓bd_pR1, ↓bd_gM, rt_ap, ↓reduceIte, iN_div, iN_divL, iN_add, iN_mul, iN_addL, iN_Ladd, iN_mulL, iN_Lmul, iN_subL, iN_sub, iN_le_T, iN_le_F, iN_lt_T, iN_lt_F, iN_eq_F, iN_leL_T, iN_leL_F, iN_Lle_T, iN_Lle_F, iN_ltL_T, iN_ltL_F, iN_Llt_T, iN_Llt_F, iN_eqL_T, iN_eqL_F, iN_m1, m1_iN, iN_le_m1, m1_le_iN, iN_neg, iN_pos, i10, i01, i00, i11, u3_op, u3_or, u3_same, pup_eq, pup_ne, ↓bd_of (sp_X1_isHouse w hR), ip h1, ↓bd_of sp_X1_in, jp h2]
      exact Rs.mk ⟨rfl, hR⟩
    · by_cases h3 : out a4 1 200
      · rw [show buildS c a1 a2 a3 a4 = (0, c) by unfold buildS; rw [if_pos h1, if_neg h2, if_pos h3]]
        simp (disch := first | omega | assumption) only [↓bd_rt, ↓bd_bd, ↓bd_ite, ↓bd_jn, ↓jn_ap, ↓ite_ap, ↓bd_gI1, ↓bd_pI1, ↓bd_gR1, ↓bd_pR1, ↓bd_gM, rt_ap, ↓reduceIte, iN_div, iN_divL, iN_add, iN_mul, iN_addL, iN_Ladd, iN_mulL, iN_Lmul, iN_subL, iN_sub, iN_le_T, iN_le_F, iN_lt_T, iN_lt_F, iN_eq_F, iN_leL_T, iN_leL_F, iN_Lle_T, iN_Lle_F, iN_ltL_T, iN_ltL_F, iN_Llt_T, iN_Llt_F, iN_eqL_T, iN_eqL_F, iN_m1, m1_iN, iN_le_m1, m1_le_iN, iN_neg, iN_pos, i10, i01, i00, i11, u3_op, u3_or, u3_same, pup_eq, pup_ne, ↓bd_of (sp_X1_isHouse w hR), ip h1, ↓bd_of sp_X1_in, jq h2, jp h3]
        exact Rs.mk ⟨rfl, hR⟩
      · obtain ⟨x, hx, rfl⟩ := h1.ex (by omega)
        obtain ⟨v, rfl, v1, v2⟩ := not_out (lo := 0) (hi := 3) h2 (by decide) (by decide)
        rw [show buildS c (iN x) a2 (iN v) a4 = (1, ((c.s_dr (pup c.dr x a2)).s_wl (pup c.wl x v)).s_yr (pup c.yr x a4)) by unfold buildS; rw [if_pos h1, if_neg h2, if_neg h3, iN_nat (by omega), iN_nat (by omega)]]
        simp (disch := first | omega | assumption) only [↓bd_rt, ↓bd_bd, ↓bd_ite, ↓bd_jn, ↓jn_ap, ↓ite_ap, ↓bd_gI1, ↓bd_pI1, ↓bd_gR1, ↓bd_pR1, ↓bd_gM, rt_ap, ↓reduceIte, iN_div, iN_divL, iN_add, iN_mul, iN_addL, iN_Ladd, iN_mulL, iN_Lmul, iN_subL, iN_sub, iN_le_T, iN_le_F, iN_lt_T, iN_lt_F, iN_eq_F, iN_leL_T, iN_leL_F, iN_Lle_T, iN_Lle_F, iN_ltL_T, iN_ltL_F, iN_Llt_T, iN_Llt_F, iN_eqL_T, iN_eqL_F, iN_m1, m1_iN, iN_le_m1, m1_le_iN, iN_neg, iN_pos, i10, i01, i00, i11, u3_op, u3_or, u3_same, pup_eq, pup_ne, ↓bd_of (sp_X1_isHouse w hR), ip h1, ↓bd_of sp_X1_in, jq h2, jq h3, ↓rR24_1, hR.obj x hx, ↓bd_gd hz, ↓bd_pI]
        refine Rs.mk ⟨rfl, ?_⟩
        refine RCho.mk ?_ hR.obj ?_ ?_ ?_ ?_ ?_ ?_ ?_ ?_ ?_ ?_ ?_ ?_ ?_ ?_ hR.stg hR.stb hR.stc hR.cnt hR.cnb
        · refine Eq.trans ?_ hR.n; simp [u3]
        · intro j hj; refine Eq.trans ?_ (hR.cor j hj); simp [u3]
        · intro j hj; refine Eq.trans ?_ (hR.kind j hj); simp [u3]
        · intro j hj; refine Eq.trans ?_ (hR.fl j hj); simp [u3]
        · intro j hj; refine Eq.trans ?_ (hR.wd j hj); simp [u3]
        · intro j hj; refine Eq.trans ?_ (hR.sh j hj); simp [u3]
        · intro j hj; show _ = pup c.dr x a2 j; by_cases e : j = x
          · subst e; simp [u3, pup]
          · rw [pup_ne e]; refine Eq.trans ?_ (hR.dr j hj); simp [u3, e]
        · intro j hj; show _ = iN (pup c.wl x v j); by_cases e : j = x
          · subst e; simp [u3, pup]
          · rw [pup_ne e]; refine Eq.trans ?_ (hR.wl j hj); simp [u3, e]
        · intro j hj; show _ = pup c.yr x a4 j; by_cases e : j = x
          · subst e; simp [u3, pup]
          · rw [pup_ne e]; refine Eq.trans ?_ (hR.yr j hj); simp [u3, e]
        · intro j hj; refine Eq.trans ?_ (hR.use j hj); simp [u3]
        · intro j hj; refine Eq.trans ?_ (hR.sav j hj); simp [u3]
        · intro j hj; refine Eq.trans ?_ (hR.lost j hj); simp [u3]
        · intro j hj; refine Eq.trans ?_ (hR.gal j hj); simp [u3]
        · intro j g hj hg; refine Eq.trans ?_ (hR.ppl j g hj hg); simp [u3]
        · intro j g hj hg; refine Eq.trans ?_ (hR.told j g hj hg); simp [u3]
  · rw [show buildS c a1 a2 a3 a4 = (0, c) by unfold buildS; rw [if_neg h1]]
    simp (disch := first | omega | assumption) only [↓bd_rt, ↓bd_bd, ↓bd_ite, ↓bd_jn, ↓jn_ap, ↓ite_ap, ↓bd_gI1, ↓bd_pI1, ↓bd_gR1, ↓bd_pR1, ↓bd_gM, rt_ap, ↓reduceIte, iN_div, iN_divL, iN_add, iN_mul, iN_addL, iN_Ladd, iN_mulL, iN_Lmul, iN_subL, iN_sub, iN_le_T, iN_le_F, iN_lt_T, iN_lt_F, iN_eq_F, iN_leL_T, iN_leL_F, iN_Lle_T, iN_Lle_F, iN_ltL_T, iN_ltL_F, iN_Llt_T, iN_Llt_F, iN_eqL_T, iN_eqL_F, iN_m1, m1_iN, iN_le_m1, m1_le_iN, iN_neg, iN_pos, i10, i01, i00, i11, u3_op, u3_or, u3_same, pup_eq, pup_ne, ↓bd_of (sp_X1_isHouse w hR), iq h1]
    exact Rs.mk ⟨rfl, hR⟩
theorem op_X3_build {c : CHo} (w : c.WF) {φ : amSh} {S : amSt} (hφ : φ.1 255 ≠ 0) (hR0 : RMho c S) {a1 a2 a3 a4 : Int32} (hz : a2 = 0 ∨ a2 = 1) : Rs (fun v S' => v = (buildS c a1 a2 a3 a4).1 ∧ RMho (buildS c a1 a2 a3 a4).2 S') (p_X3_build a1 a2 a3 a4 φ S) := by
  have hn := w.hn
  have hR := hR0.fr th0 (by decide)
  unfold p_X3_build
  by_cases h1 : inN a1 c.n
  · by_cases h2 : out a3 0 3
    · rw [show buildS c a1 a2 a3 a4 = (0, c) by unfold buildS; rw [if_pos h1, if_pos h2]]
      simp (disch := first | omega | assumption) only [↓bd_rt, ↓bd_bd, ↓bd_ite, ↓bd_jn, ↓jn_ap, ↓ite_ap, ↓bd_gI1, ↓bd_pI1, ↓bd_gR1, ↓bd_pR1, ↓bd_gM, rt_ap, ↓reduceIte, iN_div, iN_divL, iN_add, iN_mul, iN_addL, iN_Ladd, iN_mulL, iN_Lmul, iN_subL, iN_sub, iN_le_T, iN_le_F, iN_lt_T, iN_lt_F, iN_eq_F, iN_leL_T, iN_leL_F, iN_Lle_T, iN_Lle_F, iN_ltL_T, iN_ltL_F, iN_Llt_T, iN_Llt_F, iN_eqL_T, iN_eqL_F, iN_m1, m1_iN, iN_le_m1, m1_le_iN, iN_neg, iN_pos, i10, i01, i00, i11, u3_op, u3_or, u3_same, pup_eq, pup_ne, ↓bd_of (sp_X3_isHouse hR), ip h1, ↓bd_of sp_X3_isIn, jp h2]
      exact Rs.mk ⟨rfl, hR⟩
    · by_cases h3 : out a4 1 200
      · rw [show buildS c a1 a2 a3 a4 = (0, c) by unfold buildS; rw [if_pos h1, if_neg h2, if_pos h3]]
        simp (disch := first | omega | assumption) only [↓bd_rt, ↓bd_bd, ↓bd_ite, ↓bd_jn, ↓jn_ap, ↓ite_ap, ↓bd_gI1, ↓bd_pI1, ↓bd_gR1, ↓bd_pR1, ↓bd_gM, rt_ap, ↓reduceIte, iN_div, iN_divL, iN_add, iN_mul, iN_addL, iN_Ladd, iN_mulL, iN_Lmul, iN_subL, iN_sub, iN_le_T, iN_le_F, iN_lt_T, iN_lt_F, iN_eq_F, iN_leL_T, iN_leL_F, iN_Lle_T, iN_Lle_F, iN_ltL_T, iN_ltL_F, iN_Llt_T, iN_Llt_F, iN_eqL_T, iN_eqL_F, iN_m1, m1_iN, iN_le_m1, m1_le_iN, iN_neg, iN_pos, i10, i01, i00, i11, u3_op, u3_or, u3_same, pup_eq, pup_ne, ↓bd_of (sp_X3_isHouse hR), ip h1, ↓bd_of sp_X3_isIn, jq h2, jp h3]
        exact Rs.mk ⟨rfl, hR⟩
      · obtain ⟨x, hx, rfl⟩ := h1.ex (by omega)
        obtain ⟨v, rfl, v1, v2⟩ := not_out (lo := 0) (hi := 3) h2 (by decide) (by decide)
        rw [show buildS c (iN x) a2 (iN v) a4 = (1, ((c.s_dr (pup c.dr x a2)).s_wl (pup c.wl x v)).s_yr (pup c.yr x a4)) by unfold buildS; rw [if_pos h1, if_neg h2, if_neg h3, iN_nat (by omega), iN_nat (by omega)]]
        simp (disch := first | omega | assumption) only [↓bd_rt, ↓bd_bd, ↓bd_ite, ↓bd_jn, ↓jn_ap, ↓ite_ap, ↓bd_gI1, ↓bd_pI1, ↓bd_gR1, ↓bd_pR1, ↓bd_gM, rt_ap, ↓reduceIte, iN_div, iN_divL, iN_add, iN_mul, iN_addL, iN_Ladd, iN_mulL, iN_Lmul, iN_subL, iN_sub, iN_le_T, iN_le_F, iN_lt_T, iN_lt_F, iN_eq_F, iN_leL_T, iN_leL_F, iN_Lle_T, iN_Lle_F, iN_ltL_T, iN_ltL_F, iN_Llt_T, iN_Llt_F, iN_eqL_T, iN_eqL_F, iN_m1, m1_iN, iN_le_m1, m1_le_iN, iN_neg, iN_pos, i10, i01, i00, i11, u3_op, u3_or, u3_same, pup_eq, pup_ne, ↓bd_of (sp_X3_isHouse hR), ip h1, ↓bd_of sp_X3_isIn, jq h2, jq h3, ↓bd_gd hz, ↓wI73_1, ↓wI67_1, ↓wI68_1]
        refine Rs.mk ⟨rfl, ?_⟩
        refine RMho.mk ?_ ?_ ?_ ?_ ?_ ?_ ?_ ?_ ?_ ?_ ?_ ?_ ?_ ?_ ?_
        · refine Eq.trans ?_ hR0.n; simp [u3]
        · intro j hj; refine Eq.trans ?_ (hR0.cor j hj); simp [u3]
        · intro j hj; refine Eq.trans ?_ (hR0.kind j hj); simp [u3]
        · intro j hj; refine Eq.trans ?_ (hR0.fl j hj); simp [u3]
        · intro j hj; refine Eq.trans ?_ (hR0.wd j hj); simp [u3]
        · intro j hj; refine Eq.trans ?_ (hR0.sh j hj); simp [u3]
        · intro j hj; show _ = iN (pup c.wl x v j); by_cases e : j = x
          · subst e; simp [u3, pup]
          · rw [pup_ne e]; refine Eq.trans ?_ (hR0.wl j hj); simp [u3, e]
        · intro j hj; show _ = pup c.yr x a4 j; by_cases e : j = x
          · subst e; simp [u3, pup]
          · rw [pup_ne e]; refine Eq.trans ?_ (hR0.yr j hj); simp [u3, e]
        · intro j hj; refine Eq.trans ?_ (hR0.use j hj); simp [u3]
        · intro j hj; refine Eq.trans ?_ (hR0.sav j hj); simp [u3]
        · intro j hj; refine Eq.trans ?_ (hR0.lost j hj); simp [u3]
        · intro j hj; refine Eq.trans ?_ (hR0.gal j hj); simp [u3]
        · intro j hj; show _ = pup c.dr x a2 j; by_cases e : j = x
          · subst e; simp [u3, pup]
          · rw [pup_ne e]; refine Eq.trans ?_ (hR0.dr j hj); simp [u3, e]
        · intro j hj; refine Eq.trans ?_ (hR0.ppl j hj); simp [u3]
        · intro j hj; refine Eq.trans ?_ (hR0.told j hj); simp [u3]
  · rw [show buildS c a1 a2 a3 a4 = (0, c) by unfold buildS; rw [if_neg h1]]
    simp (disch := first | omega | assumption) only [↓bd_rt, ↓bd_bd, ↓bd_ite, ↓bd_jn, ↓jn_ap, ↓ite_ap, ↓bd_gI1, ↓bd_pI1, ↓bd_gR1, ↓bd_pR1, ↓bd_gM, rt_ap, ↓reduceIte, iN_div, iN_divL, iN_add, iN_mul, iN_addL, iN_Ladd, iN_mulL, iN_Lmul, iN_subL, iN_sub, iN_le_T, iN_le_F, iN_lt_T, iN_lt_F, iN_eq_F, iN_leL_T, iN_leL_F, iN_Lle_T, iN_Lle_F, iN_ltL_T, iN_ltL_F, iN_Llt_T, iN_Llt_F, iN_eqL_T, iN_eqL_F, iN_m1, m1_iN, iN_le_m1, m1_le_iN, iN_neg, iN_pos, i10, i01, i00, i11, u3_op, u3_or, u3_same, pup_eq, pup_ne, ↓bd_of (sp_X3_isHouse hR), iq h1]
    exact Rs.mk ⟨rfl, hR⟩
