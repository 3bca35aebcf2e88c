/-! PURE: all floors that fall; people and crews with them -/
abbrev Tr : Type := CHo × CBz × CCr
def loadS (b : CBz) (h f : Nat) : Int32 := if f = 0 then 0 else b.bnt (6 * h + f) + 2 * b.bnt (6 * h + (f - 1))
def bearS (c : CHo) (h : Nat) : Int32 := iN (c.wd h) * (if c.kind h = 0 then 60 else if c.kind h = 1 then 100 else 140)
def lossC (c : CHo) (h f : Nat) : CHo := (c.s_lost (pup c.lost h (c.lost h + c.ppl (6 * h + f)))).s_ppl (pup c.ppl (6 * h + f) 0)
def fallT (real : Bool) (h f : Nat) (t : Tr) : Tr := if t.2.1.fal (6 * h + f) = 0 then (if loadS t.2.1 h f < bearS t.1 h then t else
  (if real then lossC t.1 h f else t.1, fallB t.1 h f t.2.1, if real then hurtS t.2.2 h f else t.2.2)) else t
def fdn (real : Bool) (h : Nat) : Nat → Tr → Tr
  | 0, t => t
  | f + 1, t => fdn real h f (fallT real h (f + 1) t)
def fallsS (real : Bool) (t : Tr) : Tr := itn (fun h t => fdn real h (t.1.fl h - 1) t) t t.1.n
/-- houses alike but for people and losses -/
def alike (c c' : CHo) : Prop := c'.n = c.n ∧ c'.cor = c.cor ∧ c'.kind = c.kind ∧ c'.fl = c.fl ∧ c'.wd = c.wd ∧ c'.sh = c.sh ∧ c'.dr = c.dr ∧ c'.wl = c.wl ∧ c'.yr = c.yr ∧ c'.use = c.use ∧ c'.sav = c.sav ∧ c'.gal = c.gal ∧ c'.told = c.told
theorem alike.rf {c : CHo} : alike c c := ⟨rfl, rfl, rfl, rfl, rfl, rfl, rfl, rfl, rfl, rfl, rfl, rfl, rfl⟩
theorem alike.tr {a b c : CHo} (h : alike a b) (g : alike b c) : alike a c := by
  obtain ⟨h1, h2, h3, h4, h5, h6, h7, h8, h9, h10, h11, h12, h13⟩ := h
  obtain ⟨g1, g2, g3, g4, g5, g6, g7, g8, g9, g10, g11, g12, g13⟩ := g
  exact ⟨g1.trans h1, g2.trans h2, g3.trans h3, g4.trans h4, g5.trans h5, g6.trans h6, g7.trans h7, g8.trans h8, g9.trans h9, g10.trans h10, g11.trans h11, g12.trans h12, g13.trans h13⟩
theorem alike_loss {c : CHo} {h f : Nat} : alike c (lossC c h f) := ⟨rfl, rfl, rfl, rfl, rfl, rfl, rfl, rfl, rfl, rfl, rfl, rfl, rfl⟩
/-- what a triple keeps -/
def TW (t : Tr) : Prop := t.1.WF ∧ t.2.2.n ≤ 16 ∧ ∀ k, k < t.2.2.n → t.2.2.wk k ≤ 12
theorem lossC_WF {c : CHo} (w : c.WF) {h f : Nat} (hh : h < c.n) (hf : f < 6) : (lossC c h f).WF := by
  refine CHo.WF.mk w.hn w.cor w.fl w.wd w.wl ?_ ?_
  · intro h' hh'
    have := w.z h' hh'
    have hh2 : c.n ≤ h' := hh'
    refine ⟨this.1, this.2.1, this.2.2.1, this.2.2.2.1, ?_, this.2.2.2.2.2⟩
    show pup c.lost h _ h' = 0
    rw [pup_ne (by omega)]
    exact this.2.2.2.2.1
  · intro k hk
    have hk2 : 6 * c.n ≤ k := hk
    have := w.zf k hk
    refine ⟨?_, this.2⟩
    show pup c.ppl _ 0 k = 0
    rw [pup_ne (by omega)]
    exact this.1
theorem fallT_W {real : Bool} {h f : Nat} {t : Tr} (w : TW t) (hh : h < t.1.n) (hf : f < 6) : TW (fallT real h f t) := by
  unfold fallT
  split
  · split
    · exact w
    · cases real
      · exact w
      · refine ⟨lossC_WF w.1 hh hf, ?_, ?_⟩
        · show (hurtS t.2.2 h f).n ≤ 16
          unfold hurtS
          rw [hurt_n]
          exact w.2.1
        · intro k hk
          have hk : k < (hurtS t.2.2 h f).n := hk
          unfold hurtS at hk
          rw [hurt_n] at hk
          exact hurt_bd w.2.2 _ k hk
  · exact w
theorem fallT_a {real : Bool} {h f : Nat} {t : Tr} : alike t.1 (fallT real h f t).1 := by
  unfold fallT
  split
  · split
    · exact alike.rf
    · cases real
      · exact alike.rf
      · exact alike_loss
  · exact alike.rf
theorem sp_X5_load {b : CBz} {φ : amSh} {S : amSt} {h r f : Nat} (hb : RCb1 b h r S) (hr : r ≠ 0) (hst : 6 < φ.2.1 4 r) {q : Nat} (hf : f < 6) : p_X5_load q r (iN f) φ S = some (loadS b h f, S) := by
  unfold p_X5_load loadS
  by_cases h0 : f = 0
  · subst h0; rfl
  · simp (disch := first | omega | assumption) only [↓bd_rt, ↓bd_bd, ↓bd_ite, ↓bd_jn, ↓jn_ap, ↓ite_ap, ↓bd_gI1, ↓bd_pI1, ↓bd_gR1, ↓bd_pR1, ↓bd_gM, rt_ap, ↓reduceIte, iN_div, iN_divL, iN_add, iN_mul, iN_addL, iN_Ladd, iN_mulL, iN_Lmul, iN_subL, iN_sub, iN_le_T, iN_le_F, iN_lt_T, iN_lt_F, iN_eq_F, iN_leL_T, iN_leL_F, iN_Lle_T, iN_Lle_F, iN_ltL_T, iN_ltL_F, iN_Llt_T, iN_Llt_F, iN_eqL_T, iN_eqL_F, iN_m1, m1_iN, iN_le_m1, m1_le_iN, iN_neg, iN_pos, i10, i01, i00, i11, u3_op, u3_or, u3_same, pup_eq, pup_ne, if_neg h0, ↓bd_gC hr (show 3 < φ.2.1 4 r by omega), ↓rI148, hb.bnt f hf, hb.bnt (f - 1) (by omega)]
theorem sp_X3_loadOf {b : CBz} {φ : amSh} {S : amSt} (hφ : φ.1 255 ≠ 0) {h f : Nat} (hb : RMbz b S) (hh : h < 12) (hf : f < 6) : p_X3_loadOf (iN h) (iN f) φ S = some (loadS b h f, S) := by
  unfold p_X3_loadOf loadS
  by_cases h0 : f = 0
  · subst h0; rw [bd_gM hφ]; rfl
  · have e : 6 * h + f - 1 = 6 * h + (f - 1) := by omega
    simp (disch := first | omega | assumption) only [↓bd_rt, ↓bd_bd, ↓bd_ite, ↓bd_jn, ↓jn_ap, ↓ite_ap, ↓bd_gI1, ↓bd_pI1, ↓bd_gR1, ↓bd_pR1, ↓bd_gM, rt_ap, ↓reduceIte, iN_div, iN_divL, iN_add, iN_mul, iN_addL, iN_Ladd, iN_mulL, iN_Lmul, iN_subL, iN_sub, iN_le_T, iN_le_F, iN_lt_T, iN_lt_F, iN_eq_F, iN_leL_T, iN_leL_F, iN_Lle_T, iN_Lle_F, iN_ltL_T, iN_ltL_F, iN_Llt_T, iN_Llt_F, iN_eqL_T, iN_eqL_F, iN_m1, m1_iN, iN_le_m1, m1_le_iN, iN_neg, iN_pos, i10, i01, i00, i11, u3_op, u3_or, u3_same, pup_eq, pup_ne, if_neg h0, e, ↓rI79_1, hb.bnt (6 * h + f) (by omega), hb.bnt (6 * h + (f - 1)) (by omega)]
theorem sp_X5_bears {c : CHo} {φ : amSh} {S : amSt} (hR : RCho c φ S) {h : Nat} (hh : h < c.n) : p_X5_bears (h + 1) φ S = some (bearS c h, S) := by
  unfold p_X5_bears bearS
  by_cases h0 : c.kind h = 0
  · simp (disch := first | omega | assumption) only [↓bd_rt, ↓bd_bd, ↓bd_ite, ↓bd_jn, ↓jn_ap, ↓ite_ap, ↓bd_gI1, ↓bd_pI1, ↓bd_gR1, ↓bd_pR1, ↓bd_gM, rt_ap, ↓reduceIte, iN_div, iN_divL, iN_add, iN_mul, iN_addL, iN_Ladd, iN_mulL, iN_Lmul, iN_subL, iN_sub, iN_le_T, iN_le_F, iN_lt_T, iN_lt_F, iN_eq_F, iN_leL_T, iN_leL_F, iN_Lle_T, iN_Lle_F, iN_ltL_T, iN_ltL_F, iN_Llt_T, iN_Llt_F, iN_eqL_T, iN_eqL_F, iN_m1, m1_iN, iN_le_m1, m1_le_iN, iN_neg, iN_pos, i10, i01, i00, i11, u3_op, u3_or, u3_same, pup_eq, pup_ne, ↓bd_gI, hR.wd h hh, hR.kind h hh, h0, if_true]
  · by_cases h1 : c.kind h = 1
    · simp (disch := first | omega | assumption) only [↓bd_rt, ↓bd_bd, ↓bd_ite, ↓bd_jn, ↓jn_ap, ↓ite_ap, ↓bd_gI1, ↓bd_pI1, ↓bd_gR1, ↓bd_pR1, ↓bd_gM, rt_ap, ↓reduceIte, iN_div, iN_divL, iN_add, iN_mul, iN_addL, iN_Ladd, iN_mulL, iN_Lmul, iN_subL, iN_sub, iN_le_T, iN_le_F, iN_lt_T, iN_lt_F, iN_eq_F, iN_leL_T, iN_leL_F, iN_Lle_T, iN_Lle_F, iN_ltL_T, iN_ltL_F, iN_Llt_T, iN_Llt_F, iN_eqL_T, iN_eqL_F, iN_m1, m1_iN, iN_le_m1, m1_le_iN, iN_neg, iN_pos, i10, i01, i00, i11, u3_op, u3_or, u3_same, pup_eq, pup_ne, ↓bd_gI, hR.wd h hh, hR.kind h hh, if_neg h0, h1, if_true, i10, if_false]
    · simp (disch := first | omega | assumption) only [↓bd_rt, ↓bd_bd, ↓bd_ite, ↓bd_jn, ↓jn_ap, ↓ite_ap, ↓bd_gI1, ↓bd_pI1, ↓bd_gR1, ↓bd_pR1, ↓bd_gM, rt_ap, ↓reduceIte, iN_div, iN_divL, iN_add, iN_mul, iN_addL, iN_Ladd, iN_mulL, iN_Lmul, iN_subL, iN_sub, iN_le_T, iN_le_F, iN_lt_T, iN_lt_F, iN_eq_F, iN_leL_T, iN_leL_F, iN_Lle_T, iN_Lle_F, iN_ltL_T, iN_ltL_F, iN_Llt_T, iN_Llt_F, iN_eqL_T, iN_eqL_F, iN_m1, m1_iN, iN_le_m1, m1_le_iN, iN_neg, iN_pos, i10, i01, i00, i11, u3_op, u3_or, u3_same, pup_eq, pup_ne, ↓bd_gI, hR.wd h hh, hR.kind h hh, if_neg h0, if_neg h1]
theorem sp_X3_bears {c : CHo} (w : c.WF) {φ : amSh} {S : amSt} (hφ : φ.1 255 ≠ 0) (hR : RMho c S) {h : Nat} (hh : h < c.n) : p_X3_bears (iN h) φ S = some (bearS c h, S) := by
  have hn := w.hn
  unfold p_X3_bears bearS
  by_cases h0 : c.kind h = 0
  · simp (disch := first | omega | assumption) only [↓bd_rt, ↓bd_bd, ↓bd_ite, ↓bd_jn, ↓jn_ap, ↓ite_ap, ↓bd_gI1, ↓bd_pI1, ↓bd_gR1, ↓bd_pR1, ↓bd_gM, rt_ap, ↓reduceIte, iN_div, iN_divL, iN_add, iN_mul, iN_addL, iN_Ladd, iN_mulL, iN_Lmul, iN_subL, iN_sub, iN_le_T, iN_le_F, iN_lt_T, iN_lt_F, iN_eq_F, iN_leL_T, iN_leL_F, iN_Lle_T, iN_Lle_F, iN_ltL_T, iN_ltL_F, iN_Llt_T, iN_Llt_F, iN_eqL_T, iN_eqL_F, iN_m1, m1_iN, iN_le_m1, m1_le_iN, iN_neg, iN_pos, i10, i01, i00, i11, u3_op, u3_or, u3_same, pup_eq, pup_ne, ↓rI63_1, ↓rI65_1, hR.wd h hh, hR.kind h hh, h0, if_true]
  · by_cases h1 : c.kind h = 1
    · simp (disch := first | omega | assumption) only [↓bd_rt, ↓bd_bd, ↓bd_ite, ↓bd_jn, ↓jn_ap, ↓ite_ap, ↓bd_gI1, ↓bd_pI1, ↓bd_gR1, ↓bd_pR1, ↓bd_gM, rt_ap, ↓reduceIte, iN_div, iN_divL, iN_add, iN_mul, iN_addL, iN_Ladd, iN_mulL, iN_Lmul, iN_subL, iN_sub, iN_le_T, iN_le_F, iN_lt_T, iN_lt_F, iN_eq_F, iN_leL_T, iN_leL_F, iN_Lle_T, iN_Lle_F, iN_ltL_T, iN_ltL_F, iN_Llt_T, iN_Llt_F, iN_eqL_T, iN_eqL_F, iN_m1, m1_iN, iN_le_m1, m1_le_iN, iN_neg, iN_pos, i10, i01, i00, i11, u3_op, u3_or, u3_same, pup_eq, pup_ne, ↓rI63_1, ↓rI65_1, hR.wd h hh, hR.kind h hh, if_neg h0, h1, if_true, i10, if_false]
    · simp (disch := first | omega | assumption) only [↓bd_rt, ↓bd_bd, ↓bd_ite, ↓bd_jn, ↓jn_ap, ↓ite_ap, ↓bd_gI1, ↓bd_pI1, ↓bd_gR1, ↓bd_pR1, ↓bd_gM, rt_ap, ↓reduceIte, iN_div, iN_divL, iN_add, iN_mul, iN_addL, iN_Ladd, iN_mulL, iN_Lmul, iN_subL, iN_sub, iN_le_T, iN_le_F, iN_lt_T, iN_lt_F, iN_eq_F, iN_leL_T, iN_leL_F, iN_Lle_T, iN_Lle_F, iN_ltL_T, iN_ltL_F, iN_Llt_T, iN_Llt_F, iN_eqL_T, iN_eqL_F, iN_m1, m1_iN, iN_le_m1, m1_le_iN, iN_neg, iN_pos, i10, i01, i00, i11, u3_op, u3_or, u3_same, pup_eq, pup_ne, ↓rI63_1, ↓rI65_1, hR.wd h hh, hR.kind h hh, if_neg h0, if_neg h1]
def T1 (cp : Bool) (φ : amSh) (t : Tr) (S : amSt) : Prop := RCho t.1 φ S ∧ RCbk t.2.1 t.1.n cp S ∧ RCcr t.2.2 φ S
def T3 (t : Tr) (S : amSt) : Prop := RMho t.1 S ∧ RMbz t.2.1 S ∧ RMcr t.2.2 S
theorem RCho.loss {c : CHo} (w : c.WF) {φ : amSh} {S : amSt} (hR : RCho c φ S) {h f : Nat} (hh : h < c.n) (hf : f < 6) : RCho (lossC c h f) φ (u3 (u3 S.1 3 (h + 1) 10 (c.lost h + c.ppl (6 * h + f))) 143 (h + 1) f 0, S.2) := by
  refine RCho.mk ?_ hR.obj ?_ ?_ ?_ ?_ ?_ ?_ ?_ ?_ ?_ ?_ ?_ ?_ ?_ ?_ hR.stg hR.stb hR.stc hR.cnt hR.cnb
  · refine Eq.trans ?_ hR.n; simp [u3]
  · intro j hj; refine Eq.trans ?_ (hR.cor j hj); simp [u3]
  · intro j hj; refine Eq.trans ?_ (hR.kind j hj); simp [u3]
  · intro j hj; refine Eq.trans ?_ (hR.fl j hj); simp [u3]
  · intro j hj; refine Eq.trans ?_ (hR.wd j hj); simp [u3]
  · intro j hj; refine Eq.trans ?_ (hR.sh j hj); simp [u3]
  · intro j hj; refine Eq.trans ?_ (hR.dr j hj); simp [u3]
  · intro j hj; refine Eq.trans ?_ (hR.wl j hj); simp [u3]
  · intro j hj; refine Eq.trans ?_ (hR.yr j hj); simp [u3]
  · intro j hj; refine Eq.trans ?_ (hR.use j hj); simp [u3]
  · intro j hj; refine Eq.trans ?_ (hR.sav j hj); simp [u3]
  · intro j hj; show _ = pup c.lost h _ j; by_cases e : j = h
    · subst e; simp [u3, pup]
    · rw [pup_ne e]; refine Eq.trans ?_ (hR.lost j hj); simp [u3, e]
  · intro j hj; refine Eq.trans ?_ (hR.gal j hj); simp [u3]
  · intro j g hj hg; show _ = pup c.ppl (6 * h + f) 0 (6 * j + g); by_cases e : j = h ∧ g = f
    · obtain ⟨rfl, rfl⟩ := e; simp [u3, pup]
    · rw [pup_ne (by omega)]; refine Eq.trans ?_ (hR.ppl j g hj hg); simp [u3]; intro a b; exact absurd ⟨a, b⟩ e
  · intro j g hj hg; refine Eq.trans ?_ (hR.told j g hj hg); simp [u3]
theorem RMho.loss {c : CHo} {S : amSt} (hR : RMho c S) {h f : Nat} (hh : h < 12) : RMho (lossC c h f) (u3 (u3 S.1 71 1 h (c.lost h + c.ppl (6 * h + f))) 80 1 (6 * h + f) 0, S.2) := by
  refine RMho.mk ?_ ?_ ?_ ?_ ?_ ?_ ?_ ?_ ?_ ?_ ?_ ?_ ?_ ?_ ?_
  · refine Eq.trans ?_ hR.n; simp [u3]
  · intro j hj; refine Eq.trans ?_ (hR.cor j hj); simp [u3]
  · intro j hj; refine Eq.trans ?_ (hR.kind j hj); simp [u3]
  · intro j hj; refine Eq.trans ?_ (hR.fl j hj); simp [u3]
  · intro j hj; refine Eq.trans ?_ (hR.wd j hj); simp [u3]
  · intro j hj; refine Eq.trans ?_ (hR.sh j hj); simp [u3]
  · intro j hj; refine Eq.trans ?_ (hR.wl j hj); simp [u3]
  · intro j hj; refine Eq.trans ?_ (hR.yr j hj); simp [u3]
  · intro j hj; refine Eq.trans ?_ (hR.use j hj); simp [u3]
  · intro j hj; refine Eq.trans ?_ (hR.sav j hj); simp [u3]
  · intro j hj; show _ = pup c.lost h _ j; by_cases e : j = h
    · subst e; simp [u3, pup]
    · rw [pup_ne e]; refine Eq.trans ?_ (hR.lost j hj); simp [u3, e]
  · intro j hj; refine Eq.trans ?_ (hR.gal j hj); simp [u3]
  · intro j hj; refine Eq.trans ?_ (hR.dr j hj); simp [u3]
  · intro j hj; show _ = pup c.ppl (6 * h + f) 0 j; by_cases e : j = 6 * h + f
    · subst e; simp [u3, pup]
    · rw [pup_ne e]; refine Eq.trans ?_ (hR.ppl j hj); simp [u3, e]
  · intro j hj; refine Eq.trans ?_ (hR.told j hj); simp [u3]
theorem RCbk.fal1 {b : CBz} {n : Nat} {cp : Bool} {S : amSt} (hb : RCbk b n cp S) {h f : Nat} (hf : f < 6) : RCbk (CBz.mk b.heat b.stuff b.water b.bnt (pup b.fal (6 * h + f) 1)) n cp (u3 S.1 149 (bnum cp h) f 1, S.2) := by
  intro j hj
  have hbj := hb j hj
  refine RCb1.mk ?_ ?_ ?_ ?_ ?_
  · intro k hk; refine Eq.trans ?_ (hbj.heat k hk); simp [u3]
  · intro k hk; refine Eq.trans ?_ (hbj.stuff k hk); simp [u3]
  · intro k hk; refine Eq.trans ?_ (hbj.water k hk); simp [u3]
  · intro k hk; refine Eq.trans ?_ (hbj.bnt k hk); simp [u3]
  · intro k hk
    show _ = pup b.fal (6 * h + f) 1 (6 * j + k)
    by_cases e : j = h ∧ k = f
    · obtain ⟨rfl, rfl⟩ := e; simp [u3, pup]
    · rw [pup_ne (by omega)]; refine Eq.trans ?_ (hbj.fal k hk); simp [u3]; intro a b; exact absurd ⟨bnum_inj a, b⟩ e
theorem RMbz.fal1 {b : CBz} {S : amSt} (hb : RMbz b S) {h f : Nat} : RMbz (CBz.mk b.heat b.stuff b.water b.bnt (pup b.fal (6 * h + f) 1)) (u3 S.1 82 1 (6 * h + f) 1, S.2) := by
  refine RMbz.mk ?_ ?_ ?_ ?_ ?_
  · intro k hk; refine Eq.trans ?_ (hb.heat k hk); simp [u3]
  · intro k hk; refine Eq.trans ?_ (hb.stuff k hk); simp [u3]
  · intro k hk; refine Eq.trans ?_ (hb.water k hk); simp [u3]
  · intro k hk; refine Eq.trans ?_ (hb.bnt k hk); simp [u3]
  · intro k hk
    show _ = pup b.fal (6 * h + f) 1 k
    by_cases e : k = 6 * h + f
    · subst e; simp [u3, pup]
    · rw [pup_ne e]; refine Eq.trans ?_ (hb.fal k hk); simp [u3, e]
theorem iN_dn {f : Nat} : iN (f + 1) + -1 = iN f := by
  show iN (f + 1) + by1 false = _
  rw [iN_by_dn (by omega)]; rfl
theorem sp_X1_fall_L8 {cp : Bool} {φ : amSh} (hφ : φ.1 255 ≠ 0) {h : Nat} : ∀ (m : Nat) (t : Tr) (S : amSt), TW t → T1 cp φ t S → h < t.1.n → m < t.1.fl h → ∀ fu, m < fu →
    Rs (fun _ S' => T1 cp φ (fdn (!cp) h m t) S') (alp (p_X1_fall_L8 (h + 1) (bnum cp h) (i32b (!cp))) fu (iN m) φ S) := by
  intro m
  induction m with
  | zero =>
    intro t S w hT hh hm fu hfu
    obtain ⟨fu, rfl⟩ : ∃ j, fu = j + 1 := ⟨fu - 1, by omega⟩
    rw [alp_s]
    unfold p_X1_fall_L8
    simp (disch := first | omega | assumption) only [↓bd_rt, ↓bd_bd, ↓bd_ite, ↓bd_jn, ↓jn_ap, ↓ite_ap, ↓bd_gI1, ↓bd_pI1, ↓bd_gR1, ↓bd_pR1, ↓bd_gM, rt_ap, ↓reduceIte, iN_div, iN_divL, iN_add, iN_mul, iN_addL, iN_Ladd, iN_mulL, iN_Lmul, iN_subL, iN_sub, iN_le_T, iN_le_F, iN_lt_T, iN_lt_F, iN_eq_F, iN_leL_T, iN_leL_F, iN_Lle_T, iN_Lle_F, iN_ltL_T, iN_ltL_F, iN_Llt_T, iN_Llt_F, iN_eqL_T, iN_eqL_F, iN_m1, m1_iN, iN_le_m1, m1_le_iN, iN_neg, iN_pos, i10, i01, i00, i11, u3_op, u3_or, u3_same, pup_eq, pup_ne]
    exact Rs.mk hT
  | succ m ih =>
    intro t S w hT hh hm fu hfu
    obtain ⟨fu, rfl⟩ : ∃ j, fu = j + 1 := ⟨fu - 1, by omega⟩
    rw [alp_s]
    obtain ⟨c, b, cr⟩ := t
    obtain ⟨hR, hb, hC⟩ := hT
    dsimp only at hR hb hC hh hm
    have hfl := w.1.fl h hh
    dsimp only at hfl
    have hbn := bnum_ne (cp := cp) (h := h)
    have hst := bnum_st hR hh cp
    have hst3 := hR.stg h hh
    have hbh := hb h hh
    have vf := hbh.fal (m + 1) (by omega)
    have w' := fallT_W (real := !cp) (f := m + 1) w hh (by omega)
    have a' := fallT_a (real := !cp) (h := h) (f := m + 1) (t := (c, b, cr))
    have nxt : ∀ {S2 : amSt}, T1 cp φ (fallT (!cp) h (m + 1) (c, b, cr)) S2 → Rs (fun _ S' => T1 cp φ (fdn (!cp) h (m + 1) (c, b, cr)) S') (alp (p_X1_fall_L8 (h + 1) (bnum cp h) (i32b (!cp))) fu (iN m) φ S2) := fun {S2} hT2 =>
      ih _ S2 w' hT2 (by rw [a'.1]; exact hh) (by rw [a'.2.2.2.1]; show m < c.fl h; omega) fu (by omega)
    have g4 := fun {β : Type} {f : Unit → am0 β} {S : amSt} => bd_gC (f := f) (S := S) hbn (show 4 < φ.2.1 4 (bnum cp h) by omega)
    have g30 := fun {β : Type} {f : Unit → am0 β} {S : amSt} => bd_gC (f := f) (S := S) (show h + 1 ≠ 0 by omega) (show 0 < φ.2.1 3 (h + 1) by omega)
    unfold p_X1_fall_L8
    by_cases c1 : b.fal (6 * h + (m + 1)) = 0
    · by_cases c2 : loadS b h (m + 1) < bearS c h
      · have e : fallT (!cp) h (m + 1) (c, b, cr) = (c, b, cr) := by unfold fallT; rw [if_pos c1, if_pos c2]
        rw [e] at nxt
        have c3 : ¬ bearS c h ≤ loadS b h (m + 1) := by rw [i32_nle]; exact fun z => z c2
        simp (disch := first | omega | assumption) only [↓bd_rt, ↓bd_bd, ↓bd_ite, ↓bd_jn, ↓jn_ap, ↓ite_ap, ↓bd_gI1, ↓bd_pI1, ↓bd_gR1, ↓bd_pR1, ↓bd_gM, rt_ap, ↓reduceIte, iN_div, iN_divL, iN_add, iN_mul, iN_addL, iN_Ladd, iN_mulL, iN_Lmul, iN_subL, iN_sub, iN_le_T, iN_le_F, iN_lt_T, iN_lt_F, iN_eq_F, iN_leL_T, iN_leL_F, iN_Lle_T, iN_Lle_F, iN_ltL_T, iN_ltL_F, iN_Llt_T, iN_Llt_F, iN_eqL_T, iN_eqL_F, iN_m1, m1_iN, iN_le_m1, m1_le_iN, iN_neg, iN_pos, i10, i01, i00, i11, u3_op, u3_or, u3_same, pup_eq, pup_ne, ↓g4, ↓rI149, vf, c1, if_true, ↓bd_nn, ↓bd_of (sp_X5_load (q := h + 1) hbh hbn hst (f := m + 1) (by omega)), ↓bd_of (sp_X5_bears hR hh), if_neg c3, iN_dn]
        exact nxt ⟨hR, hb, hC⟩
      · have c3 : bearS c h ≤ loadS b h (m + 1) := by rw [i32_nle]; exact c2
        have e : fallT (!cp) h (m + 1) (c, b, cr) = (if !cp then lossC c h (m + 1) else c, fallB c h (m + 1) b, if !cp then hurtS cr h (m + 1) else cr) := by unfold fallT; rw [if_pos c1, if_neg c2]
        rw [e] at nxt
        simp (disch := first | omega | assumption) only [↓bd_rt, ↓bd_bd, ↓bd_ite, ↓bd_jn, ↓jn_ap, ↓ite_ap, ↓bd_gI1, ↓bd_pI1, ↓bd_gR1, ↓bd_pR1, ↓bd_gM, rt_ap, ↓reduceIte, iN_div, iN_divL, iN_add, iN_mul, iN_addL, iN_Ladd, iN_mulL, iN_Lmul, iN_subL, iN_sub, iN_le_T, iN_le_F, iN_lt_T, iN_lt_F, iN_eq_F, iN_leL_T, iN_leL_F, iN_Lle_T, iN_Lle_F, iN_ltL_T, iN_ltL_F, iN_Llt_T, iN_Llt_F, iN_eqL_T, iN_eqL_F, iN_m1, m1_iN, iN_le_m1, m1_le_iN, iN_neg, iN_pos, i10, i01, i00, i11, u3_op, u3_or, u3_same, pup_eq, pup_ne, ↓g4, ↓rI149, vf, c1, if_true, ↓bd_nn, ↓bd_of (sp_X5_load (q := h + 1) hbh hbn hst (f := m + 1) (by omega)), ↓bd_of (sp_X5_bears hR hh), if_pos c3, ↓wI149]
        have hf1 : FrS [149] S (u3 S.1 149 (bnum cp h) (m + 1) 1, S.2) := fun p r j hk => sm_u3 fun z => hk (z ▸ kyA (by decide) (by decide) (by decide) _)
        refine bdRF (L := [145, 146]) (Fr.halp (fun rec hrec x => fr_p_X1_fall_L51 (by decide) hrec x) _ _) (sp_X1_fall_L51 w.1 (hR.fr hf1 (by decide)) hh (f := m + 1) (by omega) (by omega) (hb.fal1 (by omega))) fun _ S2 h2 hF2 => ?_
        have hC2 : RCcr cr φ S2 := (hC.fr hf1 (by decide)).fr hF2 (by decide)
        cases cp
        · simp (disch := first | omega | assumption) only [↓bd_rt, ↓bd_bd, ↓bd_ite, ↓bd_jn, ↓jn_ap, ↓ite_ap, ↓bd_gI1, ↓bd_pI1, ↓bd_gR1, ↓bd_pR1, ↓bd_gM, rt_ap, ↓reduceIte, iN_div, iN_divL, iN_add, iN_mul, iN_addL, iN_Ladd, iN_mulL, iN_Lmul, iN_subL, iN_sub, iN_le_T, iN_le_F, iN_lt_T, iN_lt_F, iN_eq_F, iN_leL_T, iN_leL_F, iN_Lle_T, iN_Lle_F, iN_ltL_T, iN_ltL_F, iN_Llt_T, iN_Llt_F, iN_eqL_T, iN_eqL_F, iN_m1, m1_iN, iN_le_m1, m1_le_iN, iN_neg, iN_pos, i10, i01, i00, i11, u3_op, u3_or, u3_same, pup_eq, pup_ne, i32b, Bool.not_false, if_true, ↓bd_gI, ↓g30, ↓rI143, h2.1.lost h hh, h2.1.ppl h (m + 1) hh (by omega), ↓bd_pI, ↓wI143]
          have hl := h2.1.loss w.1 hh (f := m + 1) (by omega)
          have hf3 : FrS [4010, 143] S2 (u3 (u3 S2.1 3 (h + 1) 10 (c.lost h + c.ppl (6 * h + (m + 1)))) 143 (h + 1) (m + 1) 0, S2.2) := fun p r j hk => by
            have h1 : ¬ (p = 143) := fun e => by subst e; exact hk (kyA (by decide) (by decide) (by decide) _)
            have h3 : ¬ (p = 3 ∧ r = h + 1 ∧ j = 10) := fun e => by obtain ⟨rfl, rfl, rfl⟩ := e; exact hk (kyO (by decide) (by decide))
            refine ⟨?_, rfl, rfl⟩
            simp only [u3_op h1]
            unfold u3
            rw [if_neg h3]
          refine bdRF (fr_p_X1_hurt _ _) (sp_X1_hurt hφ w.2.1 (hC2.fr hf3 (by decide)) (h := h) (f := m + 1)) fun _ S3 h3 hF3 => ?_
          simp (disch := first | omega | assumption) only [↓bd_rt, ↓bd_bd, ↓bd_ite, ↓bd_jn, ↓jn_ap, ↓ite_ap, ↓bd_gI1, ↓bd_pI1, ↓bd_gR1, ↓bd_pR1, ↓bd_gM, rt_ap, ↓reduceIte, iN_div, iN_divL, iN_add, iN_mul, iN_addL, iN_Ladd, iN_mulL, iN_Lmul, iN_subL, iN_sub, iN_le_T, iN_le_F, iN_lt_T, iN_lt_F, iN_eq_F, iN_leL_T, iN_leL_F, iN_Lle_T, iN_Lle_F, iN_ltL_T, iN_ltL_F, iN_Llt_T, iN_Llt_F, iN_eqL_T, iN_eqL_F, iN_m1, m1_iN, iN_le_m1, m1_le_iN, iN_neg, iN_pos, i10, i01, i00, i11, u3_op, u3_or, u3_same, pup_eq, pup_ne, iN_dn]
          exact nxt ⟨hl.fr hF3 (by decide), ((show RCbk (fallB c h (m + 1) b) c.n false S2 from h2.2).fr hf3 (by decide)).fr hF3 (by decide), h3⟩
        · simp (disch := first | omega | assumption) only [↓bd_rt, ↓bd_bd, ↓bd_ite, ↓bd_jn, ↓jn_ap, ↓ite_ap, ↓bd_gI1, ↓bd_pI1, ↓bd_gR1, ↓bd_pR1, ↓bd_gM, rt_ap, ↓reduceIte, iN_div, iN_divL, iN_add, iN_mul, iN_addL, iN_Ladd, iN_mulL, iN_Lmul, iN_subL, iN_sub, iN_le_T, iN_le_F, iN_lt_T, iN_lt_F, iN_eq_F, iN_leL_T, iN_leL_F, iN_Lle_T, iN_Lle_F, iN_ltL_T, iN_ltL_F, iN_Llt_T, iN_Llt_F, iN_eqL_T, iN_eqL_F, iN_m1, m1_iN, iN_le_m1, m1_le_iN, iN_neg, iN_pos, i10, i01, i00, i11, u3_op, u3_or, u3_same, pup_eq, pup_ne, i32b, Bool.not_true, Bool.false_eq_true, if_false, if_true, iN_dn]
          exact nxt ⟨h2.1, h2.2, hC2⟩
    · have e : fallT (!cp) h (m + 1) (c, b, cr) = (c, b, cr) := by unfold fallT; rw [if_neg c1]
      rw [e] at nxt
      simp (disch := first | omega | assumption) only [↓bd_rt, ↓bd_bd, ↓bd_ite, ↓bd_jn, ↓jn_ap, ↓ite_ap, ↓bd_gI1, ↓bd_pI1, ↓bd_gR1, ↓bd_pR1, ↓bd_gM, rt_ap, ↓reduceIte, iN_div, iN_divL, iN_add, iN_mul, iN_addL, iN_Ladd, iN_mulL, iN_Lmul, iN_subL, iN_sub, iN_le_T, iN_le_F, iN_lt_T, iN_lt_F, iN_eq_F, iN_leL_T, iN_leL_F, iN_Lle_T, iN_Lle_F, iN_ltL_T, iN_ltL_F, iN_Llt_T, iN_Llt_F, iN_eqL_T, iN_eqL_F, iN_m1, m1_iN, iN_le_m1, m1_le_iN, iN_neg, iN_pos, i10, i01, i00, i11, u3_op, u3_or, u3_same, pup_eq, pup_ne, ↓g4, ↓rI149, vf, if_neg c1, iN_dn]
      exact nxt ⟨hR, hb, hC⟩
