/-! PURE: floors fall -/
def mn2 (v : Int32) : Int32 := if v < 2000 then v else 2000
def mx2 (a b : Int32) : Int32 := if a < b then b else a
def frB (c : CHo) (h f r : Nat) (b : CBz) : CBz :=
  CBz.mk (pup (if b.fal (6 * h + f - 1) = 0 then pup b.heat (24 * h + (f * c.wd h + r - c.wd h)) (mx2 (b.heat (24 * h + (f * c.wd h + r - c.wd h))) (b.heat (24 * h + (f * c.wd h + r)))) else b.heat) (24 * h + (f * c.wd h + r)) 0)
    (pup (pup b.stuff (24 * h + (f * c.wd h + r - c.wd h)) (mn2 (b.stuff (24 * h + (f * c.wd h + r - c.wd h)) + b.stuff (24 * h + (f * c.wd h + r))))) (24 * h + (f * c.wd h + r)) 0) b.water b.bnt b.fal
def fallB (c : CHo) (h f : Nat) (b : CBz) : CBz := itn (fun r b => frB c h f r b) (CBz.mk b.heat b.stuff b.water b.bnt (pup b.fal (6 * h + f) 1)) (c.wd h)
theorem itn_fal {c : CHo} {h f : Nat} {b : CBz} : ∀ r, (itn (fun r b => frB c h f r b) b r).fal = b.fal ∧ (itn (fun r b => frB c h f r b) b r).water = b.water ∧ (itn (fun r b => frB c h f r b) b r).bnt = b.bnt := by
  intro r
  induction r with
  | zero => exact ⟨rfl, rfl, rfl⟩
  | succ r ih => exact ih
theorem sp_X1_fall_L51 {c : CHo} (w : c.WF) {b : CBz} {cp : Bool} {φ : amSh} {S : amSt} (hR : RCho c φ S) {h f : Nat} (hh : h < c.n) (hf : f < c.fl h) (hf0 : 0 < f) (hb : RCbk b c.n cp S) :
    Rs (fun _ S' => RCho c φ S' ∧ RCbk (itn (fun r b => frB c h f r b) b (c.wd h)) c.n cp S') (alp (p_X1_fall_L51 (h + 1) (bnum cp h) (iN f)) amFu 0 φ S) := by
  have hn := w.hn
  have hfw := w.fw hh
  have hfl := w.fl h hh
  have hwd := w.wd h hh
  have hbn := bnum_ne (cp := cp) (h := h)
  refine alp_I (fun j x S' => x = iN j ∧ RCho c φ S' ∧ RCbk (itn (fun r b => frB c h f r b) b j) c.n cp S') (c.wd h) (amFu_lt (by omega)) ⟨rfl, hR, hb⟩ ?_ ?_
  · rintro r x S1 hr ⟨rfl, hR, hb⟩ rec
    have hlt := fw_lt w hh hf hr
    have hwf : c.wd h ≤ f * c.wd h := Nat.le_mul_of_pos_left _ hf0
    have hst := bnum_st hR hh cp
    have g0 := fun {β : Type} {f : Unit → am0 β} {S : amSt} => bd_gC (f := f) (S := S) hbn (show 0 < φ.2.1 4 (bnum cp h) by omega)
    have g1 := fun {β : Type} {f : Unit → am0 β} {S : amSt} => bd_gC (f := f) (S := S) hbn (show 1 < φ.2.1 4 (bnum cp h) by omega)
    have g4 := fun {β : Type} {f : Unit → am0 β} {S : amSt} => bd_gC (f := f) (S := S) hbn (show 4 < φ.2.1 4 (bnum cp h) by omega)
    show Lz rec φ (fun x S' => x = iN (r + 1) ∧ RCho c φ S' ∧ RCbk (frB c h f r (itn (fun r b => frB c h f r b) b r)) c.n cp S') _ _
    generalize itn (fun r b => frB c h f r b) b r = d at *
    have hbh := hb h hh
    have v1 := hbh.stuff (f * c.wd h + r - c.wd h) (by omega)
    have v2 := hbh.stuff (f * c.wd h + r) (by omega)
    have v3 := hbh.fal (f - 1) (by omega)
    have v4 := hbh.heat (f * c.wd h + r - c.wd h) (by omega)
    have v5 := hbh.heat (f * c.wd h + r) (by omega)
    rw [show 6 * h + (f - 1) = 6 * h + f - 1 by omega] at v3
    have hne : f * c.wd h + r - c.wd h ≠ f * c.wd h + r := by omega
    have fin : ∀ {S2 : amSt}, (∀ q r j, q ≠ 145 → q ≠ 146 → S2.1 q r j = S1.1 q r j) → S2.2 = S1.2 → (∀ q r j, r ≠ bnum cp h → S2.1 q r j = S1.1 q r j) →
        (∀ j, S2.1 145 (bnum cp h) j = pup (if d.fal (6 * h + f - 1) = 0 then pup (S1.1 145 (bnum cp h)) (f * c.wd h + r - c.wd h) (mx2 (d.heat (24 * h + (f * c.wd h + r - c.wd h))) (d.heat (24 * h + (f * c.wd h + r)))) else S1.1 145 (bnum cp h)) (f * c.wd h + r) 0 j) →
        (∀ j, S2.1 146 (bnum cp h) j = pup (pup (S1.1 146 (bnum cp h)) (f * c.wd h + r - c.wd h) (mn2 (d.stuff (24 * h + (f * c.wd h + r - c.wd h)) + d.stuff (24 * h + (f * c.wd h + r))))) (f * c.wd h + r) 0 j) →
        Lz rec φ (fun x S' => x = iN (r + 1) ∧ RCho c φ S' ∧ RCbk (frB c h f r d) c.n cp S') (fun _ S' => RCho c φ S' ∧ RCbk (itn (fun r b => frB c h f r b) b (c.wd h)) c.n cp S') (rec (iN (r + 1)) φ S2) := by
      intro S2 ho h2 hor s5 s6
      have hfr : FrS [145, 146] S1 S2 := fun p r j hk => by
        have h1 : ¬ (p = 145) := fun e => by subst e; exact hk (kyA (by decide) (by decide) (by decide) _)
        have h3 : ¬ (p = 146) := fun e => by subst e; exact hk (kyA (by decide) (by decide) (by decide) _)
        exact ⟨ho p r j h1 h3, by rw [h2], by rw [h2]⟩
      refine Lz.go ⟨rfl, hR.fr hfr (by decide), fun h' hh' => ?_⟩
      have hbo := hb h' hh'
      by_cases e : h' = h
      · subst e
        refine RCb1.mk ?_ ?_ ?_ ?_ ?_
        · intro k' hk'
          rw [s5]
          show _ = pup (if d.fal (6 * h' + f - 1) = 0 then pup d.heat (24 * h' + (f * c.wd h' + r - c.wd h')) _ else d.heat) (24 * h' + (f * c.wd h' + r)) 0 (24 * h' + k')
          by_cases e : k' = f * c.wd h' + r
          · subst e; rw [pup_eq, pup_eq]
          · rw [pup_ne e, pup_ne (by omega)]
            by_cases cf : d.fal (6 * h' + f - 1) = 0
            · rw [if_pos cf, if_pos cf]
              by_cases e2 : k' = f * c.wd h' + r - c.wd h'
              · subst e2; rw [pup_eq, pup_eq]
              · rw [pup_ne e2, pup_ne (by omega)]; exact hbo.heat k' hk'
            · rw [if_neg cf, if_neg cf]; exact hbo.heat k' hk'
        · intro k' hk'
          rw [s6]
          show _ = pup (pup d.stuff (24 * h' + (f * c.wd h' + r - c.wd h')) _) (24 * h' + (f * c.wd h' + r)) 0 (24 * h' + k')
          by_cases e : k' = f * c.wd h' + r
          · subst e; rw [pup_eq, pup_eq]
          · rw [pup_ne e, pup_ne (j := 24 * h' + (f * c.wd h' + r)) (k := 24 * h' + k') (by omega)]
            by_cases e2 : k' = f * c.wd h' + r - c.wd h'
            · subst e2; rw [pup_eq, pup_eq]
            · rw [pup_ne e2, pup_ne (j := 24 * h' + (f * c.wd h' + r - c.wd h')) (k := 24 * h' + k') (by omega)]; exact hbo.stuff k' hk'
        · intro k' hk'; rw [ho _ _ _ (by decide) (by decide)]; exact hbo.water k' hk'
        · intro k' hk'; rw [ho _ _ _ (by decide) (by decide)]; exact hbo.bnt k' hk'
        · intro k' hk'; rw [ho _ _ _ (by decide) (by decide)]; exact hbo.fal k' hk'
      · have hne : bnum cp h' ≠ bnum cp h := fun z => e (bnum_inj z)
        refine RCb1.mk ?_ ?_ ?_ ?_ ?_
        · intro k' hk'
          rw [hor _ _ _ hne]
          show _ = pup (if d.fal (6 * h + f - 1) = 0 then pup d.heat (24 * h + (f * c.wd h + r - c.wd h)) _ else d.heat) (24 * h + (f * c.wd h + r)) 0 (24 * h' + k')
          rw [pup_ne (by omega)]
          split
          · rw [pup_ne (by omega)]; exact hbo.heat k' hk'
          · exact hbo.heat k' hk'
        · intro k' hk'
          rw [hor _ _ _ hne]
          show _ = pup (pup d.stuff (24 * h + (f * c.wd h + r - c.wd h)) _) (24 * h + (f * c.wd h + r)) 0 (24 * h' + k')
          rw [pup_ne (by omega), pup_ne (by omega)]; exact hbo.stuff k' hk'
        · intro k' hk'; rw [hor _ _ _ hne]; exact hbo.water k' hk'
        · intro k' hk'; rw [hor _ _ _ hne]; exact hbo.bnt k' hk'
        · intro k' hk'; rw [hor _ _ _ hne]; exact hbo.fal k' hk'
    unfold p_X1_fall_L51
    by_cases cf : d.fal (6 * h + f - 1) = 0
    · simp (disch := first | omega | assumption) only [↓bd_rt, ↓bd_bd, ↓bd_ite, ↓bd_jn, ↓jn_ap, ↓ite_ap, ↓bd_gI1, ↓bd_pI1, ↓bd_gR1, ↓bd_pR1, ↓bd_gM, rt_ap, ↓reduceIte, iN_div, iN_divL, iN_add, iN_mul, iN_addL, iN_Ladd, iN_mulL, iN_Lmul, iN_subL, iN_sub, iN_le_T, iN_le_F, iN_lt_T, iN_lt_F, iN_eq_F, iN_leL_T, iN_leL_F, iN_Lle_T, iN_Lle_F, iN_ltL_T, iN_ltL_F, iN_Llt_T, iN_Llt_F, iN_eqL_T, iN_eqL_F, iN_m1, m1_iN, iN_le_m1, m1_le_iN, iN_neg, iN_pos, i10, i01, i00, i11, u3_op, u3_or, u3_same, pup_eq, pup_ne, ↓bd_gI, hR.wd h hh, ↓g0, ↓g1, ↓g4, ↓rI145, ↓rI146, ↓rI149, ↓wI145, ↓wI146, v1, v2, v3, v4, v5, cf, if_true]
      refine fin ?_ rfl ?_ ?_ ?_
      · intro q r j q1 q2; simp (disch := first | omega | assumption) only [↓bd_rt, ↓bd_bd, ↓bd_ite, ↓bd_jn, ↓jn_ap, ↓ite_ap, ↓bd_gI1, ↓bd_pI1, ↓bd_gR1, ↓bd_pR1, ↓bd_gM, rt_ap, ↓reduceIte, iN_div, iN_divL, iN_add, iN_mul, iN_addL, iN_Ladd, iN_mulL, iN_Lmul, iN_subL, iN_sub, iN_le_T, iN_le_F, iN_lt_T, iN_lt_F, iN_eq_F, iN_leL_T, iN_leL_F, iN_Lle_T, iN_Lle_F, iN_ltL_T, iN_ltL_F, iN_Llt_T, iN_Llt_F, iN_eqL_T, iN_eqL_F, iN_m1, m1_iN, iN_le_m1, m1_le_iN, iN_neg, iN_pos, i10, i01, i00, i11, u3_op, u3_or, u3_same, pup_eq, pup_ne]
      · intro q r j hr
        simp only [u3, show ¬ (r = bnum cp h) from hr, and_false, false_and, if_false]
      · intro j; simp (disch := first | omega | assumption) only [↓bd_rt, ↓bd_bd, ↓bd_ite, ↓bd_jn, ↓jn_ap, ↓ite_ap, ↓bd_gI1, ↓bd_pI1, ↓bd_gR1, ↓bd_pR1, ↓bd_gM, rt_ap, ↓reduceIte, iN_div, iN_divL, iN_add, iN_mul, iN_addL, iN_Ladd, iN_mulL, iN_Lmul, iN_subL, iN_sub, iN_le_T, iN_le_F, iN_lt_T, iN_lt_F, iN_eq_F, iN_leL_T, iN_leL_F, iN_Lle_T, iN_Lle_F, iN_ltL_T, iN_ltL_F, iN_Llt_T, iN_Llt_F, iN_eqL_T, iN_eqL_F, iN_m1, m1_iN, iN_le_m1, m1_le_iN, iN_neg, iN_pos, i10, i01, i00, i11, u3_op, u3_or, u3_same, pup_eq, pup_ne, cf, if_true]; rfl
      · intro j; simp (disch := first | omega | assumption) only [↓bd_rt, ↓bd_bd, ↓bd_ite, ↓bd_jn, ↓jn_ap, ↓ite_ap, ↓bd_gI1, ↓bd_pI1, ↓bd_gR1, ↓bd_pR1, ↓bd_gM, rt_ap, ↓reduceIte, iN_div, iN_divL, iN_add, iN_mul, iN_addL, iN_Ladd, iN_mulL, iN_Lmul, iN_subL, iN_sub, iN_le_T, iN_le_F, iN_lt_T, iN_lt_F, iN_eq_F, iN_leL_T, iN_leL_F, iN_Lle_T, iN_Lle_F, iN_ltL_T, iN_ltL_F, iN_Llt_T, iN_Llt_F, iN_eqL_T, iN_eqL_F, iN_m1, m1_iN, iN_le_m1, m1_le_iN, iN_neg, iN_pos, i10, i01, i00, i11, u3_op, u3_or, u3_same, pup_eq, pup_ne]; rfl
    · simp (disch := first | omega | assumption) only [↓bd_rt, ↓bd_bd, ↓bd_ite, ↓bd_jn, ↓jn_ap, ↓ite_ap, ↓bd_gI1, ↓bd_pI1, ↓bd_gR1, ↓bd_pR1, ↓bd_gM, rt_ap, ↓reduceIte, iN_div, iN_divL, iN_add, iN_mul, iN_addL, iN_Ladd, iN_mulL, iN_Lmul, iN_subL, iN_sub, iN_le_T, iN_le_F, iN_lt_T, iN_lt_F, iN_eq_F, iN_leL_T, iN_leL_F, iN_Lle_T, iN_Lle_F, iN_ltL_T, iN_ltL_F, iN_Llt_T, iN_Llt_F, iN_eqL_T, iN_eqL_F, iN_m1, m1_iN, iN_le_m1, m1_le_iN, iN_neg, iN_pos, i10, i01, i00, i11, u3_op, u3_or, u3_same, pup_eq, pup_ne, ↓bd_gI, hR.wd h hh, ↓g0, ↓g1, ↓g4, ↓rI145, ↓rI146, ↓rI149, ↓wI145, ↓wI146, v1, v2, v3, v4, v5, cf, if_false]
      refine fin ?_ rfl ?_ ?_ ?_
      · intro q r j q1 q2; simp (disch := first | omega | assumption) only [↓bd_rt, ↓bd_bd, ↓bd_ite, ↓bd_jn, ↓jn_ap, ↓ite_ap, ↓bd_gI1, ↓bd_pI1, ↓bd_gR1, ↓bd_pR1, ↓bd_gM, rt_ap, ↓reduceIte, iN_div, iN_divL, iN_add, iN_mul, iN_addL, iN_Ladd, iN_mulL, iN_Lmul, iN_subL, iN_sub, iN_le_T, iN_le_F, iN_lt_T, iN_lt_F, iN_eq_F, iN_leL_T, iN_leL_F, iN_Lle_T, iN_Lle_F, iN_ltL_T, iN_ltL_F, iN_Llt_T, iN_Llt_F, iN_eqL_T, iN_eqL_F, iN_m1, m1_iN, iN_le_m1, m1_le_iN, iN_neg, iN_pos, i10, i01, i00, i11, u3_op, u3_or, u3_same, pup_eq, pup_ne]
      · intro q r j hr
        simp only [u3, show ¬ (r = bnum cp h) from hr, and_false, false_and, if_false]
      · intro j; simp (disch := first | omega | assumption) only [↓bd_rt, ↓bd_bd, ↓bd_ite, ↓bd_jn, ↓jn_ap, ↓ite_ap, ↓bd_gI1, ↓bd_pI1, ↓bd_gR1, ↓bd_pR1, ↓bd_gM, rt_ap, ↓reduceIte, iN_div, iN_divL, iN_add, iN_mul, iN_addL, iN_Ladd, iN_mulL, iN_Lmul, iN_subL, iN_sub, iN_le_T, iN_le_F, iN_lt_T, iN_lt_F, iN_eq_F, iN_leL_T, iN_leL_F, iN_Lle_T, iN_Lle_F, iN_ltL_T, iN_ltL_F, iN_Llt_T, iN_Llt_F, iN_eqL_T, iN_eqL_F, iN_m1, m1_iN, iN_le_m1, m1_le_iN, iN_neg, iN_pos, i10, i01, i00, i11, u3_op, u3_or, u3_same, pup_eq, pup_ne, cf, if_false]
      · intro j; simp (disch := first | omega | assumption) only [↓bd_rt, ↓bd_bd, ↓bd_ite, ↓bd_jn, ↓jn_ap, ↓ite_ap, ↓bd_gI1, ↓bd_pI1, ↓bd_gR1, ↓bd_pR1, ↓bd_gM, rt_ap, ↓reduceIte, iN_div, iN_divL, iN_add, iN_mul, iN_addL, iN_Ladd, iN_mulL, iN_Lmul, iN_subL, iN_sub, iN_le_T, iN_le_F, iN_lt_T, iN_lt_F, iN_eq_F, iN_leL_T, iN_leL_F, iN_Lle_T, iN_Lle_F, iN_ltL_T, iN_ltL_F, iN_Llt_T, iN_Llt_F, iN_eqL_T, iN_eqL_F, iN_m1, m1_iN, iN_le_m1, m1_le_iN, iN_neg, iN_pos, i10, i01, i00, i11, u3_op, u3_or, u3_same, pup_eq, pup_ne]; rfl
  · rintro x S1 ⟨rfl, hR, hb⟩ rec
    unfold p_X1_fall_L51
    simp (disch := first | omega | assumption) only [↓bd_rt, ↓bd_bd, ↓bd_ite, ↓bd_jn, ↓jn_ap, ↓ite_ap, ↓bd_gI1, ↓bd_pI1, ↓bd_gR1, ↓bd_pR1, ↓bd_gM, rt_ap, ↓reduceIte, iN_div, iN_divL, iN_add, iN_mul, iN_addL, iN_Ladd, iN_mulL, iN_Lmul, iN_subL, iN_sub, iN_le_T, iN_le_F, iN_lt_T, iN_lt_F, iN_eq_F, iN_leL_T, iN_leL_F, iN_Lle_T, iN_Lle_F, iN_ltL_T, iN_ltL_F, iN_Llt_T, iN_Llt_F, iN_eqL_T, iN_eqL_F, iN_m1, m1_iN, iN_le_m1, m1_le_iN, iN_neg, iN_pos, i10, i01, i00, i11, u3_op, u3_or, u3_same, pup_eq, pup_ne, ↓bd_gI, hR.wd h hh]
    exact Rs.mk ⟨hR, hb⟩
theorem sp_X3_falls_L15 {c : CHo} (w : c.WF) {b : CBz} {φ : amSh} {S : amSt} (hR : RMho c S) {h f : Nat} (hh : h < c.n) (hf : f < c.fl h) (hf0 : 0 < f) (hb : RMbz b S) :
    Rs (fun _ S' => RMho c S' ∧ RMbz (itn (fun r b => frB c h f r b) b (c.wd h)) S') (alp (p_X3_falls_L15 (iN h) (iN f)) amFu 0 φ S) := by
  have hn := w.hn
  have hfw := w.fw hh
  have hfl := w.fl h hh
  have hwd := w.wd h hh
  refine alp_I (fun j x S' => x = iN j ∧ RMho c S' ∧ RMbz (itn (fun r b => frB c h f r b) b j) S') (c.wd h) (amFu_lt (by omega)) ⟨rfl, hR, hb⟩ ?_ ?_
  · rintro r x S1 hr ⟨rfl, hR, hb⟩ rec
    have hlt := fw_lt w hh hf hr
    have hwf : c.wd h ≤ f * c.wd h := Nat.le_mul_of_pos_left _ hf0
    show Lz rec φ (fun x S' => x = iN (r + 1) ∧ RMho c S' ∧ RMbz (frB c h f r (itn (fun r b => frB c h f r b) b r)) S') _ _
    generalize itn (fun r b => frB c h f r b) b r = d at *
    have ek : 24 * h + f * c.wd h + r = 24 * h + (f * c.wd h + r) := by omega
    have et : 24 * h + (f * c.wd h + r) - c.wd h = 24 * h + (f * c.wd h + r - c.wd h) := by omega
    have v1 := hb.stuff (24 * h + (f * c.wd h + r - c.wd h)) (by omega)
    have v2 := hb.stuff (24 * h + (f * c.wd h + r)) (by omega)
    have v3 := hb.fal (6 * h + f - 1) (by omega)
    have v4 := hb.heat (24 * h + (f * c.wd h + r - c.wd h)) (by omega)
    have v5 := hb.heat (24 * h + (f * c.wd h + r)) (by omega)
    have hne : 24 * h + (f * c.wd h + r - c.wd h) ≠ 24 * h + (f * c.wd h + r) := by omega
    have fin : ∀ {S2 : amSt}, (∀ q r j, q ≠ 74 → q ≠ 75 → S2.1 q r j = S1.1 q r j) → S2.2 = S1.2 →
        (∀ j, S2.1 74 1 j = pup (if d.fal (6 * h + f - 1) = 0 then pup (S1.1 74 1) (24 * h + (f * c.wd h + r - c.wd h)) (mx2 (d.heat (24 * h + (f * c.wd h + r - c.wd h))) (d.heat (24 * h + (f * c.wd h + r)))) else S1.1 74 1) (24 * h + (f * c.wd h + r)) 0 j) →
        (∀ j, S2.1 75 1 j = pup (pup (S1.1 75 1) (24 * h + (f * c.wd h + r - c.wd h)) (mn2 (d.stuff (24 * h + (f * c.wd h + r - c.wd h)) + d.stuff (24 * h + (f * c.wd h + r))))) (24 * h + (f * c.wd h + r)) 0 j) →
        Lz rec φ (fun x S' => x = iN (r + 1) ∧ RMho c S' ∧ RMbz (frB c h f r d) S') (fun _ S' => RMho c S' ∧ RMbz (itn (fun r b => frB c h f r b) b (c.wd h)) S') (rec (iN (r + 1)) φ S2) := by
      intro S2 ho h2 s5 s6
      have hfr : FrS [74, 75] S1 S2 := fun p r j hk => by
        have h1 : ¬ (p = 74) := fun e => by subst e; exact hk (kyA (by decide) (by decide) (by decide) _)
        have h3 : ¬ (p = 75) := fun e => by subst e; exact hk (kyA (by decide) (by decide) (by decide) _)
        exact ⟨ho p r j h1 h3, by rw [h2], by rw [h2]⟩
      refine Lz.go ⟨rfl, hR.fr hfr (by decide), RMbz.mk ?_ ?_ ?_ ?_ ?_⟩
      · intro q hq
        rw [s5]
        show _ = pup (if d.fal (6 * h + f - 1) = 0 then pup d.heat (24 * h + (f * c.wd h + r - c.wd h)) _ else d.heat) (24 * h + (f * c.wd h + r)) 0 q
        by_cases e : q = 24 * h + (f * c.wd h + r)
        · subst e; rw [pup_eq, pup_eq]
        · rw [pup_ne e, pup_ne e]
          by_cases cf : d.fal (6 * h + f - 1) = 0
          · rw [if_pos cf, if_pos cf]
            by_cases e2 : q = 24 * h + (f * c.wd h + r - c.wd h)
            · subst e2; rw [pup_eq, pup_eq]
            · rw [pup_ne e2, pup_ne e2]; exact hb.heat q hq
          · rw [if_neg cf, if_neg cf]; exact hb.heat q hq
      · intro q hq
        rw [s6]
        show _ = pup (pup d.stuff (24 * h + (f * c.wd h + r - c.wd h)) _) (24 * h + (f * c.wd h + r)) 0 q
        by_cases e : q = 24 * h + (f * c.wd h + r)
        · subst e; rw [pup_eq, pup_eq]
        · rw [pup_ne e, pup_ne e]
          by_cases e2 : q = 24 * h + (f * c.wd h + r - c.wd h)
          · subst e2; rw [pup_eq, pup_eq]
          · rw [pup_ne e2, pup_ne e2]; exact hb.stuff q hq
      · intro q hq; rw [ho _ _ _ (by decide) (by decide)]; exact hb.water q hq
      · intro q hq; rw [ho _ _ _ (by decide) (by decide)]; exact hb.bnt q hq
      · intro q hq; rw [ho _ _ _ (by decide) (by decide)]; exact hb.fal q hq
    unfold p_X3_falls_L15
    by_cases cf : d.fal (6 * h + f - 1) = 0
    · simp (disch := first | omega | assumption) only [↓bd_rt, ↓bd_bd, ↓bd_ite, ↓bd_jn, ↓jn_ap, ↓ite_ap, ↓bd_gI1, ↓bd_pI1, ↓bd_gR1, ↓bd_pR1, ↓bd_gM, rt_ap, ↓reduceIte, iN_div, iN_divL, iN_add, iN_mul, iN_addL, iN_Ladd, iN_mulL, iN_Lmul, iN_subL, iN_sub, iN_le_T, iN_le_F, iN_lt_T, iN_lt_F, iN_eq_F, iN_leL_T, iN_leL_F, iN_Lle_T, iN_Lle_F, iN_ltL_T, iN_ltL_F, iN_Llt_T, iN_Llt_F, iN_eqL_T, iN_eqL_F, iN_m1, m1_iN, iN_le_m1, m1_le_iN, iN_neg, iN_pos, i10, i01, i00, i11, u3_op, u3_or, u3_same, pup_eq, pup_ne, ↓rI65_1, hR.wd h hh, ek, et, ↓rI74_1, ↓rI75_1, ↓rI82_1, ↓wI74_1, ↓wI75_1, v1, v2, v3, v4, v5, cf, if_true]
      refine fin ?_ rfl ?_ ?_
      · intro q r j q1 q2; simp (disch := first | omega | assumption) only [↓bd_rt, ↓bd_bd, ↓bd_ite, ↓bd_jn, ↓jn_ap, ↓ite_ap, ↓bd_gI1, ↓bd_pI1, ↓bd_gR1, ↓bd_pR1, ↓bd_gM, rt_ap, ↓reduceIte, iN_div, iN_divL, iN_add, iN_mul, iN_addL, iN_Ladd, iN_mulL, iN_Lmul, iN_subL, iN_sub, iN_le_T, iN_le_F, iN_lt_T, iN_lt_F, iN_eq_F, iN_leL_T, iN_leL_F, iN_Lle_T, iN_Lle_F, iN_ltL_T, iN_ltL_F, iN_Llt_T, iN_Llt_F, iN_eqL_T, iN_eqL_F, iN_m1, m1_iN, iN_le_m1, m1_le_iN, iN_neg, iN_pos, i10, i01, i00, i11, u3_op, u3_or, u3_same, pup_eq, pup_ne]
      · intro j; simp (disch := first | omega | assumption) only [↓bd_rt, ↓bd_bd, ↓bd_ite, ↓bd_jn, ↓jn_ap, ↓ite_ap, ↓bd_gI1, ↓bd_pI1, ↓bd_gR1, ↓bd_pR1, ↓bd_gM, rt_ap, ↓reduceIte, iN_div, iN_divL, iN_add, iN_mul, iN_addL, iN_Ladd, iN_mulL, iN_Lmul, iN_subL, iN_sub, iN_le_T, iN_le_F, iN_lt_T, iN_lt_F, iN_eq_F, iN_leL_T, iN_leL_F, iN_Lle_T, iN_Lle_F, iN_ltL_T, iN_ltL_F, iN_Llt_T, iN_Llt_F, iN_eqL_T, iN_eqL_F, iN_m1, m1_iN, iN_le_m1, m1_le_iN, iN_neg, iN_pos, i10, i01, i00, i11, u3_op, u3_or, u3_same, pup_eq, pup_ne, cf, if_true]; rfl
      · intro j; simp (disch := first | omega | assumption) only [↓bd_rt, ↓bd_bd, ↓bd_ite, ↓bd_jn, ↓jn_ap, ↓ite_ap, ↓bd_gI1, ↓bd_pI1, ↓bd_gR1, ↓bd_pR1, ↓bd_gM, rt_ap, ↓reduceIte, iN_div, iN_divL, iN_add, iN_mul, iN_addL, iN_Ladd, iN_mulL, iN_Lmul, iN_subL, iN_sub, iN_le_T, iN_le_F, iN_lt_T, iN_lt_F, iN_eq_F, iN_leL_T, iN_leL_F, iN_Lle_T, iN_Lle_F, iN_ltL_T, iN_ltL_F, iN_Llt_T, iN_Llt_F, iN_eqL_T, iN_eqL_F, iN_m1, m1_iN, iN_le_m1, m1_le_iN, iN_neg, iN_pos, i10, i01, i00, i11, u3_op, u3_or, u3_same, pup_eq, pup_ne]; rfl
    · simp (disch := first | omega | assumption) only [↓bd_rt, ↓bd_bd, ↓bd_ite, ↓bd_jn, ↓jn_ap, ↓ite_ap, ↓bd_gI1, ↓bd_pI1, ↓bd_gR1, ↓bd_pR1, ↓bd_gM, rt_ap, ↓reduceIte, iN_div, iN_divL, iN_add, iN_mul, iN_addL, iN_Ladd, iN_mulL, iN_Lmul, iN_subL, iN_sub, iN_le_T, iN_le_F, iN_lt_T, iN_lt_F, iN_eq_F, iN_leL_T, iN_leL_F, iN_Lle_T, iN_Lle_F, iN_ltL_T, iN_ltL_F, iN_Llt_T, iN_Llt_F, iN_eqL_T, iN_eqL_F, iN_m1, m1_iN, iN_le_m1, m1_le_iN, iN_neg, iN_pos, i10, i01, i00, i11, u3_op, u3_or, u3_same, pup_eq, pup_ne, ↓rI65_1, hR.wd h hh, ek, et, ↓rI74_1, ↓rI75_1, ↓rI82_1, ↓wI74_1, ↓wI75_1, v1, v2, v3, v4, v5, cf, if_false]
      refine fin ?_ rfl ?_ ?_
      · intro q r j q1 q2; simp (disch := first | omega | assumption) only [↓bd_rt, ↓bd_bd, ↓bd_ite, ↓bd_jn, ↓jn_ap, ↓ite_ap, ↓bd_gI1, ↓bd_pI1, ↓bd_gR1, ↓bd_pR1, ↓bd_gM, rt_ap, ↓reduceIte, iN_div, iN_divL, iN_add, iN_mul, iN_addL, iN_Ladd, iN_mulL, iN_Lmul, iN_subL, iN_sub, iN_le_T, iN_le_F, iN_lt_T, iN_lt_F, iN_eq_F, iN_leL_T, iN_leL_F, iN_Lle_T, iN_Lle_F, iN_ltL_T, iN_ltL_F, iN_Llt_T, iN_Llt_F, iN_eqL_T, iN_eqL_F, iN_m1, m1_iN, iN_le_m1, m1_le_iN, iN_neg, iN_pos, i10, i01, i00, i11, u3_op, u3_or, u3_same, pup_eq, pup_ne]
      · intro j; simp (disch := first | omega | assumption) only [↓bd_rt, ↓bd_bd, ↓bd_ite, ↓bd_jn, ↓jn_ap, ↓ite_ap, ↓bd_gI1, ↓bd_pI1, ↓bd_gR1, ↓bd_pR1, ↓bd_gM, rt_ap, ↓reduceIte, iN_div, iN_divL, iN_add, iN_mul, iN_addL, iN_Ladd, iN_mulL, iN_Lmul, iN_subL, iN_sub, iN_le_T, iN_le_F, iN_lt_T, iN_lt_F, iN_eq_F, iN_leL_T, iN_leL_F, iN_Lle_T, iN_Lle_F, iN_ltL_T, iN_ltL_F, iN_Llt_T, iN_Llt_F, iN_eqL_T, iN_eqL_F, iN_m1, m1_iN, iN_le_m1, m1_le_iN, iN_neg, iN_pos, i10, i01, i00, i11, u3_op, u3_or, u3_same, pup_eq, pup_ne, cf, if_false]
      · intro j; simp (disch := first | omega | assumption) only [↓bd_rt, ↓bd_bd, ↓bd_ite, ↓bd_jn, ↓jn_ap, ↓ite_ap, ↓bd_gI1, ↓bd_pI1, ↓bd_gR1, ↓bd_pR1, ↓bd_gM, rt_ap, ↓reduceIte, iN_div, iN_divL, iN_add, iN_mul, iN_addL, iN_Ladd, iN_mulL, iN_Lmul, iN_subL, iN_sub, iN_le_T, iN_le_F, iN_lt_T, iN_lt_F, iN_eq_F, iN_leL_T, iN_leL_F, iN_Lle_T, iN_Lle_F, iN_ltL_T, iN_ltL_F, iN_Llt_T, iN_Llt_F, iN_eqL_T, iN_eqL_F, iN_m1, m1_iN, iN_le_m1, m1_le_iN, iN_neg, iN_pos, i10, i01, i00, i11, u3_op, u3_or, u3_same, pup_eq, pup_ne]; rfl
  · rintro x S1 ⟨rfl, hR, hb⟩ rec
    unfold p_X3_falls_L15
    simp (disch := first | omega | assumption) only [↓bd_rt, ↓bd_bd, ↓bd_ite, ↓bd_jn, ↓jn_ap, ↓ite_ap, ↓bd_gI1, ↓bd_pI1, ↓bd_gR1, ↓bd_pR1, ↓bd_gM, rt_ap, ↓reduceIte, iN_div, iN_divL, iN_add, iN_mul, iN_addL, iN_Ladd, iN_mulL, iN_Lmul, iN_subL, iN_sub, iN_le_T, iN_le_F, iN_lt_T, iN_lt_F, iN_eq_F, iN_leL_T, iN_leL_F, iN_Lle_T, iN_Lle_F, iN_ltL_T, iN_ltL_F, iN_Llt_T, iN_Llt_F, iN_eqL_T, iN_eqL_F, iN_m1, m1_iN, iN_le_m1, m1_le_iN, iN_neg, iN_pos, i10, i01, i00, i11, u3_op, u3_or, u3_same, pup_eq, pup_ne, ↓rI65_1, hR.wd h hh]
    exact Rs.mk ⟨hR, hb⟩
