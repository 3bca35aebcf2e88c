/-! PURE: rooms change at once, the component's third loop -/
theorem sp_X1_change_L162 {c : CHo} (w : c.WF) {b : CBz} {cp : Bool} {φ : amSh} {S : amSt} (hR : RCho c φ S) (hB : RCbd c b cp S) (hG : RCgn c b cp S) {h : Nat} (hh : h < c.n) (hb : RCbk (bP c b true h 0) c.n cp S) :
    Rs (fun _ S' => (RCho c φ S' ∧ RCbd c b cp S' ∧ RCgn c b cp S') ∧ RCbk (bP c b true (h + 1) 0) c.n cp S') (alp (p_X1_change_L162 (h + 1) (bnum cp h)) amFu 0 φ S) := by
  have hn := w.hn
  have hfw := w.fw hh
  have hfl := w.fl h hh
  have hwd := w.wd h hh
  have hbn := bnum_ne (cp := cp) (h := h)
  refine Rs.imp (Q := fun _ S' => (RCho c φ S' ∧ RCbd c b cp S' ∧ RCgn c b cp S') ∧ RCbk (bP c b true h (c.fl h * c.wd h)) c.n cp S') ?_ fun _ S' hq => by rw [bP_h]; exact hq
  refine alp_I (fun j x S' => x = iN j ∧ (RCho c φ S' ∧ RCbd c b cp S' ∧ RCgn c b cp S') ∧ RCbk (bP c b true h j) c.n cp S') (c.fl h * c.wd h) (amFu_lt (by omega)) ⟨rfl, ⟨hR, hB, hG⟩, hb⟩ ?_ ?_
  · rintro k x S1 hk ⟨rfl, ⟨hR, hB, hG⟩, hb⟩ rec
    have hst := bnum_st hR hh cp
    have hdv := w.dv hh hk
    have g0 := fun {β : Type} {f : Unit → am0 β} {S : amSt} => bd_gC (f := f) (S := S) hbn (show 0 < φ.2.1 4 (bnum cp h) by omega)
    have g1 := fun {β : Type} {f : Unit → am0 β} {S : amSt} => bd_gC (f := f) (S := S) hbn (show 1 < φ.2.1 4 (bnum cp h) by omega)
    have g2 := fun {β : Type} {f : Unit → am0 β} {S : amSt} => bd_gC (f := f) (S := S) hbn (show 2 < φ.2.1 4 (bnum cp h) by omega)
    have g3 := fun {β : Type} {f : Unit → am0 β} {S : amSt} => bd_gC (f := f) (S := S) hbn (show 3 < φ.2.1 4 (bnum cp h) by omega)
    have g4 := fun {β : Type} {f : Unit → am0 β} {S : amSt} => bd_gC (f := f) (S := S) hbn (show 4 < φ.2.1 4 (bnum cp h) by omega)
    have g5 := fun {β : Type} {f : Unit → am0 β} {S : amSt} => bd_gC (f := f) (S := S) hbn (show 5 < φ.2.1 4 (bnum cp h) by omega)
    have g6 := fun {β : Type} {f : Unit → am0 β} {S : amSt} => bd_gC (f := f) (S := S) hbn (show 6 < φ.2.1 4 (bnum cp h) by omega)
    have r1 := hB h k hh hk
    have r2 := hG h k hh hk
    have hbh := hb h hh
    have vh : S1.1 145 (bnum cp h) k = b.heat (24 * h + k) := (hbh.heat k (by omega)).trans (heatP_hi (w.al (by omega)) k (Nat.le_refl _))
    have vs : S1.1 146 (bnum cp h) k = b.stuff (24 * h + k) := (hbh.stuff k (by omega)).trans (stuffP_hi (w.al (by omega)) k (Nat.le_refl _))
    have vb := hbh.bnt (k / c.wd h) (by omega)
    have vf : S1.1 149 (bnum cp h) (k / c.wd h) = b.fal (6 * h + k / c.wd h) := hbh.fal (k / c.wd h) (by omega)
    -- the store behind one room
    have fin : ∀ {S2 : amSt}, (∀ q r j, q ≠ 145 → q ≠ 146 → q ≠ 147 → q ≠ 148 → S2.1 q r j = S1.1 q r j) → S2.2 = S1.2 → (∀ q r j, r ≠ bnum cp h → S2.1 q r j = S1.1 q r j) →
        (∀ j, S2.1 145 (bnum cp h) j = pup (S1.1 145 (bnum cp h)) k (nhS c b h k) j) → (∀ j, S2.1 146 (bnum cp h) j = pup (S1.1 146 (bnum cp h)) k (b.stuff (24 * h + k) - loseS c b h k) j) → (∀ j, S2.1 147 (bnum cp h) j = pup (S1.1 147 (bnum cp h)) k 0 j) →
        (∀ j, S2.1 148 (bnum cp h) j = pup (S1.1 148 (bnum cp h)) (k / c.wd h) ((bP c b true h k).bnt (6 * h + k / c.wd h) + loseS c b h k) j) →
        Lz rec φ (fun x S' => x = iN (k + 1) ∧ (RCho c φ S' ∧ RCbd c b cp S' ∧ RCgn c b cp S') ∧ RCbk (bP c b true h (k + 1)) c.n cp S') (fun _ S' => (RCho c φ S' ∧ RCbd c b cp S' ∧ RCgn c b cp S') ∧ RCbk (bP c b true h (c.fl h * c.wd h)) c.n cp S') (rec (iN (k + 1)) φ S2) := by
      intro S2 ho h2 hor s5 s6 s7 s8
      have hf : FrS [145, 146, 147, 148] S1 S2 := fun p r j hk => by
        have h1 : ¬ (p = 145) := fun e => by subst e; exact hk (kyA (by decide) (by decide) (by decide) _)
        have h3 : ¬ (p = 146) := fun e => by subst e; exact hk (kyA (by decide) (by decide) (by decide) _)
        have h4 : ¬ (p = 147) := fun e => by subst e; exact hk (kyA (by decide) (by decide) (by decide) _)
        have h5 : ¬ (p = 148) := fun e => by subst e; exact hk (kyA (by decide) (by decide) (by decide) _)
        exact ⟨ho p r j h1 h3 h4 h5, by rw [h2], by rw [h2]⟩
      refine Lz.go ⟨rfl, ⟨hR.fr hf (by decide), fun h' k' a1 a2 => (ho _ _ _ (by decide) (by decide) (by decide) (by decide)).trans (hB h' k' a1 a2), fun h' k' a1 a2 => (ho _ _ _ (by decide) (by decide) (by decide) (by decide)).trans (hG h' k' a1 a2)⟩, fun h' hh' => ?_⟩
      have hbo := hb h' hh'
      by_cases e : h' = h
      · subst e
        refine RCb1.mk ?_ ?_ ?_ ?_ ?_
        · intro k' hk'
          rw [s5]
          show _ = pup (heatP c b h' k) (24 * h' + k) (nhS c b h' k) (24 * h' + k')
          by_cases e : k' = k
          · subst e; rw [pup_eq, pup_eq]
          · rw [pup_ne e, pup_ne (by omega)]; exact hbo.heat k' hk'
        · intro k' hk'
          rw [s6]
          show _ = pup (stuffP c b h' k) (24 * h' + k) (b.stuff (24 * h' + k) - loseS c b h' k) (24 * h' + k')
          by_cases e : k' = k
          · subst e; rw [pup_eq, pup_eq]
          · rw [pup_ne e, pup_ne (by omega)]; exact hbo.stuff k' hk'
        · intro k' hk'
          rw [s7]
          show _ = pup (waterP c b true h' k) (24 * h' + k) 0 (24 * h' + k')
          by_cases e : k' = k
          · subst e; rw [pup_eq, pup_eq]
          · rw [pup_ne e, pup_ne (by omega)]; exact hbo.water k' hk'
        · intro f hf'
          rw [s8]
          show _ = pup (bntP c b h' k) (6 * h' + k / c.wd h') (bntP c b h' k (6 * h' + k / c.wd h') + loseS c b h' k) (6 * h' + f)
          by_cases e : f = k / c.wd h'
          · subst e; rw [pup_eq, pup_eq]; rfl
          · rw [pup_ne e, pup_ne (by omega)]; exact hbo.bnt f hf'
        · intro f hf'
          rw [ho _ _ _ (by decide) (by decide) (by decide) (by decide)]
          exact hbo.fal f hf'
      · have hne : bnum cp h' ≠ bnum cp h := fun z => e (bnum_inj z)
        refine RCb1.mk ?_ ?_ ?_ ?_ ?_
        · intro k' hk'
          rw [hor _ _ _ hne]
          show _ = pup (heatP c b h k) (24 * h + k) (nhS c b h k) (24 * h' + k')
          rw [pup_ne (by omega)]; exact hbo.heat k' hk'
        · intro k' hk'
          rw [hor _ _ _ hne]
          show _ = pup (stuffP c b h k) (24 * h + k) (b.stuff (24 * h + k) - loseS c b h k) (24 * h' + k')
          rw [pup_ne (by omega)]; exact hbo.stuff k' hk'
        · intro k' hk'
          rw [hor _ _ _ hne]
          show _ = pup (waterP c b true h k) (24 * h + k) 0 (24 * h' + k')
          rw [pup_ne (by omega)]; exact hbo.water k' hk'
        · intro f hf'
          rw [hor _ _ _ hne]
          show _ = pup (bntP c b h k) (6 * h + k / c.wd h) (bntP c b h k (6 * h + k / c.wd h) + loseS c b h k) (6 * h' + f)
          have hq : 6 * h' + f ≠ 6 * h + k / c.wd h := by
            have h6 : k / c.wd h < 6 := Nat.lt_of_lt_of_le hdv hfl.2
            generalize k / c.wd h = d at h6
            omega
          rw [pup_ne hq]; exact hbo.bnt f hf'
        · intro f hf'
          rw [hor _ _ _ hne]
          exact hbo.fal f hf'
    unfold p_X1_change_L162
    have nh0 : b.fal (6 * h + k / c.wd h) = 0 → nhS c b h k = clmp (b.heat (24 * h + k) + gainS c b h k) := fun e => if_pos e
    have nh1 : ¬ b.fal (6 * h + k / c.wd h) = 0 → nhS c b h k = 0 := fun e => if_neg e
    unfold clmp at nh0
    cases q : brn c b h k
    · have hl : loseS c b h k = 0 := by unfold loseS; rw [q]; rfl
      simp only [q, b01_f] at r1
      by_cases cf : b.fal (6 * h + k / c.wd h) = 0
      · simp (disch := first | omega | assumption) only [↓bd_rt, ↓bd_bd, ↓bd_ite, ↓bd_jn, ↓jn_ap, ↓ite_ap, ↓bd_gI1, ↓bd_pI1, ↓bd_gR1, ↓bd_pR1, ↓bd_gM, rt_ap, ↓reduceIte, iN_div, iN_divL, iN_add, iN_mul, iN_addL, iN_Ladd, iN_mulL, iN_Lmul, iN_subL, iN_sub, iN_le_T, iN_le_F, iN_lt_T, iN_lt_F, iN_eq_F, iN_leL_T, iN_leL_F, iN_Lle_T, iN_Lle_F, iN_ltL_T, iN_ltL_F, iN_Llt_T, iN_Llt_F, iN_eqL_T, iN_eqL_F, iN_m1, m1_iN, iN_le_m1, m1_le_iN, iN_neg, iN_pos, i10, i01, i00, i11, u3_op, u3_or, u3_same, pup_eq, pup_ne, ↓bd_nn, ↓bd_of (sp_X5_all hR hh), ↓bd_of (sp_X5_floorOf w hR hh (k := k) (by omega)), ↓g0, ↓g2, ↓g4, ↓g5, ↓g6, ↓rI145, ↓rI149, ↓rI150, ↓rI151, ↓wI145, ↓wI147, r1, r2, vh, vf, cf, if_true]
        rw [← nh0 cf]
        refine fin ?_ rfl ?_ ?_ ?_ ?_ ?_
        · intro q r j q1 q2 q3 q4; simp (disch := first | omega | assumption) only [↓bd_rt, ↓bd_bd, ↓bd_ite, ↓bd_jn, ↓jn_ap, ↓ite_ap, ↓bd_gI1, ↓bd_pI1, ↓bd_gR1, ↓bd_pR1, ↓bd_gM, rt_ap, ↓reduceIte, iN_div, iN_divL, iN_add, iN_mul, iN_addL, iN_Ladd, iN_mulL, iN_Lmul, iN_subL, iN_sub, iN_le_T, iN_le_F, iN_lt_T, iN_lt_F, iN_eq_F, iN_leL_T, iN_leL_F, iN_Lle_T, iN_Lle_F, iN_ltL_T, iN_ltL_F, iN_Llt_T, iN_Llt_F, iN_eqL_T, iN_eqL_F, iN_m1, m1_iN, iN_le_m1, m1_le_iN, iN_neg, iN_pos, i10, i01, i00, i11, u3_op, u3_or, u3_same, pup_eq, pup_ne]
        · intro q r j hr
          by_cases e5 : q = 145 <;> by_cases e7 : q = 147
          · omega
          · subst e5; simp (disch := first | omega | assumption) only [↓bd_rt, ↓bd_bd, ↓bd_ite, ↓bd_jn, ↓jn_ap, ↓ite_ap, ↓bd_gI1, ↓bd_pI1, ↓bd_gR1, ↓bd_pR1, ↓bd_gM, rt_ap, ↓reduceIte, iN_div, iN_divL, iN_add, iN_mul, iN_addL, iN_Ladd, iN_mulL, iN_Lmul, iN_subL, iN_sub, iN_le_T, iN_le_F, iN_lt_T, iN_lt_F, iN_eq_F, iN_leL_T, iN_leL_F, iN_Lle_T, iN_Lle_F, iN_ltL_T, iN_ltL_F, iN_Llt_T, iN_Llt_F, iN_eqL_T, iN_eqL_F, iN_m1, m1_iN, iN_le_m1, m1_le_iN, iN_neg, iN_pos, i10, i01, i00, i11, u3_op, u3_or, u3_same, pup_eq, pup_ne]
          · subst e7; simp (disch := first | omega | assumption) only [↓bd_rt, ↓bd_bd, ↓bd_ite, ↓bd_jn, ↓jn_ap, ↓ite_ap, ↓bd_gI1, ↓bd_pI1, ↓bd_gR1, ↓bd_pR1, ↓bd_gM, rt_ap, ↓reduceIte, iN_div, iN_divL, iN_add, iN_mul, iN_addL, iN_Ladd, iN_mulL, iN_Lmul, iN_subL, iN_sub, iN_le_T, iN_le_F, iN_lt_T, iN_lt_F, iN_eq_F, iN_leL_T, iN_leL_F, iN_Lle_T, iN_Lle_F, iN_ltL_T, iN_ltL_F, iN_Llt_T, iN_Llt_F, iN_eqL_T, iN_eqL_F, iN_m1, m1_iN, iN_le_m1, m1_le_iN, iN_neg, iN_pos, i10, i01, i00, i11, u3_op, u3_or, u3_same, pup_eq, pup_ne]
          · simp (disch := first | omega | assumption) only [↓bd_rt, ↓bd_bd, ↓bd_ite, ↓bd_jn, ↓jn_ap, ↓ite_ap, ↓bd_gI1, ↓bd_pI1, ↓bd_gR1, ↓bd_pR1, ↓bd_gM, rt_ap, ↓reduceIte, iN_div, iN_divL, iN_add, iN_mul, iN_addL, iN_Ladd, iN_mulL, iN_Lmul, iN_subL, iN_sub, iN_le_T, iN_le_F, iN_lt_T, iN_lt_F, iN_eq_F, iN_leL_T, iN_leL_F, iN_Lle_T, iN_Lle_F, iN_ltL_T, iN_ltL_F, iN_Llt_T, iN_Llt_F, iN_eqL_T, iN_eqL_F, iN_m1, m1_iN, iN_le_m1, m1_le_iN, iN_neg, iN_pos, i10, i01, i00, i11, u3_op, u3_or, u3_same, pup_eq, pup_ne]
        · intro j; simp (disch := first | omega | assumption) only [↓bd_rt, ↓bd_bd, ↓bd_ite, ↓bd_jn, ↓jn_ap, ↓ite_ap, ↓bd_gI1, ↓bd_pI1, ↓bd_gR1, ↓bd_pR1, ↓bd_gM, rt_ap, ↓reduceIte, iN_div, iN_divL, iN_add, iN_mul, iN_addL, iN_Ladd, iN_mulL, iN_Lmul, iN_subL, iN_sub, iN_le_T, iN_le_F, iN_lt_T, iN_lt_F, iN_eq_F, iN_leL_T, iN_leL_F, iN_Lle_T, iN_Lle_F, iN_ltL_T, iN_ltL_F, iN_Llt_T, iN_Llt_F, iN_eqL_T, iN_eqL_F, iN_m1, m1_iN, iN_le_m1, m1_le_iN, iN_neg, iN_pos, i10, i01, i00, i11, u3_op, u3_or, u3_same, pup_eq, pup_ne]
        · intro j; simp (disch := first | omega | assumption) only [↓bd_rt, ↓bd_bd, ↓bd_ite, ↓bd_jn, ↓jn_ap, ↓ite_ap, ↓bd_gI1, ↓bd_pI1, ↓bd_gR1, ↓bd_pR1, ↓bd_gM, rt_ap, ↓reduceIte, iN_div, iN_divL, iN_add, iN_mul, iN_addL, iN_Ladd, iN_mulL, iN_Lmul, iN_subL, iN_sub, iN_le_T, iN_le_F, iN_lt_T, iN_lt_F, iN_eq_F, iN_leL_T, iN_leL_F, iN_Lle_T, iN_Lle_F, iN_ltL_T, iN_ltL_F, iN_Llt_T, iN_Llt_F, iN_eqL_T, iN_eqL_F, iN_m1, m1_iN, iN_le_m1, m1_le_iN, iN_neg, iN_pos, i10, i01, i00, i11, u3_op, u3_or, u3_same, pup_eq, pup_ne]; rw [hl]
          by_cases e : j = k
          · subst e; rw [pup_eq, vs]; simp
          · rw [pup_ne e]
        · intro j; simp (disch := first | omega | assumption) only [↓bd_rt, ↓bd_bd, ↓bd_ite, ↓bd_jn, ↓jn_ap, ↓ite_ap, ↓bd_gI1, ↓bd_pI1, ↓bd_gR1, ↓bd_pR1, ↓bd_gM, rt_ap, ↓reduceIte, iN_div, iN_divL, iN_add, iN_mul, iN_addL, iN_Ladd, iN_mulL, iN_Lmul, iN_subL, iN_sub, iN_le_T, iN_le_F, iN_lt_T, iN_lt_F, iN_eq_F, iN_leL_T, iN_leL_F, iN_Lle_T, iN_Lle_F, iN_ltL_T, iN_ltL_F, iN_Llt_T, iN_Llt_F, iN_eqL_T, iN_eqL_F, iN_m1, m1_iN, iN_le_m1, m1_le_iN, iN_neg, iN_pos, i10, i01, i00, i11, u3_op, u3_or, u3_same, pup_eq, pup_ne]
        · intro j; simp (disch := first | omega | assumption) only [↓bd_rt, ↓bd_bd, ↓bd_ite, ↓bd_jn, ↓jn_ap, ↓ite_ap, ↓bd_gI1, ↓bd_pI1, ↓bd_gR1, ↓bd_pR1, ↓bd_gM, rt_ap, ↓reduceIte, iN_div, iN_divL, iN_add, iN_mul, iN_addL, iN_Ladd, iN_mulL, iN_Lmul, iN_subL, iN_sub, iN_le_T, iN_le_F, iN_lt_T, iN_lt_F, iN_eq_F, iN_leL_T, iN_leL_F, iN_Lle_T, iN_Lle_F, iN_ltL_T, iN_ltL_F, iN_Llt_T, iN_Llt_F, iN_eqL_T, iN_eqL_F, iN_m1, m1_iN, iN_le_m1, m1_le_iN, iN_neg, iN_pos, i10, i01, i00, i11, u3_op, u3_or, u3_same, pup_eq, pup_ne]; rw [hl]
          by_cases e : j = k / c.wd h
          · subst e; rw [pup_eq, vb]; simp
          · rw [pup_ne e]
      · simp (disch := first | omega | assumption) only [↓bd_rt, ↓bd_bd, ↓bd_ite, ↓bd_jn, ↓jn_ap, ↓ite_ap, ↓bd_gI1, ↓bd_pI1, ↓bd_gR1, ↓bd_pR1, ↓bd_gM, rt_ap, ↓reduceIte, iN_div, iN_divL, iN_add, iN_mul, iN_addL, iN_Ladd, iN_mulL, iN_Lmul, iN_subL, iN_sub, iN_le_T, iN_le_F, iN_lt_T, iN_lt_F, iN_eq_F, iN_leL_T, iN_leL_F, iN_Lle_T, iN_Lle_F, iN_ltL_T, iN_ltL_F, iN_Llt_T, iN_Llt_F, iN_eqL_T, iN_eqL_F, iN_m1, m1_iN, iN_le_m1, m1_le_iN, iN_neg, iN_pos, i10, i01, i00, i11, u3_op, u3_or, u3_same, pup_eq, pup_ne, ↓bd_nn, ↓bd_of (sp_X5_all hR hh), ↓bd_of (sp_X5_floorOf w hR hh (k := k) (by omega)), ↓g0, ↓g2, ↓g4, ↓g5, ↓g6, ↓rI145, ↓rI149, ↓rI150, ↓rI151, ↓wI145, ↓wI147, r1, r2, vh, vf, cf, if_false]
        have hz := nh1 cf
        refine fin ?_ rfl ?_ ?_ ?_ ?_ ?_
        · intro q r j q1 q2 q3 q4; simp (disch := first | omega | assumption) only [↓bd_rt, ↓bd_bd, ↓bd_ite, ↓bd_jn, ↓jn_ap, ↓ite_ap, ↓bd_gI1, ↓bd_pI1, ↓bd_gR1, ↓bd_pR1, ↓bd_gM, rt_ap, ↓reduceIte, iN_div, iN_divL, iN_add, iN_mul, iN_addL, iN_Ladd, iN_mulL, iN_Lmul, iN_subL, iN_sub, iN_le_T, iN_le_F, iN_lt_T, iN_lt_F, iN_eq_F, iN_leL_T, iN_leL_F, iN_Lle_T, iN_Lle_F, iN_ltL_T, iN_ltL_F, iN_Llt_T, iN_Llt_F, iN_eqL_T, iN_eqL_F, iN_m1, m1_iN, iN_le_m1, m1_le_iN, iN_neg, iN_pos, i10, i01, i00, i11, u3_op, u3_or, u3_same, pup_eq, pup_ne]
        · intro q r j hr
          by_cases e5 : q = 145 <;> by_cases e7 : q = 147
          · omega
          · subst e5; simp (disch := first | omega | assumption) only [↓bd_rt, ↓bd_bd, ↓bd_ite, ↓bd_jn, ↓jn_ap, ↓ite_ap, ↓bd_gI1, ↓bd_pI1, ↓bd_gR1, ↓bd_pR1, ↓bd_gM, rt_ap, ↓reduceIte, iN_div, iN_divL, iN_add, iN_mul, iN_addL, iN_Ladd, iN_mulL, iN_Lmul, iN_subL, iN_sub, iN_le_T, iN_le_F, iN_lt_T, iN_lt_F, iN_eq_F, iN_leL_T, iN_leL_F, iN_Lle_T, iN_Lle_F, iN_ltL_T, iN_ltL_F, iN_Llt_T, iN_Llt_F, iN_eqL_T, iN_eqL_F, iN_m1, m1_iN, iN_le_m1, m1_le_iN, iN_neg, iN_pos, i10, i01, i00, i11, u3_op, u3_or, u3_same, pup_eq, pup_ne]
          · subst e7; simp (disch := first | omega | assumption) only [↓bd_rt, ↓bd_bd, ↓bd_ite, ↓bd_jn, ↓jn_ap, ↓ite_ap, ↓bd_gI1, ↓bd_pI1, ↓bd_gR1, ↓bd_pR1, ↓bd_gM, rt_ap, ↓reduceIte, iN_div, iN_divL, iN_add, iN_mul, iN_addL, iN_Ladd, iN_mulL, iN_Lmul, iN_subL, iN_sub, iN_le_T, iN_le_F, iN_lt_T, iN_lt_F, iN_eq_F, iN_leL_T, iN_leL_F, iN_Lle_T, iN_Lle_F, iN_ltL_T, iN_ltL_F, iN_Llt_T, iN_Llt_F, iN_eqL_T, iN_eqL_F, iN_m1, m1_iN, iN_le_m1, m1_le_iN, iN_neg, iN_pos, i10, i01, i00, i11, u3_op, u3_or, u3_same, pup_eq, pup_ne]
          · simp (disch := first | omega | assumption) only [↓bd_rt, ↓bd_bd, ↓bd_ite, ↓bd_jn, ↓jn_ap, ↓ite_ap, ↓bd_gI1, ↓bd_pI1, ↓bd_gR1, ↓bd_pR1, ↓bd_gM, rt_ap, ↓reduceIte, iN_div, iN_divL, iN_add, iN_mul, iN_addL, iN_Ladd, iN_mulL, iN_Lmul, iN_subL, iN_sub, iN_le_T, iN_le_F, iN_lt_T, iN_lt_F, iN_eq_F, iN_leL_T, iN_leL_F, iN_Lle_T, iN_Lle_F, iN_ltL_T, iN_ltL_F, iN_Llt_T, iN_Llt_F, iN_eqL_T, iN_eqL_F, iN_m1, m1_iN, iN_le_m1, m1_le_iN, iN_neg, iN_pos, i10, i01, i00, i11, u3_op, u3_or, u3_same, pup_eq, pup_ne]
        · intro j; simp (disch := first | omega | assumption) only [↓bd_rt, ↓bd_bd, ↓bd_ite, ↓bd_jn, ↓jn_ap, ↓ite_ap, ↓bd_gI1, ↓bd_pI1, ↓bd_gR1, ↓bd_pR1, ↓bd_gM, rt_ap, ↓reduceIte, iN_div, iN_divL, iN_add, iN_mul, iN_addL, iN_Ladd, iN_mulL, iN_Lmul, iN_subL, iN_sub, iN_le_T, iN_le_F, iN_lt_T, iN_lt_F, iN_eq_F, iN_leL_T, iN_leL_F, iN_Lle_T, iN_Lle_F, iN_ltL_T, iN_ltL_F, iN_Llt_T, iN_Llt_F, iN_eqL_T, iN_eqL_F, iN_m1, m1_iN, iN_le_m1, m1_le_iN, iN_neg, iN_pos, i10, i01, i00, i11, u3_op, u3_or, u3_same, pup_eq, pup_ne, hz]
        · intro j; simp (disch := first | omega | assumption) only [↓bd_rt, ↓bd_bd, ↓bd_ite, ↓bd_jn, ↓jn_ap, ↓ite_ap, ↓bd_gI1, ↓bd_pI1, ↓bd_gR1, ↓bd_pR1, ↓bd_gM, rt_ap, ↓reduceIte, iN_div, iN_divL, iN_add, iN_mul, iN_addL, iN_Ladd, iN_mulL, iN_Lmul, iN_subL, iN_sub, iN_le_T, iN_le_F, iN_lt_T, iN_lt_F, iN_eq_F, iN_leL_T, iN_leL_F, iN_Lle_T, iN_Lle_F, iN_ltL_T, iN_ltL_F, iN_Llt_T, iN_Llt_F, iN_eqL_T, iN_eqL_F, iN_m1, m1_iN, iN_le_m1, m1_le_iN, iN_neg, iN_pos, i10, i01, i00, i11, u3_op, u3_or, u3_same, pup_eq, pup_ne]; rw [hl]
          by_cases e : j = k
          · subst e; rw [pup_eq, vs]; simp
          · rw [pup_ne e]
        · intro j; simp (disch := first | omega | assumption) only [↓bd_rt, ↓bd_bd, ↓bd_ite, ↓bd_jn, ↓jn_ap, ↓ite_ap, ↓bd_gI1, ↓bd_pI1, ↓bd_gR1, ↓bd_pR1, ↓bd_gM, rt_ap, ↓reduceIte, iN_div, iN_divL, iN_add, iN_mul, iN_addL, iN_Ladd, iN_mulL, iN_Lmul, iN_subL, iN_sub, iN_le_T, iN_le_F, iN_lt_T, iN_lt_F, iN_eq_F, iN_leL_T, iN_leL_F, iN_Lle_T, iN_Lle_F, iN_ltL_T, iN_ltL_F, iN_Llt_T, iN_Llt_F, iN_eqL_T, iN_eqL_F, iN_m1, m1_iN, iN_le_m1, m1_le_iN, iN_neg, iN_pos, i10, i01, i00, i11, u3_op, u3_or, u3_same, pup_eq, pup_ne]
        · intro j; simp (disch := first | omega | assumption) only [↓bd_rt, ↓bd_bd, ↓bd_ite, ↓bd_jn, ↓jn_ap, ↓ite_ap, ↓bd_gI1, ↓bd_pI1, ↓bd_gR1, ↓bd_pR1, ↓bd_gM, rt_ap, ↓reduceIte, iN_div, iN_divL, iN_add, iN_mul, iN_addL, iN_Ladd, iN_mulL, iN_Lmul, iN_subL, iN_sub, iN_le_T, iN_le_F, iN_lt_T, iN_lt_F, iN_eq_F, iN_leL_T, iN_leL_F, iN_Lle_T, iN_Lle_F, iN_ltL_T, iN_ltL_F, iN_Llt_T, iN_Llt_F, iN_eqL_T, iN_eqL_F, iN_m1, m1_iN, iN_le_m1, m1_le_iN, iN_neg, iN_pos, i10, i01, i00, i11, u3_op, u3_or, u3_same, pup_eq, pup_ne]; rw [hl]
          by_cases e : j = k / c.wd h
          · subst e; rw [pup_eq, vb]; simp
          · rw [pup_ne e]
    · have hl : loseS c b h k = (if 1 + b.heat (24 * h + k) / 250 < b.stuff (24 * h + k) then 1 + b.heat (24 * h + k) / 250 else b.stuff (24 * h + k)) := by unfold loseS; rw [q]; rfl
      simp only [q, b01_t] at r1
      by_cases cf : b.fal (6 * h + k / c.wd h) = 0
      · simp (disch := first | omega | assumption) only [↓bd_rt, ↓bd_bd, ↓bd_ite, ↓bd_jn, ↓jn_ap, ↓ite_ap, ↓bd_gI1, ↓bd_pI1, ↓bd_gR1, ↓bd_pR1, ↓bd_gM, rt_ap, ↓reduceIte, iN_div, iN_divL, iN_add, iN_mul, iN_addL, iN_Ladd, iN_mulL, iN_Lmul, iN_subL, iN_sub, iN_le_T, iN_le_F, iN_lt_T, iN_lt_F, iN_eq_F, iN_leL_T, iN_leL_F, iN_Lle_T, iN_Lle_F, iN_ltL_T, iN_ltL_F, iN_Llt_T, iN_Llt_F, iN_eqL_T, iN_eqL_F, iN_m1, m1_iN, iN_le_m1, m1_le_iN, iN_neg, iN_pos, i10, i01, i00, i11, u3_op, u3_or, u3_same, pup_eq, pup_ne, ↓bd_nn, ↓bd_of (sp_X5_all hR hh), ↓bd_of (sp_X5_floorOf w hR hh (k := k) (by omega)), ↓g0, ↓g1, ↓g2, ↓g3, ↓g4, ↓g5, ↓g6, ↓rI145, ↓rI146, ↓rI148, ↓rI149, ↓rI150, ↓rI151, ↓wI145, ↓wI146, ↓wI147, ↓wI148, r1, r2, vh, vs, vb, vf, cf, if_true]
        rw [← nh0 cf, ← hl]
        refine fin ?_ rfl ?_ ?_ ?_ ?_ ?_
        · intro q r j q1 q2 q3 q4; simp (disch := first | omega | assumption) only [↓bd_rt, ↓bd_bd, ↓bd_ite, ↓bd_jn, ↓jn_ap, ↓ite_ap, ↓bd_gI1, ↓bd_pI1, ↓bd_gR1, ↓bd_pR1, ↓bd_gM, rt_ap, ↓reduceIte, iN_div, iN_divL, iN_add, iN_mul, iN_addL, iN_Ladd, iN_mulL, iN_Lmul, iN_subL, iN_sub, iN_le_T, iN_le_F, iN_lt_T, iN_lt_F, iN_eq_F, iN_leL_T, iN_leL_F, iN_Lle_T, iN_Lle_F, iN_ltL_T, iN_ltL_F, iN_Llt_T, iN_Llt_F, iN_eqL_T, iN_eqL_F, iN_m1, m1_iN, iN_le_m1, m1_le_iN, iN_neg, iN_pos, i10, i01, i00, i11, u3_op, u3_or, u3_same, pup_eq, pup_ne]
        · intro q r j hr
          simp only [u3, show ¬ (r = bnum cp h) from hr, and_false, false_and, if_false]
        · intro j; simp (disch := first | omega | assumption) only [↓bd_rt, ↓bd_bd, ↓bd_ite, ↓bd_jn, ↓jn_ap, ↓ite_ap, ↓bd_gI1, ↓bd_pI1, ↓bd_gR1, ↓bd_pR1, ↓bd_gM, rt_ap, ↓reduceIte, iN_div, iN_divL, iN_add, iN_mul, iN_addL, iN_Ladd, iN_mulL, iN_Lmul, iN_subL, iN_sub, iN_le_T, iN_le_F, iN_lt_T, iN_lt_F, iN_eq_F, iN_leL_T, iN_leL_F, iN_Lle_T, iN_Lle_F, iN_ltL_T, iN_ltL_F, iN_Llt_T, iN_Llt_F, iN_eqL_T, iN_eqL_F, iN_m1, m1_iN, iN_le_m1, m1_le_iN, iN_neg, iN_pos, i10, i01, i00, i11, u3_op, u3_or, u3_same, pup_eq, pup_ne]
        · intro j; simp (disch := first | omega | assumption) only [↓bd_rt, ↓bd_bd, ↓bd_ite, ↓bd_jn, ↓jn_ap, ↓ite_ap, ↓bd_gI1, ↓bd_pI1, ↓bd_gR1, ↓bd_pR1, ↓bd_gM, rt_ap, ↓reduceIte, iN_div, iN_divL, iN_add, iN_mul, iN_addL, iN_Ladd, iN_mulL, iN_Lmul, iN_subL, iN_sub, iN_le_T, iN_le_F, iN_lt_T, iN_lt_F, iN_eq_F, iN_leL_T, iN_leL_F, iN_Lle_T, iN_Lle_F, iN_ltL_T, iN_ltL_F, iN_Llt_T, iN_Llt_F, iN_eqL_T, iN_eqL_F, iN_m1, m1_iN, iN_le_m1, m1_le_iN, iN_neg, iN_pos, i10, i01, i00, i11, u3_op, u3_or, u3_same, pup_eq, pup_ne]
        · intro j; simp (disch := first | omega | assumption) only [↓bd_rt, ↓bd_bd, ↓bd_ite, ↓bd_jn, ↓jn_ap, ↓ite_ap, ↓bd_gI1, ↓bd_pI1, ↓bd_gR1, ↓bd_pR1, ↓bd_gM, rt_ap, ↓reduceIte, iN_div, iN_divL, iN_add, iN_mul, iN_addL, iN_Ladd, iN_mulL, iN_Lmul, iN_subL, iN_sub, iN_le_T, iN_le_F, iN_lt_T, iN_lt_F, iN_eq_F, iN_leL_T, iN_leL_F, iN_Lle_T, iN_Lle_F, iN_ltL_T, iN_ltL_F, iN_Llt_T, iN_Llt_F, iN_eqL_T, iN_eqL_F, iN_m1, m1_iN, iN_le_m1, m1_le_iN, iN_neg, iN_pos, i10, i01, i00, i11, u3_op, u3_or, u3_same, pup_eq, pup_ne]
        · intro j; simp (disch := first | omega | assumption) only [↓bd_rt, ↓bd_bd, ↓bd_ite, ↓bd_jn, ↓jn_ap, ↓ite_ap, ↓bd_gI1, ↓bd_pI1, ↓bd_gR1, ↓bd_pR1, ↓bd_gM, rt_ap, ↓reduceIte, iN_div, iN_divL, iN_add, iN_mul, iN_addL, iN_Ladd, iN_mulL, iN_Lmul, iN_subL, iN_sub, iN_le_T, iN_le_F, iN_lt_T, iN_lt_F, iN_eq_F, iN_leL_T, iN_leL_F, iN_Lle_T, iN_Lle_F, iN_ltL_T, iN_ltL_F, iN_Llt_T, iN_Llt_F, iN_eqL_T, iN_eqL_F, iN_m1, m1_iN, iN_le_m1, m1_le_iN, iN_neg, iN_pos, i10, i01, i00, i11, u3_op, u3_or, u3_same, pup_eq, pup_ne]
      · simp (disch := first | omega | assumption) only [↓bd_rt, ↓bd_bd, ↓bd_ite, ↓bd_jn, ↓jn_ap, ↓ite_ap, ↓bd_gI1, ↓bd_pI1, ↓bd_gR1, ↓bd_pR1, ↓bd_gM, rt_ap, ↓reduceIte, iN_div, iN_divL, iN_add, iN_mul, iN_addL, iN_Ladd, iN_mulL, iN_Lmul, iN_subL, iN_sub, iN_le_T, iN_le_F, iN_lt_T, iN_lt_F, iN_eq_F, iN_leL_T, iN_leL_F, iN_Lle_T, iN_Lle_F, iN_ltL_T, iN_ltL_F, iN_Llt_T, iN_Llt_F, iN_eqL_T, iN_eqL_F, iN_m1, m1_iN, iN_le_m1, m1_le_iN, iN_neg, iN_pos, i10, i01, i00, i11, u3_op, u3_or, u3_same, pup_eq, pup_ne, ↓bd_nn, ↓bd_of (sp_X5_all hR hh), ↓bd_of (sp_X5_floorOf w hR hh (k := k) (by omega)), ↓g0, ↓g1, ↓g2, ↓g3, ↓g4, ↓g5, ↓g6, ↓rI145, ↓rI146, ↓rI148, ↓rI149, ↓rI150, ↓rI151, ↓wI145, ↓wI146, ↓wI147, ↓wI148, r1, r2, vh, vs, vb, vf, cf, if_false]
        rw [← hl]
        have hz := nh1 cf
        refine fin ?_ rfl ?_ ?_ ?_ ?_ ?_
        · intro q r j q1 q2 q3 q4; simp (disch := first | omega | assumption) only [↓bd_rt, ↓bd_bd, ↓bd_ite, ↓bd_jn, ↓jn_ap, ↓ite_ap, ↓bd_gI1, ↓bd_pI1, ↓bd_gR1, ↓bd_pR1, ↓bd_gM, rt_ap, ↓reduceIte, iN_div, iN_divL, iN_add, iN_mul, iN_addL, iN_Ladd, iN_mulL, iN_Lmul, iN_subL, iN_sub, iN_le_T, iN_le_F, iN_lt_T, iN_lt_F, iN_eq_F, iN_leL_T, iN_leL_F, iN_Lle_T, iN_Lle_F, iN_ltL_T, iN_ltL_F, iN_Llt_T, iN_Llt_F, iN_eqL_T, iN_eqL_F, iN_m1, m1_iN, iN_le_m1, m1_le_iN, iN_neg, iN_pos, i10, i01, i00, i11, u3_op, u3_or, u3_same, pup_eq, pup_ne]
        · intro q r j hr
          simp only [u3, show ¬ (r = bnum cp h) from hr, and_false, false_and, if_false]
        · intro j; simp (disch := first | omega | assumption) only [↓bd_rt, ↓bd_bd, ↓bd_ite, ↓bd_jn, ↓jn_ap, ↓ite_ap, ↓bd_gI1, ↓bd_pI1, ↓bd_gR1, ↓bd_pR1, ↓bd_gM, rt_ap, ↓reduceIte, iN_div, iN_divL, iN_add, iN_mul, iN_addL, iN_Ladd, iN_mulL, iN_Lmul, iN_subL, iN_sub, iN_le_T, iN_le_F, iN_lt_T, iN_lt_F, iN_eq_F, iN_leL_T, iN_leL_F, iN_Lle_T, iN_Lle_F, iN_ltL_T, iN_ltL_F, iN_Llt_T, iN_Llt_F, iN_eqL_T, iN_eqL_F, iN_m1, m1_iN, iN_le_m1, m1_le_iN, iN_neg, iN_pos, i10, i01, i00, i11, u3_op, u3_or, u3_same, pup_eq, pup_ne, hz]
        · intro j; simp (disch := first | omega | assumption) only [↓bd_rt, ↓bd_bd, ↓bd_ite, ↓bd_jn, ↓jn_ap, ↓ite_ap, ↓bd_gI1, ↓bd_pI1, ↓bd_gR1, ↓bd_pR1, ↓bd_gM, rt_ap, ↓reduceIte, iN_div, iN_divL, iN_add, iN_mul, iN_addL, iN_Ladd, iN_mulL, iN_Lmul, iN_subL, iN_sub, iN_le_T, iN_le_F, iN_lt_T, iN_lt_F, iN_eq_F, iN_leL_T, iN_leL_F, iN_Lle_T, iN_Lle_F, iN_ltL_T, iN_ltL_F, iN_Llt_T, iN_Llt_F, iN_eqL_T, iN_eqL_F, iN_m1, m1_iN, iN_le_m1, m1_le_iN, iN_neg, iN_pos, i10, i01, i00, i11, u3_op, u3_or, u3_same, pup_eq, pup_ne]
        · intro j; simp (disch := first | omega | assumption) only [↓bd_rt, ↓bd_bd, ↓bd_ite, ↓bd_jn, ↓jn_ap, ↓ite_ap, ↓bd_gI1, ↓bd_pI1, ↓bd_gR1, ↓bd_pR1, ↓bd_gM, rt_ap, ↓reduceIte, iN_div, iN_divL, iN_add, iN_mul, iN_addL, iN_Ladd, iN_mulL, iN_Lmul, iN_subL, iN_sub, iN_le_T, iN_le_F, iN_lt_T, iN_lt_F, iN_eq_F, iN_leL_T, iN_leL_F, iN_Lle_T, iN_Lle_F, iN_ltL_T, iN_ltL_F, iN_Llt_T, iN_Llt_F, iN_eqL_T, iN_eqL_F, iN_m1, m1_iN, iN_le_m1, m1_le_iN, iN_neg, iN_pos, i10, i01, i00, i11, u3_op, u3_or, u3_same, pup_eq, pup_ne]
        · intro j; simp (disch := first | omega | assumption) only [↓bd_rt, ↓bd_bd, ↓bd_ite, ↓bd_jn, ↓jn_ap, ↓ite_ap, ↓bd_gI1, ↓bd_pI1, ↓bd_gR1, ↓bd_pR1, ↓bd_gM, rt_ap, ↓reduceIte, iN_div, iN_divL, iN_add, iN_mul, iN_addL, iN_Ladd, iN_mulL, iN_Lmul, iN_subL, iN_sub, iN_le_T, iN_le_F, iN_lt_T, iN_lt_F, iN_eq_F, iN_leL_T, iN_leL_F, iN_Lle_T, iN_Lle_F, iN_ltL_T, iN_ltL_F, iN_Llt_T, iN_Llt_F, iN_eqL_T, iN_eqL_F, iN_m1, m1_iN, iN_le_m1, m1_le_iN, iN_neg, iN_pos, i10, i01, i00, i11, u3_op, u3_or, u3_same, pup_eq, pup_ne]
  · rintro x S1 ⟨rfl, hc, hb⟩ rec
    have hR := hc.1
    unfold p_X1_change_L162
    simp (disch := first | omega | assumption) only [↓bd_rt, ↓bd_bd, ↓bd_ite, ↓bd_jn, ↓jn_ap, ↓ite_ap, ↓bd_gI1, ↓bd_pI1, ↓bd_gR1, ↓bd_pR1, ↓bd_gM, rt_ap, ↓reduceIte, iN_div, iN_divL, iN_add, iN_mul, iN_addL, iN_Ladd, iN_mulL, iN_Lmul, iN_subL, iN_sub, iN_le_T, iN_le_F, iN_lt_T, iN_lt_F, iN_eq_F, iN_leL_T, iN_leL_F, iN_Lle_T, iN_Lle_F, iN_ltL_T, iN_ltL_F, iN_Llt_T, iN_Llt_F, iN_eqL_T, iN_eqL_F, iN_m1, m1_iN, iN_le_m1, m1_le_iN, iN_neg, iN_pos, i10, i01, i00, i11, u3_op, u3_or, u3_same, pup_eq, pup_ne, ↓bd_nn, ↓bd_of (sp_X5_all hR hh)]
    exact Rs.mk ⟨hc, hb⟩
theorem sp_X1_change_L136 {c : CHo} (w : c.WF) {b : CBz} {cp : Bool} {φ : amSh} {S : amSt} (hR : RCho c φ S) (hB : RCbd c b cp S) (hG : RCgn c b cp S) (hb : RCbk b c.n cp S) :
    Rs (fun _ S' => RCho c φ S' ∧ RCbk (bP c b true c.n 0) c.n cp S') (alp (p_X1_change_L136 (i32b cp)) amFu 0 φ S) := by
  have hn := w.hn
  refine alp_I (fun j x S' => x = iN j ∧ (RCho c φ S' ∧ RCbd c b cp S' ∧ RCgn c b cp S') ∧ RCbk (bP c b true j 0) c.n cp S') c.n (amFu_lt (by omega)) ⟨rfl, ⟨hR, hB, hG⟩, hb⟩ ?_ ?_
  · rintro j x S1 hj ⟨rfl, ⟨hR, hB, hG⟩, hb⟩ rec
    unfold p_X1_change_L136
    simp (disch := first | omega | assumption) only [↓bd_rt, ↓bd_bd, ↓bd_ite, ↓bd_jn, ↓jn_ap, ↓ite_ap, ↓bd_gI1, ↓bd_pI1, ↓bd_gR1, ↓bd_pR1, ↓bd_gM, rt_ap, ↓reduceIte, iN_div, iN_divL, iN_add, iN_mul, iN_addL, iN_Ladd, iN_mulL, iN_Lmul, iN_subL, iN_sub, iN_le_T, iN_le_F, iN_lt_T, iN_lt_F, iN_eq_F, iN_leL_T, iN_leL_F, iN_Lle_T, iN_Lle_F, iN_ltL_T, iN_ltL_F, iN_Llt_T, iN_Llt_F, iN_eqL_T, iN_eqL_F, iN_m1, m1_iN, iN_le_m1, m1_le_iN, iN_neg, iN_pos, i10, i01, i00, i11, u3_op, u3_or, u3_same, pup_eq, pup_ne, hR.n, ↓rR24_1, hR.obj j hj, ↓bd_of (sp_X1_blazeOf hR hj cp)]
    refine bdR (sp_X1_change_L162 w hR hB hG hj hb) fun _ S2 h2 => ?_
    exact Lz.go ⟨rfl, h2⟩
  · rintro x S1 ⟨rfl, hc, hb⟩ rec
    have hR := hc.1
    unfold p_X1_change_L136
    simp (disch := first | omega | assumption) only [↓bd_rt, ↓bd_bd, ↓bd_ite, ↓bd_jn, ↓jn_ap, ↓ite_ap, ↓bd_gI1, ↓bd_pI1, ↓bd_gR1, ↓bd_pR1, ↓bd_gM, rt_ap, ↓reduceIte, iN_div, iN_divL, iN_add, iN_mul, iN_addL, iN_Ladd, iN_mulL, iN_Lmul, iN_subL, iN_sub, iN_le_T, iN_le_F, iN_lt_T, iN_lt_F, iN_eq_F, iN_leL_T, iN_leL_F, iN_Lle_T, iN_Lle_F, iN_ltL_T, iN_ltL_F, iN_Llt_T, iN_Llt_F, iN_eqL_T, iN_eqL_F, iN_m1, m1_iN, iN_le_m1, m1_le_iN, iN_neg, iN_pos, i10, i01, i00, i11, u3_op, u3_or, u3_same, pup_eq, pup_ne, hR.n]
    exact Rs.mk ⟨hR, hb⟩
