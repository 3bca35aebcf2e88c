/-! PURE: a new house in the component, whole -/
theorem RCho.new {c : CHo} (w : c.WF) {φ : amSh} {S : amSt} (hR : RCho c φ S) {cor fl wd : Nat} {kind sh : Int32} {φ1 : amSh} {S1 : amSt} (hN : NH c.n cor fl wd kind sh φ S φ1 S1) {S2 : amSt}
    (e1 : S2.1 = u3 S1.1 0 1 6 (iN (c.n + 1))) (e2 : S2.2.2 = u3 S1.2.2 24 1 c.n (c.n + 1)) (h24 : 1 ≤ φ.1 24) (h0 : 1 ≤ φ.1 0) : RCho (houseC c cor kind fl wd sh) φ1 S2 := by
  have hn := w.hn
  have c3 := hR.cnt.1
  have c143 := hR.cnt.2.1
  have c144 := hR.cnt.2.2
  have cb := hR.cnb
  have zz := w.z c.n (Nat.le_refl _)
  have lt : ∀ {h : Nat}, h < (houseC c cor kind fl wd sh).n → h ≠ c.n → h < c.n := fun {h} hh hne => by have : h < c.n + 1 := hh; omega
  have old : ∀ {h j : Nat}, h < c.n → S2.1 3 (h + 1) j = S.1 3 (h + 1) j := fun {h j} hh => by
    rw [e1, u3_op (by decide)]; exact hN.o1 3 (h + 1) j (by omega)
  have new : ∀ {j : Nat}, S2.1 3 (c.n + 1) j = S1.1 3 (c.n + 1) j := fun {j} => by rw [e1, u3_op (by decide)]
  refine RCho.mk ?_ ?_ ?_ ?_ ?_ ?_ ?_ ?_ ?_ ?_ ?_ ?_ ?_ ?_ ?_ ?_ ?_ ?_ ?_ ?_ ?_
  · rw [e1]; simp [u3]; rfl
  · intro h hh
    rw [e2]
    by_cases e : h = c.n
    · subst e; simp [u3]
    · refine Eq.trans ?_ (hR.obj h (lt hh e))
      rw [← hN.o2 24 1 h h24]; simp [u3, e]
  · intro h hh; show _ = iN (pup c.cor c.n cor h); by_cases e : h = c.n
    · subst e; rw [new, pup_eq]; exact hN.f.1
    · rw [pup_ne e, old (lt hh e)]; exact hR.cor h (lt hh e)
  · intro h hh; show _ = pup c.kind c.n kind h; by_cases e : h = c.n
    · subst e; rw [new, pup_eq]; exact hN.f.2.1
    · rw [pup_ne e, old (lt hh e)]; exact hR.kind h (lt hh e)
  · intro h hh; show _ = iN (pup c.fl c.n fl h); by_cases e : h = c.n
    · subst e; rw [new, pup_eq]; exact hN.f.2.2.1
    · rw [pup_ne e, old (lt hh e)]; exact hR.fl h (lt hh e)
  · intro h hh; show _ = iN (pup c.wd c.n wd h); by_cases e : h = c.n
    · subst e; rw [new, pup_eq]; exact hN.f.2.2.2.1
    · rw [pup_ne e, old (lt hh e)]; exact hR.wd h (lt hh e)
  · intro h hh; show _ = pup c.sh c.n sh h; by_cases e : h = c.n
    · subst e; rw [new, pup_eq]; exact hN.f.2.2.2.2.1
    · rw [pup_ne e, old (lt hh e)]; exact hR.sh h (lt hh e)
  · intro h hh; show _ = c.dr h; by_cases e : h = c.n
    · subst e; rw [new, zz.1]; exact hN.f0 5 (by omega)
    · rw [old (lt hh e)]; exact hR.dr h (lt hh e)
  · intro h hh; show _ = iN (c.wl h); by_cases e : h = c.n
    · subst e; rw [new, zz.2.1]; exact hN.f0 6 (by omega)
    · rw [old (lt hh e)]; exact hR.wl h (lt hh e)
  · intro h hh; show _ = pup c.yr c.n 1 h; by_cases e : h = c.n
    · subst e; rw [new, pup_eq]; exact hN.f.2.2.2.2.2
    · rw [pup_ne e, old (lt hh e)]; exact hR.yr h (lt hh e)
  · intro h hh; show _ = c.use h; by_cases e : h = c.n
    · subst e; rw [new, zz.2.2.1]; exact hN.f0 8 (by omega)
    · rw [old (lt hh e)]; exact hR.use h (lt hh e)
  · intro h hh; show _ = c.sav h; by_cases e : h = c.n
    · subst e; rw [new, zz.2.2.2.1]; exact hN.f0 9 (by omega)
    · rw [old (lt hh e)]; exact hR.sav h (lt hh e)
  · intro h hh; show _ = c.lost h; by_cases e : h = c.n
    · subst e; rw [new, zz.2.2.2.2.1]; exact hN.f0 10 (by omega)
    · rw [old (lt hh e)]; exact hR.lost h (lt hh e)
  · intro h hh; show _ = c.gal h; by_cases e : h = c.n
    · subst e; rw [new, zz.2.2.2.2.2]; exact hN.f0 11 (by omega)
    · rw [old (lt hh e)]; exact hR.gal h (lt hh e)
  · intro h f hh hf; show _ = c.ppl (6 * h + f); rw [e1, u3_op (by decide)]; by_cases e : h = c.n
    · subst e; rw [(w.zf (6 * c.n + f) (by omega)).1]; exact (hN.z2 f).1
    · rw [hN.o1 143 (h + 1) f (by have := lt hh e; omega)]; exact hR.ppl h f (lt hh e) hf
  · intro h f hh hf; show _ = c.told (6 * h + f); rw [e1, u3_op (by decide)]; by_cases e : h = c.n
    · subst e; rw [(w.zf (6 * c.n + f) (by omega)).2]; exact (hN.z2 f).2
    · rw [hN.o1 144 (h + 1) f (by have := lt hh e; omega)]; exact hR.told h f (lt hh e) hf
  · intro h hh; by_cases e : h = c.n
    · subst e; rw [hN.s3]; decide
    · have hl := lt hh e
      rw [hN.s 3 (h + 1) (by omega)]; exact hR.stg h hl
  · intro h hh; by_cases e : h = c.n
    · subst e; rw [show 2 * (c.n + 1) - 1 = 2 * c.n + 1 by omega, hN.s4.1]; decide
    · have hl := lt hh e
      rw [hN.s 4 (2 * (h + 1) - 1) (by rw [cb 4 (Or.inl rfl)]; omega)]; exact hR.stb h hl
  · intro h hh; by_cases e : h = c.n
    · subst e; rw [show 2 * (c.n + 1) = 2 * c.n + 2 by omega, hN.s4.2]; decide
    · have hl := lt hh e
      rw [hN.s 4 (2 * (h + 1)) (by rw [cb 4 (Or.inl rfl)]; omega)]; exact hR.stc h hl
  · refine ⟨?_, ?_, ?_⟩
    · rw [hN.c, if_pos (by omega)]; rfl
    · rw [hN.c, if_pos (by omega)]; rfl
    · rw [hN.c, if_pos (by omega)]; rfl
  · intro p hp
    rw [hN.c, if_neg (by omega), if_pos (by omega)]
    show _ = 2 * (c.n + 1)
    omega
theorem RCbk.new {c : CHo} {b : CBz} (wb : b.WF c.n) {φ : amSh} {S : amSt} (hR : RCho c φ S) (hb : RCbk b c.n false S) {cor fl wd : Nat} {kind sh : Int32} {φ1 : amSh} {S1 : amSt} (hN : NH c.n cor fl wd kind sh φ S φ1 S1) {S2 : amSt}
    (e1 : S2.1 = u3 S1.1 0 1 6 (iN (c.n + 1))) : RCbk b (c.n + 1) false S2 := by
  have cb := hR.cnb
  intro h hh
  have eb : bnum false h = 2 * (h + 1) - 1 := rfl
  rw [eb]
  by_cases e : h = c.n
  · subst e
    rw [show 2 * (c.n + 1) - 1 = 2 * c.n + 1 by omega]
    refine RCb1.mk ?_ ?_ ?_ ?_ ?_
    · intro k hk; rw [e1, u3_op (by decide), (hN.z1 145 k (by decide) (by decide)).1, (wb.z _ (by omega)).1]
    · intro k hk; rw [e1, u3_op (by decide), (hN.z1 146 k (by decide) (by decide)).1, (wb.z _ (by omega)).2.1]
    · intro k hk; rw [e1, u3_op (by decide), (hN.z1 147 k (by decide) (by decide)).1, (wb.z _ (by omega)).2.2]
    · intro k hk; rw [e1, u3_op (by decide), (hN.z1 148 k (by decide) (by decide)).1, (wb.zf _ (by omega)).1]
    · intro k hk; rw [e1, u3_op (by decide), (hN.z1 149 k (by decide) (by decide)).1, (wb.zf _ (by omega)).2]
  · have hbh := hb h (by omega)
    rw [eb] at hbh
    refine RCb1.mk ?_ ?_ ?_ ?_ ?_
    · intro k hk; rw [e1, u3_op (by decide), hN.o1 145 _ k (by rw [cb 145 (by omega)]; omega)]; exact hbh.heat k hk
    · intro k hk; rw [e1, u3_op (by decide), hN.o1 146 _ k (by rw [cb 146 (by omega)]; omega)]; exact hbh.stuff k hk
    · intro k hk; rw [e1, u3_op (by decide), hN.o1 147 _ k (by rw [cb 147 (by omega)]; omega)]; exact hbh.water k hk
    · intro k hk; rw [e1, u3_op (by decide), hN.o1 148 _ k (by rw [cb 148 (by omega)]; omega)]; exact hbh.bnt k hk
    · intro k hk; rw [e1, u3_op (by decide), hN.o1 149 _ k (by rw [cb 149 (by omega)]; omega)]; exact hbh.fal k hk
theorem op_X1_house {c : CHo} (w : c.WF) {b : CBz} (wb : b.WF c.n) {φ : amSh} {S : amSt} (hφ : φ.1 255 ≠ 0) (hR : RCho c φ S) (hb : RCbk b c.n false S) (h24 : 1 ≤ φ.1 24) (h0 : 1 ≤ φ.1 0) {a1 a2 a3 a4 a5 : Int32} :
    Rs1 19 306 (fun v φ' S' => v = (houseS c a1 a2 a3 a4 a5).1 ∧ RCho (houseS c a1 a2 a3 a4 a5).2 φ' S' ∧ RCbk b (houseS c a1 a2 a3 a4 a5).2.n false S') (p_X1_house a1 a2 a3 a4 a5 φ S) := by
  have hn := w.hn
  have h9 := hR.n
  unfold p_X1_house
  by_cases h1 : inN a1 20
  · by_cases h2 : out a2 0 2
    · rw [show houseS c a1 a2 a3 a4 a5 = (-1, c) by unfold houseS; rw [if_pos h1, if_pos h2]]
      simp (disch := first | omega | assumption) only [↓b1_rt, ↓b1_rt1, ↓b1_up_bd, ↓b1_b1, ↓b1_ite, ↓b1_up_ite, ↓b1_jn, ↓jn1_ap, ↓ite1_ap, ↓b1_gI1, ↓b1_pI1, ↓b1_gR1, ↓b1_pR1, ↓b1_gM, rt1_ap, ↓reduceIte, iN_div, iN_divL, iN_add, iN_mul, iN_addL, iN_Ladd, iN_mulL, iN_Lmul, iN_subL, iN_sub, iN_le_T, iN_le_F, iN_lt_T, iN_lt_F, iN_eq_F, iN_leL_T, iN_leL_F, iN_Lle_T, iN_Lle_F, iN_ltL_T, iN_ltL_F, iN_Llt_T, iN_Llt_F, iN_eqL_T, iN_eqL_F, iN_m1, m1_iN, iN_le_m1, m1_le_iN, iN_neg, iN_pos, i10, i01, i00, i11, u3_op, u3_or, u3_same, pup_eq, pup_ne, nS_i, nS_r, nS_d, nS_ir, nS_rr, nS_i0, nS_r0, nφ_1, nφ_11, nφ_2, nφ_3, nφ_2r, nφ_3r, nφ_20, nφ_30, u2_op, u2_or, u2_eq, h9, ↓bd1_up sp_X1_isCorner, ip h1, ↓bd1_up sp_X1_in, jp h2]
      exact Rs1.mk (by decide) (by decide) ⟨rfl, hR, hb⟩
    by_cases h3 : out a3 1 6
    · rw [show houseS c a1 a2 a3 a4 a5 = (-1, c) by unfold houseS; rw [if_pos h1, if_neg h2, if_pos h3]]
      simp (disch := first | omega | assumption) only [↓b1_rt, ↓b1_rt1, ↓b1_up_bd, ↓b1_b1, ↓b1_ite, ↓b1_up_ite, ↓b1_jn, ↓jn1_ap, ↓ite1_ap, ↓b1_gI1, ↓b1_pI1, ↓b1_gR1, ↓b1_pR1, ↓b1_gM, rt1_ap, ↓reduceIte, iN_div, iN_divL, iN_add, iN_mul, iN_addL, iN_Ladd, iN_mulL, iN_Lmul, iN_subL, iN_sub, iN_le_T, iN_le_F, iN_lt_T, iN_lt_F, iN_eq_F, iN_leL_T, iN_leL_F, iN_Lle_T, iN_Lle_F, iN_ltL_T, iN_ltL_F, iN_Llt_T, iN_Llt_F, iN_eqL_T, iN_eqL_F, iN_m1, m1_iN, iN_le_m1, m1_le_iN, iN_neg, iN_pos, i10, i01, i00, i11, u3_op, u3_or, u3_same, pup_eq, pup_ne, nS_i, nS_r, nS_d, nS_ir, nS_rr, nS_i0, nS_r0, nφ_1, nφ_11, nφ_2, nφ_3, nφ_2r, nφ_3r, nφ_20, nφ_30, u2_op, u2_or, u2_eq, h9, ↓bd1_up sp_X1_isCorner, ip h1, ↓bd1_up sp_X1_in, jq h2, jp h3]
      exact Rs1.mk (by decide) (by decide) ⟨rfl, hR, hb⟩
    by_cases h4 : out a4 1 4
    · rw [show houseS c a1 a2 a3 a4 a5 = (-1, c) by unfold houseS; rw [if_pos h1, if_neg h2, if_neg h3, if_pos h4]]
      simp (disch := first | omega | assumption) only [↓b1_rt, ↓b1_rt1, ↓b1_up_bd, ↓b1_b1, ↓b1_ite, ↓b1_up_ite, ↓b1_jn, ↓jn1_ap, ↓ite1_ap, ↓b1_gI1, ↓b1_pI1, ↓b1_gR1, ↓b1_pR1, ↓b1_gM, rt1_ap, ↓reduceIte, iN_div, iN_divL, iN_add, iN_mul, iN_addL, iN_Ladd, iN_mulL, iN_Lmul, iN_subL, iN_sub, iN_le_T, iN_le_F, iN_lt_T, iN_lt_F, iN_eq_F, iN_leL_T, iN_leL_F, iN_Lle_T, iN_Lle_F, iN_ltL_T, iN_ltL_F, iN_Llt_T, iN_Llt_F, iN_eqL_T, iN_eqL_F, iN_m1, m1_iN, iN_le_m1, m1_le_iN, iN_neg, iN_pos, i10, i01, i00, i11, u3_op, u3_or, u3_same, pup_eq, pup_ne, nS_i, nS_r, nS_d, nS_ir, nS_rr, nS_i0, nS_r0, nφ_1, nφ_11, nφ_2, nφ_3, nφ_2r, nφ_3r, nφ_20, nφ_30, u2_op, u2_or, u2_eq, h9, ↓bd1_up sp_X1_isCorner, ip h1, ↓bd1_up sp_X1_in, jq h2, jq h3, jp h4]
      exact Rs1.mk (by decide) (by decide) ⟨rfl, hR, hb⟩
    by_cases h5 : out a5 (-1) (a4 - 1)
    · rw [show houseS c a1 a2 a3 a4 a5 = (-1, c) by unfold houseS; rw [if_pos h1, if_neg h2, if_neg h3, if_neg h4, if_pos h5]]
      simp (disch := first | omega | assumption) only [↓b1_rt, ↓b1_rt1, ↓b1_up_bd, ↓b1_b1, ↓b1_ite, ↓b1_up_ite, ↓b1_jn, ↓jn1_ap, ↓ite1_ap, ↓b1_gI1, ↓b1_pI1, ↓b1_gR1, ↓b1_pR1, ↓b1_gM, rt1_ap, ↓reduceIte, iN_div, iN_divL, iN_add, iN_mul, iN_addL, iN_Ladd, iN_mulL, iN_Lmul, iN_subL, iN_sub, iN_le_T, iN_le_F, iN_lt_T, iN_lt_F, iN_eq_F, iN_leL_T, iN_leL_F, iN_Lle_T, iN_Lle_F, iN_ltL_T, iN_ltL_F, iN_Llt_T, iN_Llt_F, iN_eqL_T, iN_eqL_F, iN_m1, m1_iN, iN_le_m1, m1_le_iN, iN_neg, iN_pos, i10, i01, i00, i11, u3_op, u3_or, u3_same, pup_eq, pup_ne, nS_i, nS_r, nS_d, nS_ir, nS_rr, nS_i0, nS_r0, nφ_1, nφ_11, nφ_2, nφ_3, nφ_2r, nφ_3r, nφ_20, nφ_30, u2_op, u2_or, u2_eq, h9, ↓bd1_up sp_X1_isCorner, ip h1, ↓bd1_up sp_X1_in, jq h2, jq h3, jq h4, jp h5]
      exact Rs1.mk (by decide) (by decide) ⟨rfl, hR, hb⟩
    by_cases h6 : c.n = 12
    · rw [show houseS c a1 a2 a3 a4 a5 = (-1, c) by unfold houseS; rw [if_pos h1, if_neg h2, if_neg h3, if_neg h4, if_neg h5, if_pos h6]]
      simp (disch := first | omega | assumption) only [↓b1_rt, ↓b1_rt1, ↓b1_up_bd, ↓b1_b1, ↓b1_ite, ↓b1_up_ite, ↓b1_jn, ↓jn1_ap, ↓ite1_ap, ↓b1_gI1, ↓b1_pI1, ↓b1_gR1, ↓b1_pR1, ↓b1_gM, rt1_ap, ↓reduceIte, iN_div, iN_divL, iN_add, iN_mul, iN_addL, iN_Ladd, iN_mulL, iN_Lmul, iN_subL, iN_sub, iN_le_T, iN_le_F, iN_lt_T, iN_lt_F, iN_eq_F, iN_leL_T, iN_leL_F, iN_Lle_T, iN_Lle_F, iN_ltL_T, iN_ltL_F, iN_Llt_T, iN_Llt_F, iN_eqL_T, iN_eqL_F, iN_m1, m1_iN, iN_le_m1, m1_le_iN, iN_neg, iN_pos, i10, i01, i00, i11, u3_op, u3_or, u3_same, pup_eq, pup_ne, nS_i, nS_r, nS_d, nS_ir, nS_rr, nS_i0, nS_r0, nφ_1, nφ_11, nφ_2, nφ_3, nφ_2r, nφ_3r, nφ_20, nφ_30, u2_op, u2_or, u2_eq, h9, ↓bd1_up sp_X1_isCorner, ip h1, ↓bd1_up sp_X1_in, jq h2, jq h3, jq h4, jq h5]
      exact Rs1.mk (by decide) (by decide) ⟨rfl, hR, hb⟩
    obtain ⟨x, hx, rfl⟩ := h1.ex (by decide)
    obtain ⟨fl, rfl, f1, f2⟩ := not_out (lo := 1) (hi := 6) h3 (by decide) (by decide)
    obtain ⟨wd, rfl, w1, w2⟩ := not_out (lo := 1) (hi := 4) h4 (by decide) (by decide)
    rw [show houseS c (iN x) a2 (iN fl) (iN wd) a5 = (iN c.n, houseC c x a2 fl wd a5) by unfold houseS; rw [if_pos h1, if_neg h2, if_neg h3, if_neg h4, if_neg h5, if_neg h6, iN_nat (by omega), iN_nat (by omega), iN_nat (by omega)]]
    rw [b1_gM hφ, bd1_up sp_X1_isCorner, ip h1, if_neg (by decide), bd1_up sp_X1_in, jq h2, if_neg (by decide), bd1_up sp_X1_in, jq h3, if_neg (by decide), bd1_up sp_X1_in, jq h4, if_neg (by decide), bd1_up sp_X1_in, jq h5, if_neg (by decide), b1_gI1, h9, if_neg (by rw [show (12 : Int32) = iN 12 from rfl, iN_inj (by omega) (by decide)]; exact h6), b1_gI1, h9, b1_nw]
    refine Rs1.acm (K' := 18) (N' := 290) ?_ (by decide) (by decide)
    have c3 := hR.cnt.1
    rw [c3, b1_nn (by omega)]
    refine bd1R (K1 := 18) (N1 := 290) (K2 := 0) (N2 := 0) (sp_X5_init (cor := x) (fl := fl) (wd := wd) (kind := a2) (sh := a5) c3 hR.cnt.2.1 hR.cnt.2.2 (hR.cnb 4 (Or.inl rfl)) (fun q p1 p2 => hR.cnb q (Or.inr ⟨p1, p2⟩))) (fun _ φ1 S1 hN => ?_) (by decide) (by decide)
    have h91 : S1.1 0 1 6 = iN c.n := (hN.o1 0 1 6 h0).trans h9
    rw [b1_wR24_1 (by omega), b1_gI1]
    dsimp only
    rw [h91, b1_pI1, b1_gI1, rt1_ap]
    refine Rs1.mk (by decide) (by decide) ⟨?_, ?_, ?_⟩
    · show u3 S1.1 0 1 6 (iN c.n + 1) 0 1 6 - 1 = iN c.n
      simp only [u3_same, pup_eq]
      rw [show iN c.n + 1 = iN (c.n + 1) from iN_add, show iN (c.n + 1) - 1 = iN (c.n + 1 - 1) from iN_sub (a := c.n + 1) (b := 1) (by omega)]
      rfl
    · exact hR.new w hN (by show u3 S1.1 0 1 6 (iN c.n + 1) = _; rw [show iN c.n + 1 = iN (c.n + 1) from iN_add]) rfl h24 h0
    · exact RCbk.new wb hR hb hN (by show u3 S1.1 0 1 6 (iN c.n + 1) = _; rw [show iN c.n + 1 = iN (c.n + 1) from iN_add])
  · rw [show houseS c a1 a2 a3 a4 a5 = (-1, c) by unfold houseS; rw [if_neg h1]]
    simp (disch := first | omega | assumption) only [↓b1_rt, ↓b1_rt1, ↓b1_up_bd, ↓b1_b1, ↓b1_ite, ↓b1_up_ite, ↓b1_jn, ↓jn1_ap, ↓ite1_ap, ↓b1_gI1, ↓b1_pI1, ↓b1_gR1, ↓b1_pR1, ↓b1_gM, rt1_ap, ↓reduceIte, iN_div, iN_divL, iN_add, iN_mul, iN_addL, iN_Ladd, iN_mulL, iN_Lmul, iN_subL, iN_sub, iN_le_T, iN_le_F, iN_lt_T, iN_lt_F, iN_eq_F, iN_leL_T, iN_leL_F, iN_Lle_T, iN_Lle_F, iN_ltL_T, iN_ltL_F, iN_Llt_T, iN_Llt_F, iN_eqL_T, iN_eqL_F, iN_m1, m1_iN, iN_le_m1, m1_le_iN, iN_neg, iN_pos, i10, i01, i00, i11, u3_op, u3_or, u3_same, pup_eq, pup_ne, nS_i, nS_r, nS_d, nS_ir, nS_rr, nS_i0, nS_r0, nφ_1, nφ_11, nφ_2, nφ_3, nφ_2r, nφ_3r, nφ_20, nφ_30, u2_op, u2_or, u2_eq, h9, ↓bd1_up sp_X1_isCorner, iq h1]
    exact Rs1.mk (by decide) (by decide) ⟨rfl, hR, hb⟩
