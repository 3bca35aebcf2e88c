/-! PURE: a new crew, both -/
theorem op_X3_crew {cr : CCr} {nh : Nat} (w : cr.WF nh) {φ : amSh} {S : amSt} (hφ : φ.1 255 ≠ 0) (hC0 : RMcr cr S) {a1 a2 a3 a4 a5 : Int32} (hz : a3 = 0 ∨ a3 = 1) : Rs (fun v S' => v = (crewS cr a1 a2 a3 a4 a5).1 ∧ RMcr (crewS cr a1 a2 a3 a4 a5).2 S' ∧ (crewS cr a1 a2 a3 a4 a5).2.WF nh) (p_X3_crew a1 a2 a3 a4 a5 φ S) := by
  have hn := w.hn
  have hC := hC0.fr th0 (by decide)
  unfold p_X3_crew
  rw [bd_gM hφ, bd_pI1, bd_gI1, hC.n]
  generalize hS1 : ((u3 S.1 1 1 0 0, S.2) : amSt) = S1 at *
  by_cases h16 : cr.n = 16
  · rw [show crewS cr a1 a2 a3 a4 a5 = (-1, cr) by unfold crewS; repeat' split
                                                   all_goals simp_all]
    rw [if_pos (by rw [h16]; rfl), rt_ap]
    exact Rs.mk ⟨rfl, hC, w⟩
  rw [if_neg (by rw [show (16 : Int32) = iN 16 from rfl, iN_inj (by omega) (by decide)]; exact h16), bd_of sp_X3_isIn]
  by_cases h1 : out a1 0 3
  · rw [show crewS cr a1 a2 a3 a4 a5 = (-1, cr) by unfold crewS; rw [if_pos h1], jp h1, if_pos rfl, rt_ap]
    exact Rs.mk ⟨rfl, hC, w⟩
  rw [jq h1, if_neg (by decide), bd_of sp_X3_isCorner]
  by_cases h2 : inN a2 20
  · rw [ip h2, if_neg (by decide), bd_of sp_X3_isIn]
    by_cases h4 : out a4 50 150
    · rw [show crewS cr a1 a2 a3 a4 a5 = (-1, cr) by unfold crewS; rw [if_neg h1, if_pos h2, if_pos h4], jp h4, if_pos rfl, rt_ap]
      exact Rs.mk ⟨rfl, hC, w⟩
    rw [jq h4, if_neg (by decide), bd_of sp_X3_isIn]
    by_cases h5 : out a5 1 9
    · rw [show crewS cr a1 a2 a3 a4 a5 = (-1, cr) by unfold crewS; rw [if_neg h1, if_pos h2, if_neg h4, if_pos h5], jp h5, if_pos rfl, rt_ap]
      exact Rs.mk ⟨rfl, hC, w⟩
    rw [jq h5, if_neg (by decide)]
    obtain ⟨s, rfl, _, hs⟩ := not_out (lo := 0) (hi := 3) h1 (by decide) (by decide)
    obtain ⟨x, hx, rfl⟩ := h2.ex (by decide)
    obtain ⟨b, rfl, b1, b2⟩ := not_out (lo := 50) (hi := 150) h4 (by decide) (by decide)
    rw [show crewS cr (iN s) (iN x) a3 (iN b) a5 = (iN cr.n, newC cr s x a3 b a5) by unfold crewS; rw [if_neg h1, if_pos h2, if_neg h4, if_neg h5, if_neg h16, iN_nat (by omega), iN_nat (by omega), iN_nat (by omega)]]
    have hw := newC_WF w h16 (s := s) (home := x) (best := b) (hor := a3) (men := a5) (by omega) hx ⟨b1, b2⟩
    have hs4 : s = 0 ∨ s = 1 ∨ s = 2 ∨ s = 3 := by omega
    have fin : ∀ {gA gB gC : Int32}, gA = iN (if s < 2 then 100 else if s = 2 then 1 else 0) → gB = iN (if s < 2 then 10 else 0) → gC = iN (if s = 1 then 1 else 0) →
        RMcr (newC cr s x a3 b a5) (u3 (u3 (u3 (u3 (u3 (u3 (u3 (u3 (u3 (u3 (u3 (u3 (u3 (u3 S1.1 87 1 cr.n (iN s)) 88 1 cr.n (iN x)) 106 1 cr.n a3) 89 1 cr.n (iN b)) 90 1 cr.n a5) 91 1 cr.n gA) 92 1 cr.n gB) 93 1 cr.n gC) 95 1 cr.n (iN x)) 96 1 cr.n (-1)) 97 1 cr.n (-1)) 98 1 cr.n (-1)) 99 1 cr.n (-1)) 1 1 58 (iN (cr.n + 1)), S1.2) := by
      intro gA gB gC eA eB eC
      refine RMcr.new w hC (by omega) ?_ ?_ ?_ ?_ ?_ ?_ ?_ ?_ ?_ ?_ ?_ ?_ ?_ ?_ ?_ ?_ ?_
      · simp [u3]
      · intro q k q1 q2 hk; simp [u3, hk]; intro hh; omega
      · simp [u3]
      · simp [u3]
      · simp [u3]
      · simp [u3]
      · simp [u3]
      · simp [u3, eA]
      · simp [u3, eB]
      · simp [u3, eC]
      · refine Eq.trans ?_ (hC.st0 cr.n (Nat.le_refl _) (by omega)); simp [u3]
      · simp [u3]
      · simp [u3]
      · simp [u3]
      · simp [u3]
      · simp [u3]
      · intro q hq; rcases hq with rfl | rfl | rfl <;> simp [u3]
    rcases hs4 with rfl | rfl | rfl | rfl
    · simp (disch := first | omega | assumption) only [↓bd_rt, ↓bd_bd, ↓bd_ite, ↓bd_jn, ↓jn_ap, ↓ite_ap, ↓bd_gI1, ↓bd_pI1, ↓bd_gR1, ↓bd_pR1, ↓bd_gM, rt_ap, ↓reduceIte, iN_div, iN_divL, iN_add, iN_mul, iN_addL, iN_Ladd, iN_mulL, iN_Lmul, iN_subL, iN_sub, iN_le_T, iN_le_F, iN_lt_T, iN_lt_F, iN_eq_F, iN_leL_T, iN_leL_F, iN_Lle_T, iN_Lle_F, iN_ltL_T, iN_ltL_F, iN_Llt_T, iN_Llt_F, iN_eqL_T, iN_eqL_F, iN_m1, m1_iN, iN_le_m1, m1_le_iN, iN_neg, iN_pos, i10, i01, i00, i11, u3_op, u3_or, u3_same, pup_eq, pup_ne, hC.n, ↓wI87_1, ↓wI88_1, ↓wI106_1, ↓wI89_1, ↓wI90_1, ↓wI91_1, ↓wI92_1, ↓wI93_1, ↓wI95_1, ↓wI96_1, ↓wI97_1, ↓wI98_1, ↓wI99_1, ↓bd_gd hz]
      exact Rs.mk ⟨rfl, fin rfl rfl rfl, hw⟩
    · simp (disch := first | omega | assumption) only [↓bd_rt, ↓bd_bd, ↓bd_ite, ↓bd_jn, ↓jn_ap, ↓ite_ap, ↓bd_gI1, ↓bd_pI1, ↓bd_gR1, ↓bd_pR1, ↓bd_gM, rt_ap, ↓reduceIte, iN_div, iN_divL, iN_add, iN_mul, iN_addL, iN_Ladd, iN_mulL, iN_Lmul, iN_subL, iN_sub, iN_le_T, iN_le_F, iN_lt_T, iN_lt_F, iN_eq_F, iN_leL_T, iN_leL_F, iN_Lle_T, iN_Lle_F, iN_ltL_T, iN_ltL_F, iN_Llt_T, iN_Llt_F, iN_eqL_T, iN_eqL_F, iN_m1, m1_iN, iN_le_m1, m1_le_iN, iN_neg, iN_pos, i10, i01, i00, i11, u3_op, u3_or, u3_same, pup_eq, pup_ne, hC.n, ↓wI87_1, ↓wI88_1, ↓wI106_1, ↓wI89_1, ↓wI90_1, ↓wI91_1, ↓wI92_1, ↓wI93_1, ↓wI95_1, ↓wI96_1, ↓wI97_1, ↓wI98_1, ↓wI99_1, ↓bd_gd hz]
      exact Rs.mk ⟨rfl, fin rfl rfl rfl, hw⟩
    · simp (disch := first | omega | assumption) only [↓bd_rt, ↓bd_bd, ↓bd_ite, ↓bd_jn, ↓jn_ap, ↓ite_ap, ↓bd_gI1, ↓bd_pI1, ↓bd_gR1, ↓bd_pR1, ↓bd_gM, rt_ap, ↓reduceIte, iN_div, iN_divL, iN_add, iN_mul, iN_addL, iN_Ladd, iN_mulL, iN_Lmul, iN_subL, iN_sub, iN_le_T, iN_le_F, iN_lt_T, iN_lt_F, iN_eq_F, iN_leL_T, iN_leL_F, iN_Lle_T, iN_Lle_F, iN_ltL_T, iN_ltL_F, iN_Llt_T, iN_Llt_F, iN_eqL_T, iN_eqL_F, iN_m1, m1_iN, iN_le_m1, m1_le_iN, iN_neg, iN_pos, i10, i01, i00, i11, u3_op, u3_or, u3_same, pup_eq, pup_ne, hC.n, ↓wI87_1, ↓wI88_1, ↓wI106_1, ↓wI89_1, ↓wI90_1, ↓wI91_1, ↓wI92_1, ↓wI93_1, ↓wI95_1, ↓wI96_1, ↓wI97_1, ↓wI98_1, ↓wI99_1, ↓bd_gd hz]
      exact Rs.mk ⟨rfl, fin rfl rfl rfl, hw⟩
    · simp (disch := first | omega | assumption) only [↓bd_rt, ↓bd_bd, ↓bd_ite, ↓bd_jn, ↓jn_ap, ↓ite_ap, ↓bd_gI1, ↓bd_pI1, ↓bd_gR1, ↓bd_pR1, ↓bd_gM, rt_ap, ↓reduceIte, iN_div, iN_divL, iN_add, iN_mul, iN_addL, iN_Ladd, iN_mulL, iN_Lmul, iN_subL, iN_sub, iN_le_T, iN_le_F, iN_lt_T, iN_lt_F, iN_eq_F, iN_leL_T, iN_leL_F, iN_Lle_T, iN_Lle_F, iN_ltL_T, iN_ltL_F, iN_Llt_T, iN_Llt_F, iN_eqL_T, iN_eqL_F, iN_m1, m1_iN, iN_le_m1, m1_le_iN, iN_neg, iN_pos, i10, i01, i00, i11, u3_op, u3_or, u3_same, pup_eq, pup_ne, hC.n, ↓wI87_1, ↓wI88_1, ↓wI106_1, ↓wI89_1, ↓wI90_1, ↓wI91_1, ↓wI92_1, ↓wI93_1, ↓wI95_1, ↓wI96_1, ↓wI97_1, ↓wI98_1, ↓wI99_1, ↓bd_gd hz]
      exact Rs.mk ⟨rfl, fin rfl rfl rfl, hw⟩
  · rw [show crewS cr a1 a2 a3 a4 a5 = (-1, cr) by unfold crewS; rw [if_neg h1, if_neg h2], iq h2, if_pos rfl, rt_ap]
    exact Rs.mk ⟨rfl, hC, w⟩
theorem RCcr.new {cr : CCr} {φ : amSh} {S : amSt} (hR : RCcr cr φ S) {s home best : Nat} {hor men : Int32} {φ' : amSh} {S' : amSt}
    (en : S'.1 0 1 13 = iN (cr.n + 1)) (eo : S'.2.2 28 1 cr.n = cr.n + 1) (eo2 : ∀ k, k < cr.n → S'.2.2 28 1 k = S.2.2 28 1 k)
    (e : ∀ k j, k < cr.n → S'.1 6 (k + 1) j = S.1 6 (k + 1) j) (e2 : ∀ k, k < cr.n → S'.2.2 6 (k + 1) 15 = S.2.2 6 (k + 1) 15)
    (ec : ∀ k, k < cr.n → φ'.2.2 6 (k + 1) = φ.2.2 6 (k + 1)) (ecn : φ'.2.2 6 (cr.n + 1) = 6 + s) (cnt : φ'.1 6 = cr.n + 1)
    (f0 : S'.1 6 (cr.n + 1) 0 = iN cr.n) (f1 : S'.1 6 (cr.n + 1) 1 = iN home) (f2 : S'.1 6 (cr.n + 1) 2 = iN best) (f3 : S'.1 6 (cr.n + 1) 3 = men) (f4 : S'.1 6 (cr.n + 1) 4 = hor) (f5 : S'.1 6 (cr.n + 1) 5 = 0)
    (f6 : S'.1 6 (cr.n + 1) 6 = iN home) (f7 : S'.1 6 (cr.n + 1) 7 = -1) (f8 : S'.1 6 (cr.n + 1) 8 = -1) (f9 : S'.1 6 (cr.n + 1) 9 = -1) (f10 : S'.1 6 (cr.n + 1) 10 = iN (cr.tir cr.n)) (f11 : S'.1 6 (cr.n + 1) 11 = cr.got cr.n) (f12 : S'.1 6 (cr.n + 1) 12 = cr.beg cr.n)
    (f15 : S'.2.2 6 (cr.n + 1) 15 = 0) (f16 : s < 3 → S'.1 6 (cr.n + 1) 16 = iN (if s < 2 then 100 else if s = 2 then 1 else 0)) (f17 : s < 2 → S'.1 6 (cr.n + 1) 17 = iN (if s < 2 then 10 else 0)) (f18 : s = 1 → S'.1 6 (cr.n + 1) 18 = iN (if s = 1 then 1 else 0)) :
    RCcr (newC cr s home hor best men) φ' S' := by
  have lt : ∀ {k : Nat}, k < (newC cr s home hor best men).n → k ≠ cr.n → k < cr.n := fun {k} hk hne => by have : k < cr.n + 1 := hk; omega
  refine RCcr.mk en ?_ ?_ ?_ ?_ ?_ ?_ ?_ ?_ ?_ ?_ ?_ ?_ ?_ ?_ ?_ ?_ ?_ ?_ ?_ cnt
  · intro k hk; by_cases z : k = cr.n
    · subst z; exact eo
    · rw [eo2 k (lt hk z)]; exact hR.obj k (lt hk z)
  · intro k hk; by_cases z : k = cr.n
    · subst z; exact f0
    · rw [e k _ (lt hk z)]; exact hR.num k (lt hk z)
  · intro k hk; show _ = iN (pup cr.home cr.n home k); by_cases z : k = cr.n
    · subst z; rw [pup_eq]; exact f1
    · rw [pup_ne z, e k _ (lt hk z)]; exact hR.home k (lt hk z)
  · intro k hk; show _ = iN (pup cr.best cr.n best k); by_cases z : k = cr.n
    · subst z; rw [pup_eq]; exact f2
    · rw [pup_ne z, e k _ (lt hk z)]; exact hR.best k (lt hk z)
  · intro k hk; show _ = pup cr.men cr.n men k; by_cases z : k = cr.n
    · subst z; rw [pup_eq]; exact f3
    · rw [pup_ne z, e k _ (lt hk z)]; exact hR.men k (lt hk z)
  · intro k hk; show _ = pup cr.hor cr.n hor k; by_cases z : k = cr.n
    · subst z; rw [pup_eq]; exact f4
    · rw [pup_ne z, e k _ (lt hk z)]; exact hR.hor k (lt hk z)
  · intro k hk; show _ = pup cr.st cr.n 0 k; by_cases z : k = cr.n
    · subst z; rw [pup_eq]; exact f5
    · rw [pup_ne z, e k _ (lt hk z)]; exact hR.st k (lt hk z)
  · intro k hk; show _ = iN (pup cr.post cr.n home k); by_cases z : k = cr.n
    · subst z; rw [pup_eq]; exact f6
    · rw [pup_ne z, e k _ (lt hk z)]; exact hR.post k (lt hk z)
  · intro k hk; show _ = pup cr.till cr.n (-1) k; by_cases z : k = cr.n
    · subst z; rw [pup_eq]; exact f7
    · rw [pup_ne z, e k _ (lt hk z)]; exact hR.till k (lt hk z)
  · intro k hk; show _ = pup cr.sent cr.n (-1) k; by_cases z : k = cr.n
    · subst z; rw [pup_eq]; exact f8
    · rw [pup_ne z, e k _ (lt hk z)]; exact hR.sent k (lt hk z)
  · intro k hk; show _ = pup cr.flr cr.n (-1) k; by_cases z : k = cr.n
    · subst z; rw [pup_eq]; exact f9
    · rw [pup_ne z, e k _ (lt hk z)]; exact hR.flr k (lt hk z)
  · intro k hk; by_cases z : k = cr.n
    · subst z; exact f10
    · rw [e k _ (lt hk z)]; exact hR.tir k (lt hk z)
  · intro k hk; by_cases z : k = cr.n
    · subst z; exact f11
    · rw [e k _ (lt hk z)]; exact hR.got k (lt hk z)
  · intro k hk; by_cases z : k = cr.n
    · subst z; exact f12
    · rw [e k _ (lt hk z)]; exact hR.beg k (lt hk z)
  · intro k hk; show _ = pup cr.wk cr.n 0 k; by_cases z : k = cr.n
    · subst z; rw [pup_eq]; exact f15
    · rw [pup_ne z, e2 k (lt hk z)]; exact hR.wk k (lt hk z)
  · intro k hk h2; show _ = iN (pup cr.gA cr.n _ k); by_cases z : k = cr.n
    · subst z; rw [pup_eq]; exact f16 (by have h3 : pup cr.sort cr.n s cr.n < 3 := h2; rw [pup_eq] at h3; exact h3)
    · have h3 : pup cr.sort cr.n s k < 3 := h2
      rw [pup_ne z] at h3
      rw [pup_ne z, e k _ (lt hk z)]; exact hR.gA k (lt hk z) h3
  · intro k hk h2; show _ = iN (pup cr.gB cr.n _ k); by_cases z : k = cr.n
    · subst z; rw [pup_eq]; exact f17 (by have h3 : pup cr.sort cr.n s cr.n < 2 := h2; rw [pup_eq] at h3; exact h3)
    · have h3 : pup cr.sort cr.n s k < 2 := h2
      rw [pup_ne z] at h3
      rw [pup_ne z, e k _ (lt hk z)]; exact hR.gB k (lt hk z) h3
  · intro k hk h2; show _ = iN (pup cr.gC cr.n _ k); by_cases z : k = cr.n
    · subst z; rw [pup_eq]; exact f18 (by have h3 : pup cr.sort cr.n s cr.n = 1 := h2; rw [pup_eq] at h3; exact h3)
    · have h3 : pup cr.sort cr.n s k = 1 := h2
      rw [pup_ne z] at h3
      rw [pup_ne z, e k _ (lt hk z)]; exact hR.gC k (lt hk z) h3
  · intro k hk; show _ = 6 + pup cr.sort cr.n s k; by_cases z : k = cr.n
    · subst z; rw [pup_eq]; exact ecn
    · rw [pup_ne z, ec k (lt hk z)]; exact hR.cls k (lt hk z)
