/-! PURE: a new street -/
def addD (c : CSt) (a1 a2 l : Nat) : Nat → Nat → Nat := fun a b => if a < 20 ∧ b < 20 then viaN c a1 a2 l a b else 0
def streetS (c : CSt) (a1 a2 a3 : Int32) : Int32 × CSt :=
  if inN a1 20 then if inN a2 20 then if a1 = a2 then (-1, c) else if out a3 1 20 then (-1, c) else if c.n = 40 then (-1, c) else
    (iN c.n, c.add a1.toNatClampNeg a2.toNatClampNeg a3.toNatClampNeg (addD c a1.toNatClampNeg a2.toNatClampNeg a3.toNatClampNeg)) else (-1, c) else (-1, c)
theorem via_eq {c : CSt} (h : c.WF) {a1 a2 l : Nat} (h1 : a1 < 20) (h2 : a2 < 20) {D : Nat → Nat → Nat} (hs : Snd c a1 a2 l D) (hD : ∀ a b, a < 20 → b < 20 → D a b ≤ viaN c a1 a2 l a b) {a b : Nat} (ha : a < 20) (hb : b < 20) : D a b = viaN c a1 a2 l a b := by
  have e := hD a b ha hb
  rcases (hs a b ha hb).2 with e2 | p
  · have : viaN c a1 a2 l a b ≤ 1000000 := by have := h.dle a b; unfold viaN; omega
    omega
  · have := viaN_le h (D := D) h1 h2 ha (p D)
    omega
def Mat (S : amSt) (D : Nat → Nat → Nat) : Prop := ∀ a b, a < 20 → b < 20 → S.1 59 1 (20 * a + b) = iN (D a b)
def Good (k : Nat) (E D : Nat → Nat → Nat) (a b : Nat) : Prop := (∀ x y, x < 20 → y < 20 → D x y ≤ E x y) ∧ ∀ x y, x < 20 → y < 20 → (x < a ∨ (x = a ∧ y < b)) → D x y ≤ E x k + E k y
def setD (D : Nat → Nat → Nat) (a b v : Nat) : Nat → Nat → Nat := fun x y => if x = a ∧ y = b then v else D x y
theorem setD_eq {D : Nat → Nat → Nat} {a b v : Nat} : setD D a b v a b = v := by simp [setD]
theorem setD_ne {D : Nat → Nat → Nat} {a b v x y : Nat} (h : ¬ (x = a ∧ y = b)) : setD D a b v x y = D x y := by simp [setD, h]
theorem Mat.set {S : amSt} {D : Nat → Nat → Nat} (h : Mat S D) {a b v : Nat} (hb : b < 20) : Mat (u3 S.1 59 1 (20 * a + b) (iN v), S.2) (setD D a b v) := by
  intro x y hx hy
  show u3 S.1 59 1 (20 * a + b) (iN v) 59 1 (20 * x + y) = _
  rw [u3_same]
  by_cases e : x = a ∧ y = b
  · obtain ⟨rfl, rfl⟩ := e
    rw [pup_eq, setD_eq]
  · rw [pup_ne (by omega), setD_ne e]
    exact h x y hx hy
theorem Good.step {c : CSt} {a1 a2 l k a b : Nat} {E D : Nat → Nat → Nat} (hs : Snd c a1 a2 l D) (h : Good k E D a b) (hk : k < 20) (ha : a < 20) (hb : b < 20) :
    Snd c a1 a2 l (setD D a b (min (D a b) (D a k + D k b))) ∧ Good k E (setD D a b (min (D a b) (D a k + D k b))) a (b + 1) := by
  have ab := hs a b ha hb
  have ak := hs a k ha hk
  have kb := hs k b hk hb
  refine ⟨fun x y hx hy => ?_, fun x y hx hy => ?_, fun x y hx hy ho => ?_⟩
  · by_cases e : x = a ∧ y = b
    · obtain ⟨rfl, rfl⟩ := e
      rw [setD_eq]
      refine ⟨by omega, ?_⟩
      by_cases hm : D x y ≤ D x k + D k y
      · rw [Nat.min_eq_left hm]; exact ab.2
      · rw [Nat.min_eq_right (by omega)]
        rcases ak.2 with e1 | p1
        · omega
        · rcases kb.2 with e2 | p2
          · omega
          · exact Or.inr fun D' => (p1 D').app (p2 D')
    · rw [setD_ne e]; exact hs x y hx hy
  · have := h.1 x y hx hy
    by_cases e : x = a ∧ y = b
    · obtain ⟨rfl, rfl⟩ := e; rw [setD_eq]; omega
    · rw [setD_ne e]; exact this
  · by_cases e : x = a ∧ y = b
    · obtain ⟨rfl, rfl⟩ := e
      rw [setD_eq]
      have q1 := h.1 x k hx hk
      have q2 := h.1 k y hk hy
      omega
    · rw [setD_ne e]
      exact h.2 x y hx hy (by omega)
theorem sp_X3_L187 {c : CSt} {a1 a2 l k a : Nat} {E D : Nat → Nat → Nat} {φ : amSh} {S : amSt} (hM : Mat S D) (hs : Snd c a1 a2 l D) (hg : Good k E D a 0) (hk : k < 20) (ha : a < 20) :
    Rs (fun _ S' => ∃ D', Mat S' D' ∧ Snd c a1 a2 l D' ∧ Good k E D' (a + 1) 0) (alp (p_X3_street_L187 (iN k) (iN a)) amFu 0 φ S) := by
  refine alp_I (fun b x S => x = iN b ∧ ∃ D', Mat S D' ∧ Snd c a1 a2 l D' ∧ Good k E D' a b) 20 (amFu_lt (by decide)) ⟨rfl, D, hM, hs, hg⟩ ?_ ?_
  · rintro b x S hb ⟨rfl, D, hM, hs, hg⟩ rec
    have hst := hg.step hs hk ha hb
    have ab := (hs a b ha hb).1
    have ak := (hs a k ha hk).1
    have kb := (hs k b hk hb).1
    have e1 := hM a b ha hb
    have e2 := hM a k ha hk
    have e3 := hM k b hk hb
    unfold p_X3_street_L187
    have hset := hM.set (a := a) (v := min (D a b) (D a k + D k b)) hb
    by_cases hlt : D a k + D k b < D a b
    · rw [Nat.min_eq_right (by omega)] at hset hst
      simp (disch := first | omega | assumption) only [↓bd_rt, ↓bd_bd, ↓bd_ite, ↓bd_jn, ↓jn_ap, ↓ite_ap, ↓bd_gI1, ↓bd_pI1, ↓bd_gR1, ↓bd_pR1, ↓bd_gM, rt_ap, ↓reduceIte, iN_div, iN_divL, iN_add, iN_mul, iN_addL, iN_Ladd, iN_mulL, iN_Lmul, iN_subL, iN_sub, iN_le_T, iN_le_F, iN_lt_T, iN_lt_F, iN_eq_F, iN_leL_T, iN_leL_F, iN_Lle_T, iN_Lle_F, iN_ltL_T, iN_ltL_F, iN_Llt_T, iN_Llt_F, iN_eqL_T, iN_eqL_F, iN_m1, m1_iN, iN_le_m1, m1_le_iN, iN_neg, iN_pos, i10, i01, i00, i11, u3_op, u3_or, u3_same, pup_eq, pup_ne, ↓rI59_1, ↓wI59_1, e1, e2, e3, if_true]
      exact Lz.go ⟨rfl, _, hset, hst.1, hst.2⟩
    · rw [Nat.min_eq_left (by omega)] at hset hst
      simp (disch := first | omega | assumption) only [↓bd_rt, ↓bd_bd, ↓bd_ite, ↓bd_jn, ↓jn_ap, ↓ite_ap, ↓bd_gI1, ↓bd_pI1, ↓bd_gR1, ↓bd_pR1, ↓bd_gM, rt_ap, ↓reduceIte, iN_div, iN_divL, iN_add, iN_mul, iN_addL, iN_Ladd, iN_mulL, iN_Lmul, iN_subL, iN_sub, iN_le_T, iN_le_F, iN_lt_T, iN_lt_F, iN_eq_F, iN_leL_T, iN_leL_F, iN_Lle_T, iN_Lle_F, iN_ltL_T, iN_ltL_F, iN_Llt_T, iN_Llt_F, iN_eqL_T, iN_eqL_F, iN_m1, m1_iN, iN_le_m1, m1_le_iN, iN_neg, iN_pos, i10, i01, i00, i11, u3_op, u3_or, u3_same, pup_eq, pup_ne, ↓rI59_1, ↓wI59_1, e1, e2, e3, if_false]
      exact Lz.go ⟨rfl, _, hset, hst.1, hst.2⟩
  · rintro x S ⟨rfl, D, hM, hs, hg⟩ rec
    unfold p_X3_street_L187
    simp (disch := first | omega | assumption) only [↓bd_rt, ↓bd_bd, ↓bd_ite, ↓bd_jn, ↓jn_ap, ↓ite_ap, ↓bd_gI1, ↓bd_pI1, ↓bd_gR1, ↓bd_pR1, ↓bd_gM, rt_ap, ↓reduceIte, iN_div, iN_divL, iN_add, iN_mul, iN_addL, iN_Ladd, iN_mulL, iN_Lmul, iN_subL, iN_sub, iN_le_T, iN_le_F, iN_lt_T, iN_lt_F, iN_eq_F, iN_leL_T, iN_leL_F, iN_Lle_T, iN_Lle_F, iN_ltL_T, iN_ltL_F, iN_Llt_T, iN_Llt_F, iN_eqL_T, iN_eqL_F, iN_m1, m1_iN, iN_le_m1, m1_le_iN, iN_neg, iN_pos, i10, i01, i00, i11, u3_op, u3_or, u3_same, pup_eq, pup_ne]
    exact Rs.mk ⟨D, hM, hs, hg.1, fun x y hx hy ho => hg.2 x y hx hy (by omega)⟩
theorem sp_X3_L177 {c : CSt} {a1 a2 l k : Nat} {E : Nat → Nat → Nat} {φ : amSh} {S : amSt} (hM : Mat S E) (hs : Snd c a1 a2 l E) (hk : k < 20) :
    Rs (fun _ S' => ∃ D', Mat S' D' ∧ Snd c a1 a2 l D' ∧ Good k E D' 20 0) (alp (p_X3_street_L177 (iN k)) amFu 0 φ S) := by
  refine alp_I (fun a x S => x = iN a ∧ ∃ D', Mat S D' ∧ Snd c a1 a2 l D' ∧ Good k E D' a 0) 20 (amFu_lt (by decide)) ⟨rfl, E, hM, hs, fun _ _ _ _ => Nat.le_refl _, fun x y hx hy ho => by omega⟩ ?_ ?_
  · rintro a x S ha ⟨rfl, D, hM, hs, hg⟩ rec
    unfold p_X3_street_L177
    simp (disch := first | omega | assumption) only [↓bd_rt, ↓bd_bd, ↓bd_ite, ↓bd_jn, ↓jn_ap, ↓ite_ap, ↓bd_gI1, ↓bd_pI1, ↓bd_gR1, ↓bd_pR1, ↓bd_gM, rt_ap, ↓reduceIte, iN_div, iN_divL, iN_add, iN_mul, iN_addL, iN_Ladd, iN_mulL, iN_Lmul, iN_subL, iN_sub, iN_le_T, iN_le_F, iN_lt_T, iN_lt_F, iN_eq_F, iN_leL_T, iN_leL_F, iN_Lle_T, iN_Lle_F, iN_ltL_T, iN_ltL_F, iN_Llt_T, iN_Llt_F, iN_eqL_T, iN_eqL_F, iN_m1, m1_iN, iN_le_m1, m1_le_iN, iN_neg, iN_pos, i10, i01, i00, i11, u3_op, u3_or, u3_same, pup_eq, pup_ne]
    refine bdR (sp_X3_L187 hM hs hg hk ha) fun _ S1 h1 => ?_
    exact Lz.go ⟨rfl, h1⟩
  · rintro x S ⟨rfl, D, hM, hs, hg⟩ rec
    unfold p_X3_street_L177
    simp (disch := first | omega | assumption) only [↓bd_rt, ↓bd_bd, ↓bd_ite, ↓bd_jn, ↓jn_ap, ↓ite_ap, ↓bd_gI1, ↓bd_pI1, ↓bd_gR1, ↓bd_pR1, ↓bd_gM, rt_ap, ↓reduceIte, iN_div, iN_divL, iN_add, iN_mul, iN_addL, iN_Ladd, iN_mulL, iN_Lmul, iN_subL, iN_sub, iN_le_T, iN_le_F, iN_lt_T, iN_lt_F, iN_eq_F, iN_leL_T, iN_leL_F, iN_Lle_T, iN_Lle_F, iN_ltL_T, iN_ltL_F, iN_Llt_T, iN_Llt_F, iN_eqL_T, iN_eqL_F, iN_m1, m1_iN, iN_le_m1, m1_le_iN, iN_neg, iN_pos, i10, i01, i00, i11, u3_op, u3_or, u3_same, pup_eq, pup_ne]
    exact Rs.mk ⟨D, hM, hs, hg⟩
theorem sp_X3_L167 {c : CSt} {a1 a2 l : Nat} {E : Nat → Nat → Nat} {φ : amSh} {S : amSt} (hM : Mat S E) (hs : Snd c a1 a2 l E) :
    Rs (fun _ S' => ∃ D : Nat → Nat → Nat → Nat, D 0 = E ∧ Mat S' (D 20) ∧ Snd c a1 a2 l (D 20) ∧ ∀ k a b, k < 20 → a < 20 → b < 20 → D (k + 1) a b ≤ D k a b ∧ D (k + 1) a b ≤ D k a k + D k k b) (alp p_X3_street_L167 amFu 0 φ S) := by
  refine alp_I (fun j x S => x = iN j ∧ ∃ D : Nat → Nat → Nat → Nat, D 0 = E ∧ Mat S (D j) ∧ Snd c a1 a2 l (D j) ∧ ∀ k a b, k < j → a < 20 → b < 20 → D (k + 1) a b ≤ D k a b ∧ D (k + 1) a b ≤ D k a k + D k k b) 20 (amFu_lt (by decide)) ⟨rfl, fun _ => E, rfl, hM, hs, fun k a b hk => by omega⟩ ?_ ?_
  · rintro j x S hj ⟨rfl, D, hD0, hM, hs, hD⟩ rec
    unfold p_X3_street_L167
    simp (disch := first | omega | assumption) only [↓bd_rt, ↓bd_bd, ↓bd_ite, ↓bd_jn, ↓jn_ap, ↓ite_ap, ↓bd_gI1, ↓bd_pI1, ↓bd_gR1, ↓bd_pR1, ↓bd_gM, rt_ap, ↓reduceIte, iN_div, iN_divL, iN_add, iN_mul, iN_addL, iN_Ladd, iN_mulL, iN_Lmul, iN_subL, iN_sub, iN_le_T, iN_le_F, iN_lt_T, iN_lt_F, iN_eq_F, iN_leL_T, iN_leL_F, iN_Lle_T, iN_Lle_F, iN_ltL_T, iN_ltL_F, iN_Llt_T, iN_Llt_F, iN_eqL_T, iN_eqL_F, iN_m1, m1_iN, iN_le_m1, m1_le_iN, iN_neg, iN_pos, i10, i01, i00, i11, u3_op, u3_or, u3_same, pup_eq, pup_ne]
    refine bdR (sp_X3_L177 hM hs hj) fun _ S1 h1 => ?_
    obtain ⟨D', hM', hs', hg⟩ := h1
    refine Lz.go ⟨rfl, pup D (j + 1) D', by rw [pup_ne (by omega)]; exact hD0, by rw [pup_eq]; exact hM', by rw [pup_eq]; exact hs', fun k a b hk ha hb => ?_⟩
    by_cases e : k = j
    · subst e
      rw [pup_eq, pup_ne (by omega)]
      exact ⟨hg.1 a b ha hb, hg.2 a b ha hb (by omega)⟩
    · rw [pup_ne (by omega), pup_ne (by omega)]
      exact hD k a b (by omega) ha hb
  · rintro x S ⟨rfl, hJ⟩ rec
    unfold p_X3_street_L167
    simp (disch := first | omega | assumption) only [↓bd_rt, ↓bd_bd, ↓bd_ite, ↓bd_jn, ↓jn_ap, ↓ite_ap, ↓bd_gI1, ↓bd_pI1, ↓bd_gR1, ↓bd_pR1, ↓bd_gM, rt_ap, ↓reduceIte, iN_div, iN_divL, iN_add, iN_mul, iN_addL, iN_Ladd, iN_mulL, iN_Lmul, iN_subL, iN_sub, iN_le_T, iN_le_F, iN_lt_T, iN_lt_F, iN_eq_F, iN_leL_T, iN_leL_F, iN_Lle_T, iN_Lle_F, iN_ltL_T, iN_ltL_F, iN_Llt_T, iN_Llt_F, iN_eqL_T, iN_eqL_F, iN_m1, m1_iN, iN_le_m1, m1_le_iN, iN_neg, iN_pos, i10, i01, i00, i11, u3_op, u3_or, u3_same, pup_eq, pup_ne]
    exact Rs.mk hJ
theorem sp_X3_L78 {n : Nat} (hn : n < 40) {φ : amSh} {S : amSt} (h9 : S.1 1 1 9 = iN n) :
    Rs (fun _ S' => ∀ k, S'.1 58 1 k = if 4 * n ≤ k ∧ k < 4 * n + 4 then 100 else S.1 58 1 k) (alp p_X3_street_L78 amFu 0 φ S) := by
  refine alp_I (fun p x S' => x = iN p ∧ S'.1 1 1 9 = iN n ∧ ∀ k, S'.1 58 1 k = if 4 * n ≤ k ∧ k < 4 * n + p then 100 else S.1 58 1 k) 4 (amFu_lt (by decide)) ⟨rfl, h9, fun k => by rw [if_neg (by omega)]⟩ ?_ ?_
  · rintro p x S1 hp ⟨rfl, h9, h1⟩ rec
    unfold p_X3_street_L78
    simp (disch := first | omega | assumption) only [↓bd_rt, ↓bd_bd, ↓bd_ite, ↓bd_jn, ↓jn_ap, ↓ite_ap, ↓bd_gI1, ↓bd_pI1, ↓bd_gR1, ↓bd_pR1, ↓bd_gM, rt_ap, ↓reduceIte, iN_div, iN_divL, iN_add, iN_mul, iN_addL, iN_Ladd, iN_mulL, iN_Lmul, iN_subL, iN_sub, iN_le_T, iN_le_F, iN_lt_T, iN_lt_F, iN_eq_F, iN_leL_T, iN_leL_F, iN_Lle_T, iN_Lle_F, iN_ltL_T, iN_ltL_F, iN_Llt_T, iN_Llt_F, iN_eqL_T, iN_eqL_F, iN_m1, m1_iN, iN_le_m1, m1_le_iN, iN_neg, iN_pos, i10, i01, i00, i11, u3_op, u3_or, u3_same, pup_eq, pup_ne, h9, ↓wI58_1]
    refine Lz.go ⟨rfl, ?_, fun k => ?_⟩
    · simp (disch := first | omega | assumption) only [↓bd_rt, ↓bd_bd, ↓bd_ite, ↓bd_jn, ↓jn_ap, ↓ite_ap, ↓bd_gI1, ↓bd_pI1, ↓bd_gR1, ↓bd_pR1, ↓bd_gM, rt_ap, ↓reduceIte, iN_div, iN_divL, iN_add, iN_mul, iN_addL, iN_Ladd, iN_mulL, iN_Lmul, iN_subL, iN_sub, iN_le_T, iN_le_F, iN_lt_T, iN_lt_F, iN_eq_F, iN_leL_T, iN_leL_F, iN_Lle_T, iN_Lle_F, iN_ltL_T, iN_ltL_F, iN_Llt_T, iN_Llt_F, iN_eqL_T, iN_eqL_F, iN_m1, m1_iN, iN_le_m1, m1_le_iN, iN_neg, iN_pos, i10, i01, i00, i11, u3_op, u3_or, u3_same, pup_eq, pup_ne, h9]
    · simp (disch := first | omega | assumption) only [↓bd_rt, ↓bd_bd, ↓bd_ite, ↓bd_jn, ↓jn_ap, ↓ite_ap, ↓bd_gI1, ↓bd_pI1, ↓bd_gR1, ↓bd_pR1, ↓bd_gM, rt_ap, ↓reduceIte, iN_div, iN_divL, iN_add, iN_mul, iN_addL, iN_Ladd, iN_mulL, iN_Lmul, iN_subL, iN_sub, iN_le_T, iN_le_F, iN_lt_T, iN_lt_F, iN_eq_F, iN_leL_T, iN_leL_F, iN_Lle_T, iN_Lle_F, iN_ltL_T, iN_ltL_F, iN_Llt_T, iN_Llt_F, iN_eqL_T, iN_eqL_F, iN_m1, m1_iN, iN_le_m1, m1_le_iN, iN_neg, iN_pos, i10, i01, i00, i11, u3_op, u3_or, u3_same, pup_eq, pup_ne]
      by_cases e : k = 4 * n + p
      · subst e; rw [pup_eq, if_pos (by omega)]
      · rw [pup_ne e, h1 k]
        by_cases e2 : 4 * n ≤ k ∧ k < 4 * n + p
        · rw [if_pos e2, if_pos (by omega)]
        · rw [if_neg e2, if_neg (by omega)]
  · rintro x S1 ⟨rfl, h9, h1⟩ rec
    unfold p_X3_street_L78
    simp (disch := first | omega | assumption) only [↓bd_rt, ↓bd_bd, ↓bd_ite, ↓bd_jn, ↓jn_ap, ↓ite_ap, ↓bd_gI1, ↓bd_pI1, ↓bd_gR1, ↓bd_pR1, ↓bd_gM, rt_ap, ↓reduceIte, iN_div, iN_divL, iN_add, iN_mul, iN_addL, iN_Ladd, iN_mulL, iN_Lmul, iN_subL, iN_sub, iN_le_T, iN_le_F, iN_lt_T, iN_lt_F, iN_eq_F, iN_leL_T, iN_leL_F, iN_Lle_T, iN_Lle_F, iN_ltL_T, iN_ltL_F, iN_Llt_T, iN_Llt_F, iN_eqL_T, iN_eqL_F, iN_m1, m1_iN, iN_le_m1, m1_le_iN, iN_neg, iN_pos, i10, i01, i00, i11, u3_op, u3_or, u3_same, pup_eq, pup_ne]
    exact Rs.mk h1
theorem op_X3_street {c : CSt} (h : c.WF) {φ : amSh} {S : amSt} (hφ : φ.1 255 ≠ 0) (hR0 : RMst c S) {a1 a2 a3 : Int32} : Rs (fun b S' => b = (streetS c a1 a2 a3).1 ∧ RMst (streetS c a1 a2 a3).2 S' ∧ (streetS c a1 a2 a3).2.WF) (p_X3_street a1 a2 a3 φ S) := by
  have hn := h.hn
  have hR : RMst c (u3 S.1 1 1 0 0, S.2) := hR0.fr (L := [2000]) (fun p r j hk => sm_u3 fun z => hk (z ▸ by decide)) (by decide)
  have h9 := hR0.n
  unfold p_X3_street
  by_cases h5 : c.n = 40
  · rw [show streetS c a1 a2 a3 = (-1, c) by unfold streetS; split <;> (try split) <;> (try split) <;> (try split) <;> simp_all]
    simp (disch := first | omega | assumption) only [↓bd_rt, ↓bd_bd, ↓bd_ite, ↓bd_jn, ↓jn_ap, ↓ite_ap, ↓bd_gI1, ↓bd_pI1, ↓bd_gR1, ↓bd_pR1, ↓bd_gM, rt_ap, ↓reduceIte, iN_div, iN_divL, iN_add, iN_mul, iN_addL, iN_Ladd, iN_mulL, iN_Lmul, iN_subL, iN_sub, iN_le_T, iN_le_F, iN_lt_T, iN_lt_F, iN_eq_F, iN_leL_T, iN_leL_F, iN_Lle_T, iN_Lle_F, iN_ltL_T, iN_ltL_F, iN_Llt_T, iN_Llt_F, iN_eqL_T, iN_eqL_F, iN_m1, m1_iN, iN_le_m1, m1_le_iN, iN_neg, iN_pos, i10, i01, i00, i11, u3_op, u3_or, u3_same, pup_eq, pup_ne, h9]
    exact Rs.mk ⟨rfl, hR, h⟩
  by_cases h1 : inN a1 20
  · by_cases h2 : inN a2 20
    · by_cases h3 : a1 = a2
      · rw [show streetS c a1 a2 a3 = (-1, c) by unfold streetS; rw [if_pos h1, if_pos h2, if_pos h3]]
        simp (disch := first | omega | assumption) only [↓bd_rt, ↓bd_bd, ↓bd_ite, ↓bd_jn, ↓jn_ap, ↓ite_ap, ↓bd_gI1, ↓bd_pI1, ↓bd_gR1, ↓bd_pR1, ↓bd_gM, rt_ap, ↓reduceIte, iN_div, iN_divL, iN_add, iN_mul, iN_addL, iN_Ladd, iN_mulL, iN_Lmul, iN_subL, iN_sub, iN_le_T, iN_le_F, iN_lt_T, iN_lt_F, iN_eq_F, iN_leL_T, iN_leL_F, iN_Lle_T, iN_Lle_F, iN_ltL_T, iN_ltL_F, iN_Llt_T, iN_Llt_F, iN_eqL_T, iN_eqL_F, iN_m1, m1_iN, iN_le_m1, m1_le_iN, iN_neg, iN_pos, i10, i01, i00, i11, u3_op, u3_or, u3_same, pup_eq, pup_ne, h9, ↓bd_of sp_X3_isCorner, ip h1, ip h2, if_pos h3]
        exact Rs.mk ⟨rfl, hR, h⟩
      · by_cases h4 : out a3 1 20
        · rw [show streetS c a1 a2 a3 = (-1, c) by unfold streetS; rw [if_pos h1, if_pos h2, if_neg h3, if_pos h4]]
          simp (disch := first | omega | assumption) only [↓bd_rt, ↓bd_bd, ↓bd_ite, ↓bd_jn, ↓jn_ap, ↓ite_ap, ↓bd_gI1, ↓bd_pI1, ↓bd_gR1, ↓bd_pR1, ↓bd_gM, rt_ap, ↓reduceIte, iN_div, iN_divL, iN_add, iN_mul, iN_addL, iN_Ladd, iN_mulL, iN_Lmul, iN_subL, iN_sub, iN_le_T, iN_le_F, iN_lt_T, iN_lt_F, iN_eq_F, iN_leL_T, iN_leL_F, iN_Lle_T, iN_Lle_F, iN_ltL_T, iN_ltL_F, iN_Llt_T, iN_Llt_F, iN_eqL_T, iN_eqL_F, iN_m1, m1_iN, iN_le_m1, m1_le_iN, iN_neg, iN_pos, i10, i01, i00, i11, u3_op, u3_or, u3_same, pup_eq, pup_ne, h9, ↓bd_of sp_X3_isCorner, ip h1, ip h2, if_neg h3, ↓bd_of sp_X3_isIn, jp h4]
          exact Rs.mk ⟨rfl, hR, h⟩
        · rw [show streetS c a1 a2 a3 = (iN c.n, c.add a1.toNatClampNeg a2.toNatClampNeg a3.toNatClampNeg (addD c a1.toNatClampNeg a2.toNatClampNeg a3.toNatClampNeg)) by unfold streetS; rw [if_pos h1, if_pos h2, if_neg h3, if_neg h4, if_neg h5]]
          obtain ⟨x, hx, rfl⟩ := h1.ex (by decide)
          obtain ⟨y, hy, rfl⟩ := h2.ex (by decide)
          obtain ⟨l, rfl, l1, l2⟩ := not_out (lo := 1) (hi := 20) h4 (by decide) (by decide)
          rw [iN_nat (by omega), iN_nat (by omega), iN_nat (by omega)]
          have hxy : x ≠ y := fun e => h3 (by rw [e])
          simp (disch := first | omega | assumption) only [↓bd_rt, ↓bd_bd, ↓bd_ite, ↓bd_jn, ↓jn_ap, ↓ite_ap, ↓bd_gI1, ↓bd_pI1, ↓bd_gR1, ↓bd_pR1, ↓bd_gM, rt_ap, ↓reduceIte, iN_div, iN_divL, iN_add, iN_mul, iN_addL, iN_Ladd, iN_mulL, iN_Lmul, iN_subL, iN_sub, iN_le_T, iN_le_F, iN_lt_T, iN_lt_F, iN_eq_F, iN_leL_T, iN_leL_F, iN_Lle_T, iN_Lle_F, iN_ltL_T, iN_ltL_F, iN_Llt_T, iN_Llt_F, iN_eqL_T, iN_eqL_F, iN_m1, m1_iN, iN_le_m1, m1_le_iN, iN_neg, iN_pos, i10, i01, i00, i11, u3_op, u3_or, u3_same, pup_eq, pup_ne, h9, ↓bd_of sp_X3_isCorner, ip h1, ip h2, if_neg h3, ↓bd_of sp_X3_isIn, jq h4, ↓wI55_1, ↓wI56_1, ↓wI57_1]
          refine bdRF (L := [58]) (Fr.halp (fun rec hrec x => fr_p_X3_street_L78 (by decide) hrec x) _ _) (sp_X3_L78 (n := c.n) (by omega) (by simp (disch := first | omega | assumption) only [↓bd_rt, ↓bd_bd, ↓bd_ite, ↓bd_jn, ↓jn_ap, ↓ite_ap, ↓bd_gI1, ↓bd_pI1, ↓bd_gR1, ↓bd_pR1, ↓bd_gM, rt_ap, ↓reduceIte, iN_div, iN_divL, iN_add, iN_mul, iN_addL, iN_Ladd, iN_mulL, iN_Lmul, iN_subL, iN_sub, iN_le_T, iN_le_F, iN_lt_T, iN_lt_F, iN_eq_F, iN_leL_T, iN_leL_F, iN_Lle_T, iN_Lle_F, iN_ltL_T, iN_ltL_F, iN_Llt_T, iN_Llt_F, iN_eqL_T, iN_eqL_F, iN_m1, m1_iN, iN_le_m1, m1_le_iN, iN_neg, iN_pos, i10, i01, i00, i11, u3_op, u3_or, u3_same, pup_eq, pup_ne, h9])) fun _ S1 hj hF1 => ?_
          have h91 : S1.1 1 1 9 = iN c.n := (hF1.i 1 1 9 (by decide)).trans (by simp (disch := first | omega | assumption) only [↓bd_rt, ↓bd_bd, ↓bd_ite, ↓bd_jn, ↓jn_ap, ↓ite_ap, ↓bd_gI1, ↓bd_pI1, ↓bd_gR1, ↓bd_pR1, ↓bd_gM, rt_ap, ↓reduceIte, iN_div, iN_divL, iN_add, iN_mul, iN_addL, iN_Ladd, iN_mulL, iN_Lmul, iN_subL, iN_sub, iN_le_T, iN_le_F, iN_lt_T, iN_lt_F, iN_eq_F, iN_leL_T, iN_leL_F, iN_Lle_T, iN_Lle_F, iN_ltL_T, iN_ltL_F, iN_Llt_T, iN_Llt_F, iN_eqL_T, iN_eqL_F, iN_m1, m1_iN, iN_le_m1, m1_le_iN, iN_neg, iN_pos, i10, i01, i00, i11, u3_op, u3_or, u3_same, pup_eq, pup_ne, h9])
          have hd1 : ∀ a b, a < 20 → b < 20 → S1.1 59 1 (20 * a + b) = iN (c.d a b) := fun a b ha hb => (hF1.i 59 1 _ (kyN (by decide) (by decide) (by decide))).trans (by simp (disch := first | omega | assumption) only [↓bd_rt, ↓bd_bd, ↓bd_ite, ↓bd_jn, ↓jn_ap, ↓ite_ap, ↓bd_gI1, ↓bd_pI1, ↓bd_gR1, ↓bd_pR1, ↓bd_gM, rt_ap, ↓reduceIte, iN_div, iN_divL, iN_add, iN_mul, iN_addL, iN_Ladd, iN_mulL, iN_Lmul, iN_subL, iN_sub, iN_le_T, iN_le_F, iN_lt_T, iN_lt_F, iN_eq_F, iN_leL_T, iN_leL_F, iN_Lle_T, iN_Lle_F, iN_ltL_T, iN_ltL_F, iN_Llt_T, iN_Llt_F, iN_eqL_T, iN_eqL_F, iN_m1, m1_iN, iN_le_m1, m1_le_iN, iN_neg, iN_pos, i10, i01, i00, i11, u3_op, u3_or, u3_same, pup_eq, pup_ne, hR0.d a b ha hb])
          have hq := hd1 x y hx hy
          have hdle := h.dle x y
          have hM0 : Mat (u3 (u3 (u3 S1.1 1 1 9 (iN (c.n + 1))) 59 1 (20 * x + y) (iN (min (c.d x y) l))) 59 1 (20 * y + x) (iN (min (c.d x y) l)), S1.2) (D0 c x y l) := by
            intro a b ha hb
            show u3 (u3 (u3 S1.1 1 1 9 (iN (c.n + 1))) 59 1 (20 * x + y) (iN (min (c.d x y) l))) 59 1 (20 * y + x) (iN (min (c.d x y) l)) 59 1 (20 * a + b) = _
            unfold D0
            by_cases e : (a = x ∧ b = y) ∨ (a = y ∧ b = x)
            · rw [if_pos e]
              rcases e with ⟨rfl, rfl⟩ | ⟨rfl, rfl⟩
              · simp (disch := first | omega | assumption) only [↓bd_rt, ↓bd_bd, ↓bd_ite, ↓bd_jn, ↓jn_ap, ↓ite_ap, ↓bd_gI1, ↓bd_pI1, ↓bd_gR1, ↓bd_pR1, ↓bd_gM, rt_ap, ↓reduceIte, iN_div, iN_divL, iN_add, iN_mul, iN_addL, iN_Ladd, iN_mulL, iN_Lmul, iN_subL, iN_sub, iN_le_T, iN_le_F, iN_lt_T, iN_lt_F, iN_eq_F, iN_leL_T, iN_leL_F, iN_Lle_T, iN_Lle_F, iN_ltL_T, iN_ltL_F, iN_Llt_T, iN_Llt_F, iN_eqL_T, iN_eqL_F, iN_m1, m1_iN, iN_le_m1, m1_le_iN, iN_neg, iN_pos, i10, i01, i00, i11, u3_op, u3_or, u3_same, pup_eq, pup_ne]
              · simp (disch := first | omega | assumption) only [↓bd_rt, ↓bd_bd, ↓bd_ite, ↓bd_jn, ↓jn_ap, ↓ite_ap, ↓bd_gI1, ↓bd_pI1, ↓bd_gR1, ↓bd_pR1, ↓bd_gM, rt_ap, ↓reduceIte, iN_div, iN_divL, iN_add, iN_mul, iN_addL, iN_Ladd, iN_mulL, iN_Lmul, iN_subL, iN_sub, iN_le_T, iN_le_F, iN_lt_T, iN_lt_F, iN_eq_F, iN_leL_T, iN_leL_F, iN_Lle_T, iN_Lle_F, iN_ltL_T, iN_ltL_F, iN_Llt_T, iN_Llt_F, iN_eqL_T, iN_eqL_F, iN_m1, m1_iN, iN_le_m1, m1_le_iN, iN_neg, iN_pos, i10, i01, i00, i11, u3_op, u3_or, u3_same, pup_eq, pup_ne]
            · rw [if_neg e]
              simp (disch := first | omega | assumption) only [↓bd_rt, ↓bd_bd, ↓bd_ite, ↓bd_jn, ↓jn_ap, ↓ite_ap, ↓bd_gI1, ↓bd_pI1, ↓bd_gR1, ↓bd_pR1, ↓bd_gM, rt_ap, ↓reduceIte, iN_div, iN_divL, iN_add, iN_mul, iN_addL, iN_Ladd, iN_mulL, iN_Lmul, iN_subL, iN_sub, iN_le_T, iN_le_F, iN_lt_T, iN_lt_F, iN_eq_F, iN_leL_T, iN_leL_F, iN_Lle_T, iN_Lle_F, iN_ltL_T, iN_ltL_F, iN_Llt_T, iN_Llt_F, iN_eqL_T, iN_eqL_F, iN_m1, m1_iN, iN_le_m1, m1_le_iN, iN_neg, iN_pos, i10, i01, i00, i11, u3_op, u3_or, u3_same, pup_eq, pup_ne, hd1 a b ha hb]
          have fin : Rs (fun b S' => b = iN c.n ∧ RMst (c.add x y l (addD c x y l)) S' ∧ (c.add x y l (addD c x y l)).WF) (bd (alp p_X3_street_L167 amFu 0) (fun y22 => bd (gI 1 1 9) fun v34 => rt (v34 - 1)) φ (u3 (u3 (u3 S1.1 1 1 9 (iN (c.n + 1))) 59 1 (20 * x + y) (iN (min (c.d x y) l))) 59 1 (20 * y + x) (iN (min (c.d x y) l)), S1.2)) := by
            refine bdRF (L := [59]) (Fr.halp (fun rec hrec x => fr_p_X3_street_L167 (by decide) hrec x) _ _) (sp_X3_L167 hM0 (D0_snd h hx hy (by omega))) fun _ S2 hD hF2 => ?_
            obtain ⟨D, hD0, hM, hs, hle⟩ := hD
            have hvia := via_of h hx hy hxy D hD0 hle
            have h92 : S2.1 1 1 9 = iN (c.n + 1) := (hF2.i 1 1 9 (by decide)).trans (by simp (disch := first | omega | assumption) only [↓bd_rt, ↓bd_bd, ↓bd_ite, ↓bd_jn, ↓jn_ap, ↓ite_ap, ↓bd_gI1, ↓bd_pI1, ↓bd_gR1, ↓bd_pR1, ↓bd_gM, rt_ap, ↓reduceIte, iN_div, iN_divL, iN_add, iN_mul, iN_addL, iN_Ladd, iN_mulL, iN_Lmul, iN_subL, iN_sub, iN_le_T, iN_le_F, iN_lt_T, iN_lt_F, iN_eq_F, iN_leL_T, iN_leL_F, iN_Lle_T, iN_Lle_F, iN_ltL_T, iN_ltL_F, iN_Llt_T, iN_Llt_F, iN_eqL_T, iN_eqL_F, iN_m1, m1_iN, iN_le_m1, m1_le_iN, iN_neg, iN_pos, i10, i01, i00, i11, u3_op, u3_or, u3_same, pup_eq, pup_ne])
            simp (disch := first | omega | assumption) only [↓bd_rt, ↓bd_bd, ↓bd_ite, ↓bd_jn, ↓jn_ap, ↓ite_ap, ↓bd_gI1, ↓bd_pI1, ↓bd_gR1, ↓bd_pR1, ↓bd_gM, rt_ap, ↓reduceIte, iN_div, iN_divL, iN_add, iN_mul, iN_addL, iN_Ladd, iN_mulL, iN_Lmul, iN_subL, iN_sub, iN_le_T, iN_le_F, iN_lt_T, iN_lt_F, iN_eq_F, iN_leL_T, iN_leL_F, iN_Lle_T, iN_Lle_F, iN_ltL_T, iN_ltL_F, iN_Llt_T, iN_Llt_F, iN_eqL_T, iN_eqL_F, iN_m1, m1_iN, iN_le_m1, m1_le_iN, iN_neg, iN_pos, i10, i01, i00, i11, u3_op, u3_or, u3_same, pup_eq, pup_ne, h92, Nat.add_sub_cancel]
            have hF3 : ∀ p j, p ≠ 1 → p ≠ 58 → p ≠ 59 → p < 61 → 20 ≤ p → S2.1 p 1 j = u3 (u3 (u3 (u3 S.1 1 1 0 0) 55 1 c.n (iN x)) 56 1 c.n (iN y)) 57 1 c.n (iN l) p 1 j := by
              intro p j p1 p2 p3 p4 p5
              refine (hF2.i p 1 j (by unfold ky; rw [if_neg (by omega), if_neg (by omega)]; simp [p3])).trans ?_
              refine Eq.trans ?_ (hF1.i p 1 j (by unfold ky; rw [if_neg (by omega), if_neg (by omega)]; simp [p2]))
              simp (disch := first | omega | assumption) only [↓bd_rt, ↓bd_bd, ↓bd_ite, ↓bd_jn, ↓jn_ap, ↓ite_ap, ↓bd_gI1, ↓bd_pI1, ↓bd_gR1, ↓bd_pR1, ↓bd_gM, rt_ap, ↓reduceIte, iN_div, iN_divL, iN_add, iN_mul, iN_addL, iN_Ladd, iN_mulL, iN_Lmul, iN_subL, iN_sub, iN_le_T, iN_le_F, iN_lt_T, iN_lt_F, iN_eq_F, iN_leL_T, iN_leL_F, iN_Lle_T, iN_Lle_F, iN_ltL_T, iN_ltL_F, iN_Llt_T, iN_Llt_F, iN_eqL_T, iN_eqL_F, iN_m1, m1_iN, iN_le_m1, m1_le_iN, iN_neg, iN_pos, i10, i01, i00, i11, u3_op, u3_or, u3_same, pup_eq, pup_ne]
            have hout : ∀ a b, ¬ (a < 20 ∧ b < 20) → addD c x y l a b = 0 := fun a b e => by unfold addD; rw [if_neg e]
            have hsv : Snd c x y l (addD c x y l) := fun a b ha hb => by
              have := hs a b ha hb
              rw [via_eq h hx hy hs hvia ha hb] at this
              unfold addD
              rw [if_pos ⟨ha, hb⟩]
              exact this
            refine Rs.mk ⟨rfl, ?_, add_WF h (by omega) hx hy ⟨l1, l2⟩ hsv (fun a b ha hb => by unfold addD; rw [if_pos ⟨ha, hb⟩]; exact Nat.le_refl _) hout⟩
            refine RMst.mk h92 ?_ ?_ ?_ ?_ ?_ ?_
            · intro s hs
              rw [hF3 55 s (by decide) (by decide) (by decide) (by decide) (by decide)]
              show _ = iN (pup c.one c.n x s)
              have hs : s < c.n + 1 := hs
              by_cases e : s = c.n
              · subst e; simp (disch := first | omega | assumption) only [↓bd_rt, ↓bd_bd, ↓bd_ite, ↓bd_jn, ↓jn_ap, ↓ite_ap, ↓bd_gI1, ↓bd_pI1, ↓bd_gR1, ↓bd_pR1, ↓bd_gM, rt_ap, ↓reduceIte, iN_div, iN_divL, iN_add, iN_mul, iN_addL, iN_Ladd, iN_mulL, iN_Lmul, iN_subL, iN_sub, iN_le_T, iN_le_F, iN_lt_T, iN_lt_F, iN_eq_F, iN_leL_T, iN_leL_F, iN_Lle_T, iN_Lle_F, iN_ltL_T, iN_ltL_F, iN_Llt_T, iN_Llt_F, iN_eqL_T, iN_eqL_F, iN_m1, m1_iN, iN_le_m1, m1_le_iN, iN_neg, iN_pos, i10, i01, i00, i11, u3_op, u3_or, u3_same, pup_eq, pup_ne]
              · simp (disch := first | omega | assumption) only [↓bd_rt, ↓bd_bd, ↓bd_ite, ↓bd_jn, ↓jn_ap, ↓ite_ap, ↓bd_gI1, ↓bd_pI1, ↓bd_gR1, ↓bd_pR1, ↓bd_gM, rt_ap, ↓reduceIte, iN_div, iN_divL, iN_add, iN_mul, iN_addL, iN_Ladd, iN_mulL, iN_Lmul, iN_subL, iN_sub, iN_le_T, iN_le_F, iN_lt_T, iN_lt_F, iN_eq_F, iN_leL_T, iN_leL_F, iN_Lle_T, iN_Lle_F, iN_ltL_T, iN_ltL_F, iN_Llt_T, iN_Llt_F, iN_eqL_T, iN_eqL_F, iN_m1, m1_iN, iN_le_m1, m1_le_iN, iN_neg, iN_pos, i10, i01, i00, i11, u3_op, u3_or, u3_same, pup_eq, pup_ne]; exact hR0.one s (by omega)
            · intro s hs
              rw [hF3 56 s (by decide) (by decide) (by decide) (by decide) (by decide)]
              show _ = iN (pup c.oth c.n y s)
              have hs : s < c.n + 1 := hs
              by_cases e : s = c.n
              · subst e; simp (disch := first | omega | assumption) only [↓bd_rt, ↓bd_bd, ↓bd_ite, ↓bd_jn, ↓jn_ap, ↓ite_ap, ↓bd_gI1, ↓bd_pI1, ↓bd_gR1, ↓bd_pR1, ↓bd_gM, rt_ap, ↓reduceIte, iN_div, iN_divL, iN_add, iN_mul, iN_addL, iN_Ladd, iN_mulL, iN_Lmul, iN_subL, iN_sub, iN_le_T, iN_le_F, iN_lt_T, iN_lt_F, iN_eq_F, iN_leL_T, iN_leL_F, iN_Lle_T, iN_Lle_F, iN_ltL_T, iN_ltL_F, iN_Llt_T, iN_Llt_F, iN_eqL_T, iN_eqL_F, iN_m1, m1_iN, iN_le_m1, m1_le_iN, iN_neg, iN_pos, i10, i01, i00, i11, u3_op, u3_or, u3_same, pup_eq, pup_ne]
              · simp (disch := first | omega | assumption) only [↓bd_rt, ↓bd_bd, ↓bd_ite, ↓bd_jn, ↓jn_ap, ↓ite_ap, ↓bd_gI1, ↓bd_pI1, ↓bd_gR1, ↓bd_pR1, ↓bd_gM, rt_ap, ↓reduceIte, iN_div, iN_divL, iN_add, iN_mul, iN_addL, iN_Ladd, iN_mulL, iN_Lmul, iN_subL, iN_sub, iN_le_T, iN_le_F, iN_lt_T, iN_lt_F, iN_eq_F, iN_leL_T, iN_leL_F, iN_Lle_T, iN_Lle_F, iN_ltL_T, iN_ltL_F, iN_Llt_T, iN_Llt_F, iN_eqL_T, iN_eqL_F, iN_m1, m1_iN, iN_le_m1, m1_le_iN, iN_neg, iN_pos, i10, i01, i00, i11, u3_op, u3_or, u3_same, pup_eq, pup_ne]; exact hR0.oth s (by omega)
            · intro s hs
              rw [hF3 57 s (by decide) (by decide) (by decide) (by decide) (by decide)]
              show _ = iN (pup c.len c.n l s)
              have hs : s < c.n + 1 := hs
              by_cases e : s = c.n
              · subst e; simp (disch := first | omega | assumption) only [↓bd_rt, ↓bd_bd, ↓bd_ite, ↓bd_jn, ↓jn_ap, ↓ite_ap, ↓bd_gI1, ↓bd_pI1, ↓bd_gR1, ↓bd_pR1, ↓bd_gM, rt_ap, ↓reduceIte, iN_div, iN_divL, iN_add, iN_mul, iN_addL, iN_Ladd, iN_mulL, iN_Lmul, iN_subL, iN_sub, iN_le_T, iN_le_F, iN_lt_T, iN_lt_F, iN_eq_F, iN_leL_T, iN_leL_F, iN_Lle_T, iN_Lle_F, iN_ltL_T, iN_ltL_F, iN_Llt_T, iN_Llt_F, iN_eqL_T, iN_eqL_F, iN_m1, m1_iN, iN_le_m1, m1_le_iN, iN_neg, iN_pos, i10, i01, i00, i11, u3_op, u3_or, u3_same, pup_eq, pup_ne]
              · simp (disch := first | omega | assumption) only [↓bd_rt, ↓bd_bd, ↓bd_ite, ↓bd_jn, ↓jn_ap, ↓ite_ap, ↓bd_gI1, ↓bd_pI1, ↓bd_gR1, ↓bd_pR1, ↓bd_gM, rt_ap, ↓reduceIte, iN_div, iN_divL, iN_add, iN_mul, iN_addL, iN_Ladd, iN_mulL, iN_Lmul, iN_subL, iN_sub, iN_le_T, iN_le_F, iN_lt_T, iN_lt_F, iN_eq_F, iN_leL_T, iN_leL_F, iN_Lle_T, iN_Lle_F, iN_ltL_T, iN_ltL_F, iN_Llt_T, iN_Llt_F, iN_eqL_T, iN_eqL_F, iN_m1, m1_iN, iN_le_m1, m1_le_iN, iN_neg, iN_pos, i10, i01, i00, i11, u3_op, u3_or, u3_same, pup_eq, pup_ne]; exact hR0.len s (by omega)
            · intro k hk
              have hk : k < 4 * (c.n + 1) := hk
              rw [(hF2.i 58 1 k (kyN (by decide) (by decide) (by decide)) : S2.1 58 1 k = _)]
              show u3 (u3 (u3 S1.1 1 1 9 (iN (c.n + 1))) 59 1 (20 * x + y) (iN (min (c.d x y) l))) 59 1 (20 * y + x) (iN (min (c.d x y) l)) 58 1 k = iN (if 4 * c.n ≤ k ∧ k < 4 * c.n + 4 then 100 else c.jam k)
              simp (disch := first | omega | assumption) only [↓bd_rt, ↓bd_bd, ↓bd_ite, ↓bd_jn, ↓jn_ap, ↓ite_ap, ↓bd_gI1, ↓bd_pI1, ↓bd_gR1, ↓bd_pR1, ↓bd_gM, rt_ap, ↓reduceIte, iN_div, iN_divL, iN_add, iN_mul, iN_addL, iN_Ladd, iN_mulL, iN_Lmul, iN_subL, iN_sub, iN_le_T, iN_le_F, iN_lt_T, iN_lt_F, iN_eq_F, iN_leL_T, iN_leL_F, iN_Lle_T, iN_Lle_F, iN_ltL_T, iN_ltL_F, iN_Llt_T, iN_Llt_F, iN_eqL_T, iN_eqL_F, iN_m1, m1_iN, iN_le_m1, m1_le_iN, iN_neg, iN_pos, i10, i01, i00, i11, u3_op, u3_or, u3_same, pup_eq, pup_ne]
              rw [hj k]
              by_cases e : 4 * c.n ≤ k ∧ k < 4 * c.n + 4
              · rw [if_pos e, if_pos e]; rfl
              · rw [if_neg e, if_neg e]; simp (disch := first | omega | assumption) only [↓bd_rt, ↓bd_bd, ↓bd_ite, ↓bd_jn, ↓jn_ap, ↓ite_ap, ↓bd_gI1, ↓bd_pI1, ↓bd_gR1, ↓bd_pR1, ↓bd_gM, rt_ap, ↓reduceIte, iN_div, iN_divL, iN_add, iN_mul, iN_addL, iN_Ladd, iN_mulL, iN_Lmul, iN_subL, iN_sub, iN_le_T, iN_le_F, iN_lt_T, iN_lt_F, iN_eq_F, iN_leL_T, iN_leL_F, iN_Lle_T, iN_Lle_F, iN_ltL_T, iN_ltL_F, iN_Llt_T, iN_Llt_F, iN_eqL_T, iN_eqL_F, iN_m1, m1_iN, iN_le_m1, m1_le_iN, iN_neg, iN_pos, i10, i01, i00, i11, u3_op, u3_or, u3_same, pup_eq, pup_ne]; exact hR0.jam k (by omega)
            · intro s hs
              rw [hF3 60 s (by decide) (by decide) (by decide) (by decide) (by decide)]
              simp (disch := first | omega | assumption) only [↓bd_rt, ↓bd_bd, ↓bd_ite, ↓bd_jn, ↓jn_ap, ↓ite_ap, ↓bd_gI1, ↓bd_pI1, ↓bd_gR1, ↓bd_pR1, ↓bd_gM, rt_ap, ↓reduceIte, iN_div, iN_divL, iN_add, iN_mul, iN_addL, iN_Ladd, iN_mulL, iN_Lmul, iN_subL, iN_sub, iN_le_T, iN_le_F, iN_lt_T, iN_lt_F, iN_eq_F, iN_leL_T, iN_leL_F, iN_Lle_T, iN_Lle_F, iN_ltL_T, iN_ltL_F, iN_Llt_T, iN_Llt_F, iN_eqL_T, iN_eqL_F, iN_m1, m1_iN, iN_le_m1, m1_le_iN, iN_neg, iN_pos, i10, i01, i00, i11, u3_op, u3_or, u3_same, pup_eq, pup_ne]
              exact hR0.cl s hs
            · intro a b ha hb
              rw [hM a b ha hb, via_eq h hx hy hs hvia ha hb]
              show _ = iN (addD c x y l a b)
              unfold addD
              rw [if_pos ⟨ha, hb⟩]
          by_cases hlt : l < c.d x y
          · rw [Nat.min_eq_right (by omega)] at fin
            simp (disch := first | omega | assumption) only [↓bd_rt, ↓bd_bd, ↓bd_ite, ↓bd_jn, ↓jn_ap, ↓ite_ap, ↓bd_gI1, ↓bd_pI1, ↓bd_gR1, ↓bd_pR1, ↓bd_gM, rt_ap, ↓reduceIte, iN_div, iN_divL, iN_add, iN_mul, iN_addL, iN_Ladd, iN_mulL, iN_Lmul, iN_subL, iN_sub, iN_le_T, iN_le_F, iN_lt_T, iN_lt_F, iN_eq_F, iN_leL_T, iN_leL_F, iN_Lle_T, iN_Lle_F, iN_ltL_T, iN_ltL_F, iN_Llt_T, iN_Llt_F, iN_eqL_T, iN_eqL_F, iN_m1, m1_iN, iN_le_m1, m1_le_iN, iN_neg, iN_pos, i10, i01, i00, i11, u3_op, u3_or, u3_same, pup_eq, pup_ne, h91, ↓rI59_1, ↓wI59_1, hq, if_true]
            exact fin
          · rw [Nat.min_eq_left (by omega)] at fin
            simp (disch := first | omega | assumption) only [↓bd_rt, ↓bd_bd, ↓bd_ite, ↓bd_jn, ↓jn_ap, ↓ite_ap, ↓bd_gI1, ↓bd_pI1, ↓bd_gR1, ↓bd_pR1, ↓bd_gM, rt_ap, ↓reduceIte, iN_div, iN_divL, iN_add, iN_mul, iN_addL, iN_Ladd, iN_mulL, iN_Lmul, iN_subL, iN_sub, iN_le_T, iN_le_F, iN_lt_T, iN_lt_F, iN_eq_F, iN_leL_T, iN_leL_F, iN_Lle_T, iN_Lle_F, iN_ltL_T, iN_ltL_F, iN_Llt_T, iN_Llt_F, iN_eqL_T, iN_eqL_F, iN_m1, m1_iN, iN_le_m1, m1_le_iN, iN_neg, iN_pos, i10, i01, i00, i11, u3_op, u3_or, u3_same, pup_eq, pup_ne, h91, ↓rI59_1, ↓wI59_1, hq, if_false]
            exact fin
    · rw [show streetS c a1 a2 a3 = (-1, c) by unfold streetS; rw [if_pos h1, if_neg h2]]
      simp (disch := first | omega | assumption) only [↓bd_rt, ↓bd_bd, ↓bd_ite, ↓bd_jn, ↓jn_ap, ↓ite_ap, ↓bd_gI1, ↓bd_pI1, ↓bd_gR1, ↓bd_pR1, ↓bd_gM, rt_ap, ↓reduceIte, iN_div, iN_divL, iN_add, iN_mul, iN_addL, iN_Ladd, iN_mulL, iN_Lmul, iN_subL, iN_sub, iN_le_T, iN_le_F, iN_lt_T, iN_lt_F, iN_eq_F, iN_leL_T, iN_leL_F, iN_Lle_T, iN_Lle_F, iN_ltL_T, iN_ltL_F, iN_Llt_T, iN_Llt_F, iN_eqL_T, iN_eqL_F, iN_m1, m1_iN, iN_le_m1, m1_le_iN, iN_neg, iN_pos, i10, i01, i00, i11, u3_op, u3_or, u3_same, pup_eq, pup_ne, h9, ↓bd_of sp_X3_isCorner, ip h1, iq h2]
      exact Rs.mk ⟨rfl, hR, h⟩
  · rw [show streetS c a1 a2 a3 = (-1, c) by unfold streetS; rw [if_neg h1]]
    simp (disch := first | omega | assumption) only [↓bd_rt, ↓bd_bd, ↓bd_ite, ↓bd_jn, ↓jn_ap, ↓ite_ap, ↓bd_gI1, ↓bd_pI1, ↓bd_gR1, ↓bd_pR1, ↓bd_gM, rt_ap, ↓reduceIte, iN_div, iN_divL, iN_add, iN_mul, iN_addL, iN_Ladd, iN_mulL, iN_Lmul, iN_subL, iN_sub, iN_le_T, iN_le_F, iN_lt_T, iN_lt_F, iN_eq_F, iN_leL_T, iN_leL_F, iN_Lle_T, iN_Lle_F, iN_ltL_T, iN_ltL_F, iN_Llt_T, iN_Llt_F, iN_eqL_T, iN_eqL_F, iN_m1, m1_iN, iN_le_m1, m1_le_iN, iN_neg, iN_pos, i10, i01, i00, i11, u3_op, u3_or, u3_same, pup_eq, pup_ne, h9, ↓bd_of sp_X3_isCorner, iq h1]
    exact Rs.mk ⟨rfl, hR, h⟩
