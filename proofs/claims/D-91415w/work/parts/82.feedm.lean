/-! PURE: bytes are fed, the model -/
def cw (v : Int32) (i : Nat) : Nat := itn (fun i n => if byt v i = 0 then n else n + 1) 0 i
def apB (v : Int32) (t : CTp) (i : Nat) : CTp := itn (fun i t => apW v i t) t i
theorem cw_le {v : Int32} : ∀ i, cw v i ≤ i := by
  intro i
  induction i with
  | zero => exact Nat.le_refl _
  | succ i ih => show (if byt v i = 0 then cw v i else cw v i + 1) ≤ i + 1; split <;> omega
theorem cw_mono {v : Int32} {k : Nat} : ∀ m, cw v k ≤ cw v (k + m) := by
  intro m
  induction m with
  | zero => exact Nat.le_refl _
  | succ m ih =>
    refine Nat.le_trans ih ?_
    show cw v (k + m) ≤ (if byt v (k + m) = 0 then cw v (k + m) else cw v (k + m) + 1)
    split <;> omega
theorem apB_n {v : Int32} {t : CTp} : ∀ i, (apB v t i).n = t.n + cw v i := by
  intro i
  induction i with
  | zero => rfl
  | succ i ih =>
    show (apW v i (apB v t i)).n = t.n + (if byt v i = 0 then cw v i else cw v i + 1)
    unfold apW
    split
    · exact ih
    · show (apB v t i).n + 1 = _; omega
theorem cntK_4 {f : Nat → Int32} {m : Nat} : ∀ i, i ≤ 4 → cntK f (4 * m + i) = cntK f (4 * m) + cw (f m) i := by
  intro i
  induction i with
  | zero => intro _; rfl
  | succ i ih =>
    intro hi
    have e : cntK f (4 * m + (i + 1)) = (if byt (f ((4 * m + i) / 4)) ((4 * m + i) % 4) = 0 then cntK f (4 * m + i) else cntK f (4 * m + i) + 1) := rfl
    have e2 : cw (f m) (i + 1) = (if byt (f m) i = 0 then cw (f m) i else cw (f m) i + 1) := rfl
    rw [e, e2, show (4 * m + i) / 4 = m by omega, show (4 * m + i) % 4 = i by omega, ih (by omega)]
    split <;> omega
theorem apK_4 {f : Nat → Int32} {t : CTp} {m : Nat} : ∀ i, i ≤ 4 → apK f t (4 * m + i) = apB (f m) (apK f t (4 * m)) i := by
  intro i
  induction i with
  | zero => intro _; rfl
  | succ i ih =>
    intro hi
    have e : apK f t (4 * m + (i + 1)) = apW (f ((4 * m + i) / 4)) ((4 * m + i) % 4) (apK f t (4 * m + i)) := rfl
    have e2 : apB (f m) (apK f t (4 * m)) (i + 1) = apW (f m) i (apB (f m) (apK f t (4 * m)) i) := rfl
    rw [e, e2, show (4 * m + i) / 4 = m by omega, show (4 * m + i) % 4 = i by omega, ih (by omega)]
def dn8 (i : Nat) : Int32 := if i < 4 then iN (24 - 8 * i) else -8
theorem dn8_s {i : Nat} (h : i < 4) : dn8 i + -8 = dn8 (i + 1) := by
  have : i = 0 ∨ i = 1 ∨ i = 2 ∨ i = 3 := by omega
  rcases this with rfl | rfl | rfl | rfl <;> decide
theorem dn8_p {i : Nat} (h : i < 4) : ¬ dn8 i < 0 := by
  have : i = 0 ∨ i = 1 ∨ i = 2 ∨ i = 3 := by omega
  rcases this with rfl | rfl | rfl | rfl <;> decide
theorem dn8_b {v : Int32} {i : Nat} (h : i < 4) : (v >>> (dn8 i &&& 31)) &&& 255 = byt v i := by
  unfold dn8 byt; rw [if_pos h]
theorem sp_X3_bytesIn {v : Int32} {φ : amSh} {S : amSt} : p_X3_bytesIn v φ S = some (iN (cw v 4), S) := by
  unfold p_X3_bytesIn
  rw [bd_of (a := iN (cw v 4)) (S1 := S), rt_ap]
  refine alp_st (fun i => (iN (cw v i), dn8 i)) (fun _ => S) 4 ?_ ?_ (amFu_lt (by decide))
  · intro i hi rec
    have e2 : cw v (i + 1) = (if byt v i = 0 then cw v i else cw v i + 1) := rfl
    rw [e2]
    unfold p_X3_bytesIn_L5
    dsimp only
    rw [if_neg (dn8_p hi), dn8_b hi, dn8_s hi]
    by_cases h : byt v i = 0
    · rw [if_pos h, if_pos h, bd_rt, bd_rt]
      simp
    · rw [if_neg h, if_neg h, bd_rt, bd_rt]
      rw [show iN (cw v i) + 1 = iN (cw v i + 1) from iN_add]
  · intro rec
    unfold p_X3_bytesIn_L5
    dsimp only
    rw [if_pos (show dn8 4 < 0 by decide), rt_ap]
theorem sp_X3_put4 {c : CTp} {v : Int32} (hl : c.n + cw v 4 ≤ 200) {φ : amSh} {S : amSt} (hφ : φ.1 255 ≠ 0) (hT : RMtp c S) : Rs (fun _ S' => RMtp (apB v c 4) S') (p_X3_put4 v φ S) := by
  unfold p_X3_put4
  rw [bd_gM hφ]
  refine bdR (Q := fun _ S' => RMtp (apB v c 4) S') ?_ fun _ S1 h1 => Rs.mk h1
  refine alp_I (fun i x S' => x = dn8 i ∧ RMtp (apB v c i) S') 4 (amFu_lt (by decide)) ⟨rfl, hT⟩ ?_ ?_
  · rintro i x S1 hi ⟨rfl, h1⟩ rec
    have en := apB_n (v := v) (t := c) i
    have hm := cw_mono (v := v) (k := i + 1) (3 - i)
    rw [show i + 1 + (3 - i) = 4 by omega] at hm
    have e2 : cw v (i + 1) = (if byt v i = 0 then cw v i else cw v i + 1) := rfl
    rw [e2] at hm
    show Lz rec φ (fun x S' => x = dn8 (i + 1) ∧ RMtp (apW v i (apB v c i)) S') _ _
    generalize apB v c i = d at *
    unfold p_X3_put4_L3 apW
    rw [if_neg (dn8_p hi), dn8_b hi, dn8_s hi]
    by_cases h : byt v i = 0
    · rw [if_pos h, if_pos h, bd_rt]
      exact Lz.go ⟨rfl, h1⟩
    · rw [if_neg h] at hm
      have e8 : (v >>> (dn8 i &&& 31)).toInt8 = (byt v i).toInt8 := by rw [← dn8_b hi, i8_and]
      rw [if_neg h, if_neg h, e8, i8_i8]
      simp (disch := first | omega | assumption) only [↓bd_rt, ↓bd_bd, ↓bd_ite, ↓bd_jn, ↓jn_ap, ↓ite_ap, ↓bd_gI1, ↓bd_pI1, ↓bd_gR1, ↓bd_pR1, ↓bd_gM, rt_ap, ↓reduceIte, iN_div, iN_divL, iN_add, iN_mul, iN_addL, iN_Ladd, iN_mulL, iN_Lmul, iN_subL, iN_sub, iN_le_T, iN_le_F, iN_lt_T, iN_lt_F, iN_eq_F, iN_leL_T, iN_leL_F, iN_Lle_T, iN_Lle_F, iN_ltL_T, iN_ltL_F, iN_Llt_T, iN_Llt_F, iN_eqL_T, iN_eqL_F, iN_m1, m1_iN, iN_le_m1, m1_le_iN, iN_neg, iN_pos, i10, i01, i00, i11, u3_op, u3_or, u3_same, pup_eq, pup_ne, h1.n, ↓wI107_1]
      refine Lz.go ⟨rfl, RMtp.mk ?_ ?_⟩
      · simp (disch := first | omega | assumption) only [↓bd_rt, ↓bd_bd, ↓bd_ite, ↓bd_jn, ↓jn_ap, ↓ite_ap, ↓bd_gI1, ↓bd_pI1, ↓bd_gR1, ↓bd_pR1, ↓bd_gM, rt_ap, ↓reduceIte, iN_div, iN_divL, iN_add, iN_mul, iN_addL, iN_Ladd, iN_mulL, iN_Lmul, iN_subL, iN_sub, iN_le_T, iN_le_F, iN_lt_T, iN_lt_F, iN_eq_F, iN_leL_T, iN_leL_F, iN_Lle_T, iN_Lle_F, iN_ltL_T, iN_ltL_F, iN_Llt_T, iN_Llt_F, iN_eqL_T, iN_eqL_F, iN_m1, m1_iN, iN_le_m1, m1_le_iN, iN_neg, iN_pos, i10, i01, i00, i11, u3_op, u3_or, u3_same, pup_eq, pup_ne]; rfl
      · intro j hj
        have hj2 : j < d.n + 1 := hj
        show _ = pup d.b d.n _ j
        by_cases z : j = d.n
        · subst z; simp [u3, pup]
        · rw [pup_ne z]; refine Eq.trans ?_ (h1.b j (by omega)); simp [u3, z]
  · rintro x S1 ⟨rfl, h1⟩ rec
    unfold p_X3_put4_L3
    rw [if_pos (show dn8 4 < 0 by decide), rt_ap]
    exact Rs.mk h1
theorem op_X3_feed {c : CTp} (hn : c.n ≤ 200) {φ : amSh} {S : amSt} (hφ : φ.1 255 ≠ 0) (hT0 : RMtp c S) {a1 a2 a3 a4 a5 : Int32} : Rs (fun v S' => v = (feedS c a1 a2 a3 a4 a5).1 ∧ RMtp (feedS c a1 a2 a3 a4 a5).2 S') (p_X3_feed a1 a2 a3 a4 a5 φ S) := by
  have hT := hT0.fr th0 (by decide)
  have k1 := cntK_4 (f := arF a1 a2 a3 a4 a5) (m := 0) 4 (by decide)
  have k2 := cntK_4 (f := arF a1 a2 a3 a4 a5) (m := 1) 4 (by decide)
  have k3 := cntK_4 (f := arF a1 a2 a3 a4 a5) (m := 2) 4 (by decide)
  have k4 := cntK_4 (f := arF a1 a2 a3 a4 a5) (m := 3) 4 (by decide)
  have k5 := cntK_4 (f := arF a1 a2 a3 a4 a5) (m := 4) 4 (by decide)
  have c1 := cw_le (v := a1) 4
  have c2 := cw_le (v := a2) 4
  have c3 := cw_le (v := a3) 4
  have c4 := cw_le (v := a4) 4
  have c5 := cw_le (v := a5) 4
  have hsum : cntK (arF a1 a2 a3 a4 a5) 20 = cw a1 4 + cw a2 4 + cw a3 4 + cw a4 4 + cw a5 4 := by
    have q1 : cntK (arF a1 a2 a3 a4 a5) 4 = cw a1 4 := k1.trans (by show 0 + cw a1 4 = _; omega)
    have q2 : cntK (arF a1 a2 a3 a4 a5) 8 = cw a1 4 + cw a2 4 := k2.trans (by show cntK (arF a1 a2 a3 a4 a5) 4 + cw a2 4 = _; rw [q1])
    have q3 : cntK (arF a1 a2 a3 a4 a5) 12 = cw a1 4 + cw a2 4 + cw a3 4 := k3.trans (by show cntK (arF a1 a2 a3 a4 a5) 8 + cw a3 4 = _; rw [q2])
    have q4 : cntK (arF a1 a2 a3 a4 a5) 16 = cw a1 4 + cw a2 4 + cw a3 4 + cw a4 4 := k4.trans (by show cntK (arF a1 a2 a3 a4 a5) 12 + cw a4 4 = _; rw [q3])
    exact k5.trans (by show cntK (arF a1 a2 a3 a4 a5) 16 + cw a5 4 = _; rw [q4])
  have hap : apK (arF a1 a2 a3 a4 a5) c 20 = apB a5 (apB a4 (apB a3 (apB a2 (apB a1 c 4) 4) 4) 4) 4 := by
    have q1 : apK (arF a1 a2 a3 a4 a5) c 4 = apB a1 c 4 := apK_4 (m := 0) 4 (by decide)
    have q2 : apK (arF a1 a2 a3 a4 a5) c 8 = apB a2 (apK (arF a1 a2 a3 a4 a5) c 4) 4 := apK_4 (m := 1) 4 (by decide)
    have q3 : apK (arF a1 a2 a3 a4 a5) c 12 = apB a3 (apK (arF a1 a2 a3 a4 a5) c 8) 4 := apK_4 (m := 2) 4 (by decide)
    have q4 : apK (arF a1 a2 a3 a4 a5) c 16 = apB a4 (apK (arF a1 a2 a3 a4 a5) c 12) 4 := apK_4 (m := 3) 4 (by decide)
    have q5 : apK (arF a1 a2 a3 a4 a5) c 20 = apB a5 (apK (arF a1 a2 a3 a4 a5) c 16) 4 := apK_4 (m := 4) 4 (by decide)
    rw [q5, q4, q3, q2, q1]
  unfold p_X3_feed
  rw [bd_pI1, bd_gI1, hT.n, bd_of sp_X3_bytesIn, bd_of sp_X3_bytesIn, bd_of sp_X3_bytesIn, bd_of sp_X3_bytesIn, bd_of sp_X3_bytesIn, iN_add, iN_add, iN_add, iN_add, iN_add]
  by_cases h : c.n + cntK (arF a1 a2 a3 a4 a5) 20 ≤ 200
  · rw [show feedS c a1 a2 a3 a4 a5 = (iN (c.n + cntK (arF a1 a2 a3 a4 a5) 20), apK (arF a1 a2 a3 a4 a5) c 20) from if_pos h, if_pos (by rw [show (200 : Int32) = iN 200 from rfl, iN_le (by omega) (by decide)]; omega)]
    rw [hap, hsum]
    refine bdR (sp_X3_put4 (v := a1) (by omega) hφ hT) fun _ S1 h1 => ?_
    have n1 := apB_n (v := a1) (t := c) 4
    refine bdR (sp_X3_put4 (v := a2) (by omega) hφ h1) fun _ S2 h2 => ?_
    have n2 := apB_n (v := a2) (t := apB a1 c 4) 4
    refine bdR (sp_X3_put4 (v := a3) (by omega) hφ h2) fun _ S3 h3 => ?_
    have n3 := apB_n (v := a3) (t := apB a2 (apB a1 c 4) 4) 4
    refine bdR (sp_X3_put4 (v := a4) (by omega) hφ h3) fun _ S4 h4 => ?_
    have n4 := apB_n (v := a4) (t := apB a3 (apB a2 (apB a1 c 4) 4) 4) 4
    refine bdR (sp_X3_put4 (v := a5) (by omega) hφ h4) fun _ S5 h5 => ?_
    have n5 := apB_n (v := a5) (t := apB a4 (apB a3 (apB a2 (apB a1 c 4) 4) 4) 4) 4
    rw [bd_gI1, h5.n, rt_ap]
    refine Rs.mk ⟨?_, h5⟩
    congr 1
    omega
  · rw [show feedS c a1 a2 a3 a4 a5 = (-1, c) from if_neg h, if_neg (by rw [show (200 : Int32) = iN 200 from rfl, iN_le (by omega) (by decide)]; omega), rt_ap]
    exact Rs.mk ⟨rfl, hT⟩
