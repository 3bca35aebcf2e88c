/-! PURE: bytes are fed -/
def arF (a1 a2 a3 a4 a5 : Int32) (m : Nat) : Int32 := if m = 0 then a1 else if m = 1 then a2 else if m = 2 then a3 else if m = 3 then a4 else a5
def cntK (f : Nat → Int32) (k : Nat) : Nat := itn (fun k n => if byt (f (k / 4)) (k % 4) = 0 then n else n + 1) 0 k
def apK (f : Nat → Int32) (t : CTp) (k : Nat) : CTp := itn (fun k t => apW (f (k / 4)) (k % 4) t) t k
theorem cntK_mono {f : Nat → Int32} {k : Nat} : ∀ m, cntK f k ≤ cntK f (k + m) := by
  intro m
  induction m with
  | zero => exact Nat.le_refl _
  | succ m ih =>
    refine Nat.le_trans ih ?_
    show cntK f (k + m) ≤ (if byt (f ((k + m) / 4)) ((k + m) % 4) = 0 then cntK f (k + m) else cntK f (k + m) + 1)
    split <;> omega
theorem cntK_le {f : Nat → Int32} : ∀ k, cntK f k ≤ k := by
  intro k
  induction k with
  | zero => exact Nat.le_refl _
  | succ k ih =>
    show (if byt (f (k / 4)) (k % 4) = 0 then cntK f k else cntK f k + 1) ≤ k + 1
    split <;> omega
theorem apK_n {f : Nat → Int32} {t : CTp} : ∀ k, (apK f t k).n = t.n + cntK f k := by
  intro k
  induction k with
  | zero => rfl
  | succ k ih =>
    show (apW (f (k / 4)) (k % 4) (apK f t k)).n = t.n + (if byt (f (k / 4)) (k % 4) = 0 then cntK f k else cntK f k + 1)
    unfold apW
    split
    · exact ih
    · show (apK f t k).n + 1 = _; omega
theorem sp_X1_byteOf {a1 a2 a3 a4 a5 : Int32} {k : Nat} (hk : k < 20) {φ : amSh} {S : amSt} : p_X1_byteOf a1 a2 a3 a4 a5 (iN k) φ S = some (byt (arF a1 a2 a3 a4 a5 (k / 4)) (k % 4), S) := by
  have e1 : (24 : Int32) - 8 * (iN k - iN k / 4 * 4) = iN (24 - 8 * (k % 4)) := by
    rw [show (4 : Int32) = iN 4 from rfl, iN_mod (by omega) (by decide), show (8 : Int32) * iN (k % 4) = iN (8 * (k % 4)) from iN_mul, show (24 : Int32) = iN 24 from rfl, iN_sub (by omega)]
  unfold p_X1_byteOf byt
  have h5 : k / 4 = 0 ∨ k / 4 = 1 ∨ k / 4 = 2 ∨ k / 4 = 3 ∨ k / 4 = 4 := by omega
  rcases h5 with e | e | e | e | e <;> rw [e] <;> unfold arF
  · rw [bd_of (a := a1) (S1 := S) (by simp (disch := first | omega | assumption) only [↓bd_rt, ↓bd_bd, ↓bd_ite, ↓bd_jn, ↓jn_ap, ↓ite_ap, ↓bd_gI1, ↓bd_pI1, ↓bd_gR1, ↓bd_pR1, ↓bd_gM, rt_ap, ↓reduceIte, iN_div, iN_divL, iN_add, iN_mul, iN_addL, iN_Ladd, iN_mulL, iN_Lmul, iN_subL, iN_sub, iN_le_T, iN_le_F, iN_lt_T, iN_lt_F, iN_eq_F, iN_leL_T, iN_leL_F, iN_Lle_T, iN_Lle_F, iN_ltL_T, iN_ltL_F, iN_Llt_T, iN_Llt_F, iN_eqL_T, iN_eqL_F, iN_m1, m1_iN, iN_le_m1, m1_le_iN, iN_neg, iN_pos, i10, i01, i00, i11, u3_op, u3_or, u3_same, pup_eq, pup_ne]), rt_ap, e1]; rfl
  · rw [bd_of (a := a2) (S1 := S) (by simp (disch := first | omega | assumption) only [↓bd_rt, ↓bd_bd, ↓bd_ite, ↓bd_jn, ↓jn_ap, ↓ite_ap, ↓bd_gI1, ↓bd_pI1, ↓bd_gR1, ↓bd_pR1, ↓bd_gM, rt_ap, ↓reduceIte, iN_div, iN_divL, iN_add, iN_mul, iN_addL, iN_Ladd, iN_mulL, iN_Lmul, iN_subL, iN_sub, iN_le_T, iN_le_F, iN_lt_T, iN_lt_F, iN_eq_F, iN_leL_T, iN_leL_F, iN_Lle_T, iN_Lle_F, iN_ltL_T, iN_ltL_F, iN_Llt_T, iN_Llt_F, iN_eqL_T, iN_eqL_F, iN_m1, m1_iN, iN_le_m1, m1_le_iN, iN_neg, iN_pos, i10, i01, i00, i11, u3_op, u3_or, u3_same, pup_eq, pup_ne]), rt_ap, e1]; rfl
  · rw [bd_of (a := a3) (S1 := S) (by simp (disch := first | omega | assumption) only [↓bd_rt, ↓bd_bd, ↓bd_ite, ↓bd_jn, ↓jn_ap, ↓ite_ap, ↓bd_gI1, ↓bd_pI1, ↓bd_gR1, ↓bd_pR1, ↓bd_gM, rt_ap, ↓reduceIte, iN_div, iN_divL, iN_add, iN_mul, iN_addL, iN_Ladd, iN_mulL, iN_Lmul, iN_subL, iN_sub, iN_le_T, iN_le_F, iN_lt_T, iN_lt_F, iN_eq_F, iN_leL_T, iN_leL_F, iN_Lle_T, iN_Lle_F, iN_ltL_T, iN_ltL_F, iN_Llt_T, iN_Llt_F, iN_eqL_T, iN_eqL_F, iN_m1, m1_iN, iN_le_m1, m1_le_iN, iN_neg, iN_pos, i10, i01, i00, i11, u3_op, u3_or, u3_same, pup_eq, pup_ne]), rt_ap, e1]; rfl
  · rw [bd_of (a := a4) (S1 := S) (by simp (disch := first | omega | assumption) only [↓bd_rt, ↓bd_bd, ↓bd_ite, ↓bd_jn, ↓jn_ap, ↓ite_ap, ↓bd_gI1, ↓bd_pI1, ↓bd_gR1, ↓bd_pR1, ↓bd_gM, rt_ap, ↓reduceIte, iN_div, iN_divL, iN_add, iN_mul, iN_addL, iN_Ladd, iN_mulL, iN_Lmul, iN_subL, iN_sub, iN_le_T, iN_le_F, iN_lt_T, iN_lt_F, iN_eq_F, iN_leL_T, iN_leL_F, iN_Lle_T, iN_Lle_F, iN_ltL_T, iN_ltL_F, iN_Llt_T, iN_Llt_F, iN_eqL_T, iN_eqL_F, iN_m1, m1_iN, iN_le_m1, m1_le_iN, iN_neg, iN_pos, i10, i01, i00, i11, u3_op, u3_or, u3_same, pup_eq, pup_ne]), rt_ap, e1]; rfl
  · rw [bd_of (a := a5) (S1 := S) (by simp (disch := first | omega | assumption) only [↓bd_rt, ↓bd_bd, ↓bd_ite, ↓bd_jn, ↓jn_ap, ↓ite_ap, ↓bd_gI1, ↓bd_pI1, ↓bd_gR1, ↓bd_pR1, ↓bd_gM, rt_ap, ↓reduceIte, iN_div, iN_divL, iN_add, iN_mul, iN_addL, iN_Ladd, iN_mulL, iN_Lmul, iN_subL, iN_sub, iN_le_T, iN_le_F, iN_lt_T, iN_lt_F, iN_eq_F, iN_leL_T, iN_leL_F, iN_Lle_T, iN_Lle_F, iN_ltL_T, iN_ltL_F, iN_Llt_T, iN_Llt_F, iN_eqL_T, iN_eqL_F, iN_m1, m1_iN, iN_le_m1, m1_le_iN, iN_neg, iN_pos, i10, i01, i00, i11, u3_op, u3_or, u3_same, pup_eq, pup_ne]), rt_ap, e1]; rfl
def feedS (c : CTp) (a1 a2 a3 a4 a5 : Int32) : Int32 × CTp := if c.n + cntK (arF a1 a2 a3 a4 a5) 20 ≤ 200 then (iN (c.n + cntK (arF a1 a2 a3 a4 a5) 20), apK (arF a1 a2 a3 a4 a5) c 20) else (-1, c)
theorem op_X1_feed {c : CTp} (hn : c.n ≤ 200) {φ : amSh} {S : amSt} (hφ : φ.1 255 ≠ 0) (hT : RCtp c S) {a1 a2 a3 a4 a5 : Int32} : Rs (fun v S' => v = (feedS c a1 a2 a3 a4 a5).1 ∧ RCtp (feedS c a1 a2 a3 a4 a5).2 S') (p_X1_feed a1 a2 a3 a4 a5 φ S) := by
  have hc20 := cntK_le (f := arF a1 a2 a3 a4 a5) 20
  have key1 : alp (p_X1_feed_L6 a1 a2 a3 a4 a5) amFu (0, 0) φ S = some (iN (cntK (arF a1 a2 a3 a4 a5) 20), S) := by
    refine alp_st (fun k => (iN (cntK (arF a1 a2 a3 a4 a5) k), iN k)) (fun _ => S) 20 ?_ ?_ (amFu_lt (by decide))
    · intro k hk rec
      have e : cntK (arF a1 a2 a3 a4 a5) (k + 1) = (if byt (arF a1 a2 a3 a4 a5 (k / 4)) (k % 4) = 0 then cntK (arF a1 a2 a3 a4 a5) k else cntK (arF a1 a2 a3 a4 a5) k + 1) := rfl
      rw [e]
      unfold p_X1_feed_L6
      by_cases h : byt (arF a1 a2 a3 a4 a5 (k / 4)) (k % 4) = 0
      · rw [if_pos h]
        simp (disch := first | omega | assumption) only [↓bd_rt, ↓bd_bd, ↓bd_ite, ↓bd_jn, ↓jn_ap, ↓ite_ap, ↓bd_gI1, ↓bd_pI1, ↓bd_gR1, ↓bd_pR1, ↓bd_gM, rt_ap, ↓reduceIte, iN_div, iN_divL, iN_add, iN_mul, iN_addL, iN_Ladd, iN_mulL, iN_Lmul, iN_subL, iN_sub, iN_le_T, iN_le_F, iN_lt_T, iN_lt_F, iN_eq_F, iN_leL_T, iN_leL_F, iN_Lle_T, iN_Lle_F, iN_ltL_T, iN_ltL_F, iN_Llt_T, iN_Llt_F, iN_eqL_T, iN_eqL_F, iN_m1, m1_iN, iN_le_m1, m1_le_iN, iN_neg, iN_pos, i10, i01, i00, i11, u3_op, u3_or, u3_same, pup_eq, pup_ne, ↓bd_of (sp_X1_byteOf hk), if_pos h]
      · rw [if_neg h]
        simp (disch := first | omega | assumption) only [↓bd_rt, ↓bd_bd, ↓bd_ite, ↓bd_jn, ↓jn_ap, ↓ite_ap, ↓bd_gI1, ↓bd_pI1, ↓bd_gR1, ↓bd_pR1, ↓bd_gM, rt_ap, ↓reduceIte, iN_div, iN_divL, iN_add, iN_mul, iN_addL, iN_Ladd, iN_mulL, iN_Lmul, iN_subL, iN_sub, iN_le_T, iN_le_F, iN_lt_T, iN_lt_F, iN_eq_F, iN_leL_T, iN_leL_F, iN_Lle_T, iN_Lle_F, iN_ltL_T, iN_ltL_F, iN_Llt_T, iN_Llt_F, iN_eqL_T, iN_eqL_F, iN_m1, m1_iN, iN_le_m1, m1_le_iN, iN_neg, iN_pos, i10, i01, i00, i11, u3_op, u3_or, u3_same, pup_eq, pup_ne, ↓bd_of (sp_X1_byteOf hk), if_neg h]
    · intro rec
      unfold p_X1_feed_L6
      dsimp only
      simp (disch := first | omega | assumption) only [↓bd_rt, ↓bd_bd, ↓bd_ite, ↓bd_jn, ↓jn_ap, ↓ite_ap, ↓bd_gI1, ↓bd_pI1, ↓bd_gR1, ↓bd_pR1, ↓bd_gM, rt_ap, ↓reduceIte, iN_div, iN_divL, iN_add, iN_mul, iN_addL, iN_Ladd, iN_mulL, iN_Lmul, iN_subL, iN_sub, iN_le_T, iN_le_F, iN_lt_T, iN_lt_F, iN_eq_F, iN_leL_T, iN_leL_F, iN_Lle_T, iN_Lle_F, iN_ltL_T, iN_ltL_F, iN_Llt_T, iN_Llt_F, iN_eqL_T, iN_eqL_F, iN_m1, m1_iN, iN_le_m1, m1_le_iN, iN_neg, iN_pos, i10, i01, i00, i11, u3_op, u3_or, u3_same, pup_eq, pup_ne]
  unfold p_X1_feed
  rw [bd_gM hφ, bd_of key1, bd_gI1, hT.n, iN_add]
  by_cases h : c.n + cntK (arF a1 a2 a3 a4 a5) 20 ≤ 200
  · rw [show feedS c a1 a2 a3 a4 a5 = (iN (c.n + cntK (arF a1 a2 a3 a4 a5) 20), apK (arF a1 a2 a3 a4 a5) c 20) from if_pos h, if_pos (by rw [show (200 : Int32) = iN 200 from rfl, iN_le (by omega) (by decide)]; exact h)]
    refine bdR (Q := fun _ S' => RCtp (apK (arF a1 a2 a3 a4 a5) c 20) S') ?_ fun _ S1 h1 => ?_
    · refine alp_I (fun k x S' => x = iN k ∧ RCtp (apK (arF a1 a2 a3 a4 a5) c k) S') 20 (amFu_lt (by decide)) ⟨rfl, hT⟩ ?_ ?_
      · rintro k x S1 hk ⟨rfl, h1⟩ rec
        have ekn := apK_n (f := arF a1 a2 a3 a4 a5) (t := c) k
        have hm := cntK_mono (f := arF a1 a2 a3 a4 a5) (k := k + 1) (19 - k)
        rw [show k + 1 + (19 - k) = 20 by omega] at hm
        have e : cntK (arF a1 a2 a3 a4 a5) (k + 1) = (if byt (arF a1 a2 a3 a4 a5 (k / 4)) (k % 4) = 0 then cntK (arF a1 a2 a3 a4 a5) k else cntK (arF a1 a2 a3 a4 a5) k + 1) := rfl
        rw [e] at hm
        show Lz rec φ (fun x S' => x = iN (k + 1) ∧ RCtp (apW (arF a1 a2 a3 a4 a5 (k / 4)) (k % 4) (apK (arF a1 a2 a3 a4 a5) c k)) S') _ _
        generalize apK (arF a1 a2 a3 a4 a5) c k = d at *
        unfold p_X1_feed_L55 apW
        by_cases hb : byt (arF a1 a2 a3 a4 a5 (k / 4)) (k % 4) = 0
        · rw [if_pos hb]
          simp (disch := first | omega | assumption) only [↓bd_rt, ↓bd_bd, ↓bd_ite, ↓bd_jn, ↓jn_ap, ↓ite_ap, ↓bd_gI1, ↓bd_pI1, ↓bd_gR1, ↓bd_pR1, ↓bd_gM, rt_ap, ↓reduceIte, iN_div, iN_divL, iN_add, iN_mul, iN_addL, iN_Ladd, iN_mulL, iN_Lmul, iN_subL, iN_sub, iN_le_T, iN_le_F, iN_lt_T, iN_lt_F, iN_eq_F, iN_leL_T, iN_leL_F, iN_Lle_T, iN_Lle_F, iN_ltL_T, iN_ltL_F, iN_Llt_T, iN_Llt_F, iN_eqL_T, iN_eqL_F, iN_m1, m1_iN, iN_le_m1, m1_le_iN, iN_neg, iN_pos, i10, i01, i00, i11, u3_op, u3_or, u3_same, pup_eq, pup_ne, ↓bd_of (sp_X1_byteOf hk), if_pos hb]
          exact Lz.go ⟨rfl, h1⟩
        · rw [if_neg hb] at hm
          rw [if_neg hb]
          simp (disch := first | omega | assumption) only [↓bd_rt, ↓bd_bd, ↓bd_ite, ↓bd_jn, ↓jn_ap, ↓ite_ap, ↓bd_gI1, ↓bd_pI1, ↓bd_gR1, ↓bd_pR1, ↓bd_gM, rt_ap, ↓reduceIte, iN_div, iN_divL, iN_add, iN_mul, iN_addL, iN_Ladd, iN_mulL, iN_Lmul, iN_subL, iN_sub, iN_le_T, iN_le_F, iN_lt_T, iN_lt_F, iN_eq_F, iN_leL_T, iN_leL_F, iN_Lle_T, iN_Lle_F, iN_ltL_T, iN_ltL_F, iN_Llt_T, iN_Llt_F, iN_eqL_T, iN_eqL_F, iN_m1, m1_iN, iN_le_m1, m1_le_iN, iN_neg, iN_pos, i10, i01, i00, i11, u3_op, u3_or, u3_same, pup_eq, pup_ne, ↓bd_of (sp_X1_byteOf hk), if_neg hb, h1.n, ↓wI30_1, i8_i8]
          refine Lz.go ⟨rfl, RCtp.mk ?_ ?_⟩
          · simp (disch := first | omega | assumption) only [↓bd_rt, ↓bd_bd, ↓bd_ite, ↓bd_jn, ↓jn_ap, ↓ite_ap, ↓bd_gI1, ↓bd_pI1, ↓bd_gR1, ↓bd_pR1, ↓bd_gM, rt_ap, ↓reduceIte, iN_div, iN_divL, iN_add, iN_mul, iN_addL, iN_Ladd, iN_mulL, iN_Lmul, iN_subL, iN_sub, iN_le_T, iN_le_F, iN_lt_T, iN_lt_F, iN_eq_F, iN_leL_T, iN_leL_F, iN_Lle_T, iN_Lle_F, iN_ltL_T, iN_ltL_F, iN_Llt_T, iN_Llt_F, iN_eqL_T, iN_eqL_F, iN_m1, m1_iN, iN_le_m1, m1_le_iN, iN_neg, iN_pos, i10, i01, i00, i11, u3_op, u3_or, u3_same, pup_eq, pup_ne]; rfl
          · intro j hj
            have hj2 : j < d.n + 1 := hj
            show _ = pup d.b d.n _ j
            by_cases z : j = d.n
            · subst z; simp [u3, pup]
            · rw [pup_ne z]; refine Eq.trans ?_ (h1.b j (by omega)); simp [u3, z]
      · rintro x S1 ⟨rfl, h1⟩ rec
        unfold p_X1_feed_L55
        simp (disch := first | omega | assumption) only [↓bd_rt, ↓bd_bd, ↓bd_ite, ↓bd_jn, ↓jn_ap, ↓ite_ap, ↓bd_gI1, ↓bd_pI1, ↓bd_gR1, ↓bd_pR1, ↓bd_gM, rt_ap, ↓reduceIte, iN_div, iN_divL, iN_add, iN_mul, iN_addL, iN_Ladd, iN_mulL, iN_Lmul, iN_subL, iN_sub, iN_le_T, iN_le_F, iN_lt_T, iN_lt_F, iN_eq_F, iN_leL_T, iN_leL_F, iN_Lle_T, iN_Lle_F, iN_ltL_T, iN_ltL_F, iN_Llt_T, iN_Llt_F, iN_eqL_T, iN_eqL_F, iN_m1, m1_iN, iN_le_m1, m1_le_iN, iN_neg, iN_pos, i10, i01, i00, i11, u3_op, u3_or, u3_same, pup_eq, pup_ne]
        exact Rs.mk h1
    · rw [bd_gI1, h1.n, apK_n, rt_ap]
      exact Rs.mk ⟨rfl, h1⟩
  · rw [show feedS c a1 a2 a3 a4 a5 = (-1, c) from if_neg h, if_neg (by rw [show (200 : Int32) = iN 200 from rfl, iN_le (by omega) (by decide)]; exact h), rt_ap]
    exact Rs.mk ⟨rfl, hT⟩
