/-! PURE: a new crew in the component -/
def c8 (T : amSt) (r n x b : Nat) (a3 a5 : Int32) : amSt :=
  (u3 (u3 (u3 (u3 (u3 (u3 (u3 (u3 (u3 (u3 (u3 T.1 6 r 5 0) 6 r 7 (-1)) 6 r 8 (-1)) 6 r 9 (-1)) 6 r 13 (-1)) 6 r 0 (iN n)) 6 r 1 (iN x)) 6 r 4 a3) 6 r 2 (iN b)) 6 r 3 a5) 6 r 6 (iN x), T.2)
theorem sp_X8_init {φ : amSh} {T : amSt} {r n x b : Nat} {a3 a5 : Int32} (hr : r ≠ 0) (hz : a3 = 0 ∨ a3 = 1) : p_X8_init r (iN n) (iN x) a3 (iN b) a5 φ T = some ((), c8 T r n x b a3 a5) := by
  unfold p_X8_init c8
  rw [bd_nn hr, bd_pI hr, bd_pI hr, bd_pI hr, bd_pI hr, bd_pI hr, bd_pI hr, bd_pI hr, bd_gd hz, bd_pI hr, bd_pI hr, bd_pI hr, bd_pI hr, rt_ap]
/-- what the making of a crew leaves -/
def MC (n s x b : Nat) (a3 a5 : Int32) (S S1 : amSt) : Prop := (∀ q i j, ¬ (q = 6 ∧ i = n + 1) → S1.1 q i j = S.1 q i j) ∧ (∀ q i j, ¬ (q = 6 ∧ i = n + 1) → S1.2.2 q i j = S.2.2 q i j) ∧ (S1.1 6 (n + 1) 0 = iN n) ∧ (S1.1 6 (n + 1) 1 = iN x) ∧ (S1.1 6 (n + 1) 2 = iN b) ∧ (S1.1 6 (n + 1) 3 = a5) ∧ (S1.1 6 (n + 1) 4 = a3) ∧ (S1.1 6 (n + 1) 5 = 0) ∧ (S1.1 6 (n + 1) 6 = iN x) ∧ (S1.1 6 (n + 1) 7 = -1) ∧ (S1.1 6 (n + 1) 8 = -1) ∧ (S1.1 6 (n + 1) 9 = -1) ∧ (∀ j, j = 10 ∨ j = 11 ∨ j = 12 → S1.1 6 (n + 1) j = 0) ∧ (S1.2.2 6 (n + 1) 15 = 0) ∧ (s < 3 → S1.1 6 (n + 1) 16 = iN (if s < 2 then 100 else if s = 2 then 1 else 0)) ∧ (s < 2 → S1.1 6 (n + 1) 17 = iN (if s < 2 then 10 else 0)) ∧ (s = 1 → S1.1 6 (n + 1) 18 = iN (if s = 1 then 1 else 0))
theorem MC.o1 {n s x b : Nat} {a3 a5 : Int32} {S S1 : amSt} (hx_ : MC n s x b a3 a5 S S1) : ∀ q i j, ¬ (q = 6 ∧ i = n + 1) → S1.1 q i j = S.1 q i j := And.left hx_
theorem MC.o2 {n s x b : Nat} {a3 a5 : Int32} {S S1 : amSt} (hx_ : MC n s x b a3 a5 S S1) : ∀ q i j, ¬ (q = 6 ∧ i = n + 1) → S1.2.2 q i j = S.2.2 q i j := And.left (And.right hx_)
theorem MC.f0 {n s x b : Nat} {a3 a5 : Int32} {S S1 : amSt} (hx_ : MC n s x b a3 a5 S S1) : S1.1 6 (n + 1) 0 = iN n := And.left (And.right (And.right hx_))
theorem MC.f1 {n s x b : Nat} {a3 a5 : Int32} {S S1 : amSt} (hx_ : MC n s x b a3 a5 S S1) : S1.1 6 (n + 1) 1 = iN x := And.left (And.right (And.right (And.right hx_)))
theorem MC.f2 {n s x b : Nat} {a3 a5 : Int32} {S S1 : amSt} (hx_ : MC n s x b a3 a5 S S1) : S1.1 6 (n + 1) 2 = iN b := And.left (And.right (And.right (And.right (And.right hx_))))
theorem MC.f3 {n s x b : Nat} {a3 a5 : Int32} {S S1 : amSt} (hx_ : MC n s x b a3 a5 S S1) : S1.1 6 (n + 1) 3 = a5 := And.left (And.right (And.right (And.right (And.right (And.right hx_)))))
theorem MC.f4 {n s x b : Nat} {a3 a5 : Int32} {S S1 : amSt} (hx_ : MC n s x b a3 a5 S S1) : S1.1 6 (n + 1) 4 = a3 := And.left (And.right (And.right (And.right (And.right (And.right (And.right hx_))))))
theorem MC.f5 {n s x b : Nat} {a3 a5 : Int32} {S S1 : amSt} (hx_ : MC n s x b a3 a5 S S1) : S1.1 6 (n + 1) 5 = 0 := And.left (And.right (And.right (And.right (And.right (And.right (And.right (And.right hx_)))))))
theorem MC.f6 {n s x b : Nat} {a3 a5 : Int32} {S S1 : amSt} (hx_ : MC n s x b a3 a5 S S1) : S1.1 6 (n + 1) 6 = iN x := And.left (And.right (And.right (And.right (And.right (And.right (And.right (And.right (And.right hx_))))))))
theorem MC.f7 {n s x b : Nat} {a3 a5 : Int32} {S S1 : amSt} (hx_ : MC n s x b a3 a5 S S1) : S1.1 6 (n + 1) 7 = -1 := And.left (And.right (And.right (And.right (And.right (And.right (And.right (And.right (And.right (And.right hx_)))))))))
theorem MC.f8 {n s x b : Nat} {a3 a5 : Int32} {S S1 : amSt} (hx_ : MC n s x b a3 a5 S S1) : S1.1 6 (n + 1) 8 = -1 := And.left (And.right (And.right (And.right (And.right (And.right (And.right (And.right (And.right (And.right (And.right hx_))))))))))
theorem MC.f9 {n s x b : Nat} {a3 a5 : Int32} {S S1 : amSt} (hx_ : MC n s x b a3 a5 S S1) : S1.1 6 (n + 1) 9 = -1 := And.left (And.right (And.right (And.right (And.right (And.right (And.right (And.right (And.right (And.right (And.right (And.right hx_)))))))))))
theorem MC.f10 {n s x b : Nat} {a3 a5 : Int32} {S S1 : amSt} (hx_ : MC n s x b a3 a5 S S1) : ∀ j, j = 10 ∨ j = 11 ∨ j = 12 → S1.1 6 (n + 1) j = 0 := And.left (And.right (And.right (And.right (And.right (And.right (And.right (And.right (And.right (And.right (And.right (And.right (And.right hx_))))))))))))
theorem MC.f15 {n s x b : Nat} {a3 a5 : Int32} {S S1 : amSt} (hx_ : MC n s x b a3 a5 S S1) : S1.2.2 6 (n + 1) 15 = 0 := And.left (And.right (And.right (And.right (And.right (And.right (And.right (And.right (And.right (And.right (And.right (And.right (And.right (And.right hx_)))))))))))))
theorem MC.f16 {n s x b : Nat} {a3 a5 : Int32} {S S1 : amSt} (hx_ : MC n s x b a3 a5 S S1) : s < 3 → S1.1 6 (n + 1) 16 = iN (if s < 2 then 100 else if s = 2 then 1 else 0) := And.left (And.right (And.right (And.right (And.right (And.right (And.right (And.right (And.right (And.right (And.right (And.right (And.right (And.right (And.right hx_))))))))))))))
theorem MC.f17 {n s x b : Nat} {a3 a5 : Int32} {S S1 : amSt} (hx_ : MC n s x b a3 a5 S S1) : s < 2 → S1.1 6 (n + 1) 17 = iN (if s < 2 then 10 else 0) := And.left (And.right (And.right (And.right (And.right (And.right (And.right (And.right (And.right (And.right (And.right (And.right (And.right (And.right (And.right (And.right hx_)))))))))))))))
theorem MC.f18 {n s x b : Nat} {a3 a5 : Int32} {S S1 : amSt} (hx_ : MC n s x b a3 a5 S S1) : s = 1 → S1.1 6 (n + 1) 18 = iN (if s = 1 then 1 else 0) := (And.right (And.right (And.right (And.right (And.right (And.right (And.right (And.right (And.right (And.right (And.right (And.right (And.right (And.right (And.right (And.right hx_))))))))))))))))
theorem MC.mk {n s x b : Nat} {a3 a5 : Int32} {S S1 : amSt} (h_o1 : ∀ q i j, ¬ (q = 6 ∧ i = n + 1) → S1.1 q i j = S.1 q i j) (h_o2 : ∀ q i j, ¬ (q = 6 ∧ i = n + 1) → S1.2.2 q i j = S.2.2 q i j) (h_f0 : S1.1 6 (n + 1) 0 = iN n) (h_f1 : S1.1 6 (n + 1) 1 = iN x) (h_f2 : S1.1 6 (n + 1) 2 = iN b) (h_f3 : S1.1 6 (n + 1) 3 = a5) (h_f4 : S1.1 6 (n + 1) 4 = a3) (h_f5 : S1.1 6 (n + 1) 5 = 0) (h_f6 : S1.1 6 (n + 1) 6 = iN x) (h_f7 : S1.1 6 (n + 1) 7 = -1) (h_f8 : S1.1 6 (n + 1) 8 = -1) (h_f9 : S1.1 6 (n + 1) 9 = -1) (h_f10 : ∀ j, j = 10 ∨ j = 11 ∨ j = 12 → S1.1 6 (n + 1) j = 0) (h_f15 : S1.2.2 6 (n + 1) 15 = 0) (h_f16 : s < 3 → S1.1 6 (n + 1) 16 = iN (if s < 2 then 100 else if s = 2 then 1 else 0)) (h_f17 : s < 2 → S1.1 6 (n + 1) 17 = iN (if s < 2 then 10 else 0)) (h_f18 : s = 1 → S1.1 6 (n + 1) 18 = iN (if s = 1 then 1 else 0)) : MC n s x b a3 a5 S S1 := And.intro h_o1 (And.intro h_o2 (And.intro h_f0 (And.intro h_f1 (And.intro h_f2 (And.intro h_f3 (And.intro h_f4 (And.intro h_f5 (And.intro h_f6 (And.intro h_f7 (And.intro h_f8 (And.intro h_f9 (And.intro h_f10 (And.intro h_f15 (And.intro h_f16 (And.intro h_f17 (h_f18))))))))))))))))
theorem MC.of {φ : amSh} {S : amSt} {n s x b : Nat} {a3 a5 : Int32} (hc : φ.1 6 = n) {S1 : amSt} (e2 : S1.2 = (nS φ S 6).2) (e1 : ∀ q i j, ¬ (q = 6 ∧ i = n + 1 ∧ 16 ≤ j) → S1.1 q i j = (c8 (nS φ S 6) (n + 1) n x b a3 a5).1 q i j)
    (f16 : s < 3 → S1.1 6 (n + 1) 16 = iN (if s < 2 then 100 else if s = 2 then 1 else 0)) (f17 : s < 2 → S1.1 6 (n + 1) 17 = iN (if s < 2 then 10 else 0)) (f18 : s = 1 → S1.1 6 (n + 1) 18 = iN (if s = 1 then 1 else 0)) : MC n s x b a3 a5 S S1 := by
  refine MC.mk ?_ ?_ ?_ ?_ ?_ ?_ ?_ ?_ ?_ ?_ ?_ ?_ ?_ ?_ f16 f17 f18
  · intro q i j h
    rw [e1 _ _ _ (fun z => h ⟨z.1, z.2.1⟩)]
    have e : ∀ {g : Nat → Nat → Nat → Int32} {m : Nat} {v : Int32}, u3 g 6 (n + 1) m v q i j = g q i j := fun {g m v} => by
      unfold u3; rw [if_neg (fun z => h ⟨z.1, z.2.1⟩)]
    show u3 (u3 (u3 (u3 (u3 (u3 (u3 (u3 (u3 (u3 (u3 (nS φ S 6).1 6 (n + 1) 5 0) 6 (n + 1) 7 (-1)) 6 (n + 1) 8 (-1)) 6 (n + 1) 9 (-1)) 6 (n + 1) 13 (-1)) 6 (n + 1) 0 (iN n)) 6 (n + 1) 1 (iN x)) 6 (n + 1) 4 a3) 6 (n + 1) 2 (iN b)) 6 (n + 1) 3 a5) 6 (n + 1) 6 (iN x) q i j = _
    rw [e, e, e, e, e, e, e, e, e, e, e]
    rw [(nS_o (φ := φ) (S := S) (p := 6) (q := q) (r := i) (by rw [hc]; omega)).1]
  · intro q i j h
    rw [e2, (nS_o (φ := φ) (S := S) (p := 6) (q := q) (r := i) (by rw [hc]; omega)).2.1]
  · rw [e1 _ _ _ (by omega)]; simp [c8, u3]
  · rw [e1 _ _ _ (by omega)]; simp [c8, u3]
  · rw [e1 _ _ _ (by omega)]; simp [c8, u3]
  · rw [e1 _ _ _ (by omega)]; simp [c8, u3]
  · rw [e1 _ _ _ (by omega)]; simp [c8, u3]
  · rw [e1 _ _ _ (by omega)]; simp [c8, u3]
  · rw [e1 _ _ _ (by omega)]; simp [c8, u3]
  · rw [e1 _ _ _ (by omega)]; simp [c8, u3]
  · rw [e1 _ _ _ (by omega)]; simp [c8, u3]
  · rw [e1 _ _ _ (by omega)]; simp [c8, u3]
  · intro j hj
    rw [e1 _ _ _ (by omega)]
    have hz := nS_i0 (φ := φ) (S := S) (p := 6) (n := n) (j := j) hc
    rcases hj with rfl | rfl | rfl <;> simp [c8, u3] <;> exact hz
  · rw [e2]; exact nS_r0 hc
theorem sp_X1_make {cr : CCr} {φ : amSh} {S : amSt} (hC : RCcr cr φ S) {s x b : Nat} {a3 a5 : Int32} (hs : s < 4) (hz : a3 = 0 ∨ a3 = 1) :
    Rs1 1 19 (fun r φ1 S1 => r = cr.n + 1 ∧ φ1 = nφ φ 6 (6 + s) ∧ MC cr.n s x b a3 a5 S S1) (p_X1_make (iN s) (iN x) a3 (iN b) a5 φ S) := by
  have hc := hC.cnt
  have h13 : (nS φ S 6).1 0 1 13 = iN cr.n := by simp (disch := first | omega | assumption) only [↓b1_rt, ↓b1_rt1, ↓b1_up_bd, ↓b1_b1, ↓b1_ite, ↓b1_up_ite, ↓b1_jn, ↓jn1_ap, ↓ite1_ap, ↓b1_gI1, ↓b1_pI1, ↓b1_gR1, ↓b1_pR1, ↓b1_gM, rt1_ap, ↓reduceIte, iN_div, iN_divL, iN_add, iN_mul, iN_addL, iN_Ladd, iN_mulL, iN_Lmul, iN_subL, iN_sub, iN_le_T, iN_le_F, iN_lt_T, iN_lt_F, iN_eq_F, iN_leL_T, iN_leL_F, iN_Lle_T, iN_Lle_F, iN_ltL_T, iN_ltL_F, iN_Llt_T, iN_Llt_F, iN_eqL_T, iN_eqL_F, iN_m1, m1_iN, iN_le_m1, m1_le_iN, iN_neg, iN_pos, i10, i01, i00, i11, u3_op, u3_or, u3_same, pup_eq, pup_ne, nS_i, nS_r, nS_d, nS_ir, nS_rr, nS_i0, nS_r0, nφ_1, nφ_11, nφ_2, nφ_3, nφ_2r, nφ_3r, nφ_20, nφ_30, u2_op, u2_or, u2_eq, hC.n]
  have hK : ∀ c, amK (nφ φ 6 c) 6 (cr.n + 1) = c := fun c => by
    show (nφ φ 6 c).2.2 6 (cr.n + 1) = c
    exact nφ_30 hc
  have hr : cr.n + 1 ≠ 0 := by omega
  unfold p_X1_make
  have hs4 : s = 0 ∨ s = 1 ∨ s = 2 ∨ s = 3 := by omega
  rcases hs4 with rfl | rfl | rfl | rfl
  · rw [if_pos (show iN 0 = 0 from rfl), b1_nw]
    rw [hc]
    refine Rs1.acm (K' := 0) (N' := 0) ?_ (by decide) (by decide)
    have hi : p_X9_init (cr.n + 1) (iN cr.n) (iN x) a3 (iN b) a5 (nφ φ 6 6) (nS φ S 6) = some ((), (u3 (u3 (c8 (nS φ S 6) (cr.n + 1) cr.n x b a3 a5).1 6 (cr.n + 1) 16 100) 6 (cr.n + 1) 17 10, (nS φ S 6).2)) := by
      unfold p_X9_init
      rw [bd_nn hr, bd_of (sp_X8_init hr hz), bd_pIs hr (by rw [hK]; decide), bd_pIs hr (by rw [hK]; decide), rt_ap]
      rfl
    rw [b1_gI1, h13, b1_nn hr, bd1_up hi, rt1_ap]
    refine Rs1.mk (by decide) (by decide) ⟨rfl, rfl, MC.of hc rfl ?_ ?_ ?_ ?_⟩
    · intro q i j h; simp only [u3]; rw [if_neg (by omega), if_neg (by omega)]
    · intro _; simp [u3]; rfl
    · intro _; simp [u3]; rfl
    · intro h; omega
  · rw [if_neg (show ¬ iN 1 = 0 by decide), if_pos (show iN 1 = 1 from rfl), b1_nw]
    rw [hc]
    refine Rs1.acm (K' := 0) (N' := 0) ?_ (by decide) (by decide)
    have hi : p_X10_init (cr.n + 1) (iN cr.n) (iN x) a3 (iN b) a5 (nφ φ 6 7) (nS φ S 6) = some ((), (u3 (u3 (u3 (c8 (nS φ S 6) (cr.n + 1) cr.n x b a3 a5).1 6 (cr.n + 1) 16 100) 6 (cr.n + 1) 17 10) 6 (cr.n + 1) 18 1, (nS φ S 6).2)) := by
      unfold p_X10_init p_X9_init
      rw [bd_nn hr, bd_bd, bd_nn hr, bd_bd, bd_of (sp_X8_init hr hz), bd_bd, bd_pIs hr (by rw [hK]; decide), bd_bd, bd_pIs hr (by rw [hK]; decide), bd_rt, bd_pIs hr (by rw [hK]; decide), rt_ap]
      rfl
    rw [b1_gI1, h13, b1_nn hr, bd1_up hi, rt1_ap]
    refine Rs1.mk (by decide) (by decide) ⟨rfl, rfl, MC.of hc rfl ?_ ?_ ?_ ?_⟩
    · intro q i j h; simp only [u3]; rw [if_neg (by omega), if_neg (by omega), if_neg (by omega)]
    · intro _; simp [u3]; rfl
    · intro _; simp [u3]; rfl
    · intro _; simp [u3]; rfl
  · rw [if_neg (show ¬ iN 2 = 0 by decide), if_neg (show ¬ iN 2 = 1 by decide), if_pos (show iN 2 = 2 from rfl), b1_nw]
    rw [hc]
    refine Rs1.acm (K' := 0) (N' := 0) ?_ (by decide) (by decide)
    have hi : p_X11_init (cr.n + 1) (iN cr.n) (iN x) a3 (iN b) a5 (nφ φ 6 8) (nS φ S 6) = some ((), (u3 (c8 (nS φ S 6) (cr.n + 1) cr.n x b a3 a5).1 6 (cr.n + 1) 16 1, (nS φ S 6).2)) := by
      unfold p_X11_init
      rw [bd_nn hr, bd_of (sp_X8_init hr hz), bd_pIs hr (by rw [hK]; decide), rt_ap]
      rfl
    rw [b1_gI1, h13, b1_nn hr, bd1_up hi, rt1_ap]
    refine Rs1.mk (by decide) (by decide) ⟨rfl, rfl, MC.of hc rfl ?_ ?_ ?_ ?_⟩
    · intro q i j h; simp only [u3]; rw [if_neg (by omega)]
    · intro _; simp [u3]; rfl
    · intro h; omega
    · intro h; omega
  · rw [if_neg (show ¬ iN 3 = 0 by decide), if_neg (show ¬ iN 3 = 1 by decide), if_neg (show ¬ iN 3 = 2 by decide), b1_nw]
    rw [hc]
    refine Rs1.acm (K' := 0) (N' := 0) ?_ (by decide) (by decide)
    have hi : p_X12_init (cr.n + 1) (iN cr.n) (iN x) a3 (iN b) a5 (nφ φ 6 9) (nS φ S 6) = some ((), c8 (nS φ S 6) (cr.n + 1) cr.n x b a3 a5) := by
      unfold p_X12_init
      rw [bd_nn hr, bd_of (sp_X8_init hr hz), rt_ap]
    rw [b1_gI1, h13, b1_nn hr, bd1_up hi, rt1_ap]
    refine Rs1.mk (by decide) (by decide) ⟨rfl, rfl, MC.of hc rfl ?_ ?_ ?_ ?_⟩
    · intro q i j h; rfl
    · intro h; omega
    · intro h; omega
    · intro h; omega
theorem op_X1_crew {cr : CCr} {nh : Nat} (w : cr.WF nh) {φ : amSh} {S : amSt} (hφ : φ.1 255 ≠ 0) (hC : RCcr cr φ S) {a1 a2 a3 a4 a5 : Int32} (hz : a3 = 0 ∨ a3 = 1) : Rs1 1 19 (fun v φ' S' => v = (crewS cr a1 a2 a3 a4 a5).1 ∧ RCcr (crewS cr a1 a2 a3 a4 a5).2 φ' S') (p_X1_crew a1 a2 a3 a4 a5 φ S) := by
  have hn := w.hn
  have hc := hC.cnt
  unfold p_X1_crew
  rw [b1_gM hφ, bd1_up sp_X1_in]
  by_cases h1 : out a1 0 3
  · rw [show crewS cr a1 a2 a3 a4 a5 = (-1, cr) by unfold crewS; rw [if_pos h1], jp h1, if_pos rfl, rt1_ap]
    exact Rs1.mk (by decide) (by decide) ⟨rfl, hC⟩
  rw [jq h1, if_neg (by decide), bd1_up sp_X1_isCorner]
  by_cases h2 : inN a2 20
  · rw [ip h2, if_neg (by decide), bd1_up sp_X1_in]
    by_cases h4 : out a4 50 150
    · rw [show crewS cr a1 a2 a3 a4 a5 = (-1, cr) by unfold crewS; rw [if_neg h1, if_pos h2, if_pos h4], jp h4, if_pos rfl, rt1_ap]
      exact Rs1.mk (by decide) (by decide) ⟨rfl, hC⟩
    rw [jq h4, if_neg (by decide), bd1_up sp_X1_in]
    by_cases h5 : out a5 1 9
    · rw [show crewS cr a1 a2 a3 a4 a5 = (-1, cr) by unfold crewS; rw [if_neg h1, if_pos h2, if_neg h4, if_pos h5], jp h5, if_pos rfl, rt1_ap]
      exact Rs1.mk (by decide) (by decide) ⟨rfl, hC⟩
    rw [jq h5, if_neg (by decide), b1_gI1, hC.n]
    by_cases h16 : cr.n = 16
    · rw [show crewS cr a1 a2 a3 a4 a5 = (-1, cr) by unfold crewS; rw [if_neg h1, if_pos h2, if_neg h4, if_neg h5, if_pos h16], if_pos (by rw [h16]; rfl), rt1_ap]
      exact Rs1.mk (by decide) (by decide) ⟨rfl, hC⟩
    rw [if_neg (by rw [show (16 : Int32) = iN 16 from rfl, iN_inj (by omega) (by decide)]; exact h16), b1_gI1, hC.n]
    obtain ⟨s, rfl, _, hs⟩ := not_out (lo := 0) (hi := 3) h1 (by decide) (by decide)
    obtain ⟨x, hx, rfl⟩ := h2.ex (by decide)
    obtain ⟨b, rfl, b1, b2⟩ := not_out (lo := 50) (hi := 150) h4 (by decide) (by decide)
    rw [show crewS cr (iN s) (iN x) a3 (iN b) a5 = (iN cr.n, newC cr s x a3 b a5) by unfold crewS; rw [if_neg h1, if_pos h2, if_neg h4, if_neg h5, if_neg h16, iN_nat (by omega), iN_nat (by omega), iN_nat (by omega)]]
    refine bd1R (K1 := 1) (N1 := 19) (K2 := 0) (N2 := 0) (sp_X1_make hC (by omega) hz) (fun r φ1 S1 h => ?_) (by decide) (by decide)
    obtain ⟨rfl, rfl, hM⟩ := h
    have e13 : S1.1 0 1 13 = iN cr.n := (hM.o1 0 1 13 (by omega)).trans hC.n
    have ez := w.z cr.n (Nat.le_refl _)
    rw [b1_wR28_1 (by omega), b1_gI1]
    dsimp only
    rw [e13, b1_pI1, b1_gI1, rt1_ap]
    have e1 : iN cr.n + 1 = iN (cr.n + 1) := iN_add
    refine Rs1.mk (by decide) (by decide) ⟨?_, ?_⟩
    · show u3 S1.1 0 1 13 (iN cr.n + 1) 0 1 13 - 1 = iN cr.n
      simp only [u3_same, pup_eq]
      rw [e1]
      exact (iN_sub (a := cr.n + 1) (b := 1) (by omega))
    · rw [e1]
      refine RCcr.new hC ?_ ?_ ?_ ?_ ?_ ?_ ?_ ?_ ?_ ?_ ?_ ?_ ?_ ?_ ?_ ?_ ?_ ?_ ?_ ?_ ?_ ?_ ?_ ?_ ?_
      · simp [u3]
      · simp [u3]
      · intro k hk
        refine Eq.trans ?_ (hM.o2 28 1 k (by omega))
        have : k ≠ cr.n := by omega
        simp [u3, this]
      · intro k j hk; dsimp only; rw [u3_op (by decide)]; exact hM.o1 6 (k + 1) j (by omega)
      · intro k hk; dsimp only; rw [u3_op (by decide)]; exact hM.o2 6 (k + 1) 15 (by omega)
      · intro k hk; exact nφ_co (by rw [hc]; omega)
      · exact nφ_30 hc
      · rw [nφ_11, hc]
      · dsimp only; rw [u3_op (by decide)]; exact hM.f0
      · dsimp only; rw [u3_op (by decide)]; exact hM.f1
      · dsimp only; rw [u3_op (by decide)]; exact hM.f2
      · dsimp only; rw [u3_op (by decide)]; exact hM.f3
      · dsimp only; rw [u3_op (by decide)]; exact hM.f4
      · dsimp only; rw [u3_op (by decide)]; exact hM.f5
      · dsimp only; rw [u3_op (by decide)]; exact hM.f6
      · dsimp only; rw [u3_op (by decide)]; exact hM.f7
      · dsimp only; rw [u3_op (by decide)]; exact hM.f8
      · dsimp only; rw [u3_op (by decide)]; exact hM.f9
      · dsimp only; rw [u3_op (by decide), hM.f10 10 (by omega), ez.1]; rfl
      · dsimp only; rw [u3_op (by decide), hM.f10 11 (by omega), ez.2.1]
      · dsimp only; rw [u3_op (by decide), hM.f10 12 (by omega), ez.2.2]
      · dsimp only; rw [u3_op (by decide)]; exact hM.f15
      · intro h; dsimp only; rw [u3_op (by decide)]; exact hM.f16 h
      · intro h; dsimp only; rw [u3_op (by decide)]; exact hM.f17 h
      · intro h; dsimp only; rw [u3_op (by decide)]; exact hM.f18 h
  · rw [show crewS cr a1 a2 a3 a4 a5 = (-1, cr) by unfold crewS; rw [if_neg h1, if_neg h2], iq h2, if_pos rfl, rt1_ap]
    exact Rs1.mk (by decide) (by decide) ⟨rfl, hC⟩
