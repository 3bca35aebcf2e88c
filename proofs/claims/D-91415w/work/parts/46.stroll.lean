/-! PURE: feet by going over the streets until nothing changes -/
def sumN (g : Nat → Nat) (n : Nat) : Nat := itn (fun k a => a + g k) 0 n
theorem sumN_s {g : Nat → Nat} {n : Nat} : sumN g (n + 1) = sumN g n + g n := rfl
theorem sumN_upd {g : Nat → Nat} {j v : Nat} : ∀ n, j < n → sumN (pup g j v) n + g j = sumN g n + v := by
  have same : ∀ n, n ≤ j → sumN (pup g j v) n = sumN g n := by
    intro n
    induction n with
    | zero => intro _; rfl
    | succ n ih => intro h; rw [sumN_s, sumN_s, ih (by omega), pup_ne (by omega)]
  intro n
  induction n with
  | zero => intro h; omega
  | succ n ih =>
    intro h
    rw [sumN_s, sumN_s]
    by_cases e : j = n
    · subst e; rw [same j (Nat.le_refl _), pup_eq]; omega
    · rw [pup_ne (by omega)]; have := ih (by omega); omega
theorem sumN_le {g : Nat → Nat} {m : Nat} : ∀ n, (∀ k, k < n → g k ≤ m) → sumN g n ≤ m * n := by
  intro n
  induction n with
  | zero => intro _; exact Nat.le_refl _
  | succ n ih => intro h; rw [sumN_s, Nat.mul_succ]; have := ih fun k hk => h k (by omega); have := h n (by omega); omega
theorem sumN_congr {g g' : Nat → Nat} : ∀ n, (∀ k, k < n → g k = g' k) → sumN g n = sumN g' n := by
  intro n
  induction n with
  | zero => intro _; rfl
  | succ n ih => intro h; rw [sumN_s, sumN_s, ih fun k hk => h k (by omega), h n (by omega)]
def fin1 (f : Nat → Nat) : Nat → Nat := fun k => if f k = 1000000000 then 0 else 1
def pot1 (f : Nat → Nat) : Nat → Nat := fun k => if f k = 1000000000 then 1000 else f k
def cnt (f : Nat → Nat) : Nat := sumN (fin1 f) 20
def pot (f : Nat → Nat) : Nat := sumN (pot1 f) 20
def BF (c : CSt) (a : Nat) (f : Nat → Nat) : Prop := (f a = 0) ∧ (∀ b, f b ≤ 1000000000) ∧ (∀ b, b < 20 → f b = 1000000000 ∨ (Path c a b (f b) ∧ f b + 20 ≤ 20 * cnt f))
theorem BF.z {c : CSt} {a : Nat} {f : Nat → Nat} (h : BF c a f) : f a = 0 := And.left h
theorem BF.le {c : CSt} {a : Nat} {f : Nat → Nat} (h : BF c a f) : ∀ b, f b ≤ 1000000000 := And.left (And.right h)
theorem BF.snd {c : CSt} {a : Nat} {f : Nat → Nat} (h : BF c a f) : ∀ b, b < 20 → f b = 1000000000 ∨ (Path c a b (f b) ∧ f b + 20 ≤ 20 * cnt f) := (And.right (And.right h))
theorem BF.mk {c : CSt} {a : Nat} {f : Nat → Nat} (h_z : f a = 0) (h_le : ∀ b, f b ≤ 1000000000) (h_snd : ∀ b, b < 20 → f b = 1000000000 ∨ (Path c a b (f b) ∧ f b + 20 ≤ 20 * cnt f)) : BF c a f := And.intro h_z (And.intro h_le (h_snd))
theorem cnt_le {f : Nat → Nat} : cnt f ≤ 20 := sumN_le (m := 1) 20 fun k _ => by unfold fin1; split <;> omega
theorem fin1_upd {f : Nat → Nat} {j v : Nat} : fin1 (pup f j v) = pup (fin1 f) j (if v = 1000000000 then 0 else 1) := by
  funext k; unfold fin1 pup; by_cases e : k = j <;> simp [e]
theorem pot1_upd {f : Nat → Nat} {j v : Nat} : pot1 (pup f j v) = pup (pot1 f) j (if v = 1000000000 then 1000 else v) := by
  funext k; unfold pot1 pup; by_cases e : k = j <;> simp [e]
theorem BF.relax1 {c : CSt} {a x y l : Nat} {f : Nat → Nat} (h : BF c a f) (hx : x < 20) (hy : y < 20) (hl : l ≤ 20) (hp : ∀ n, Path c a x n → Path c a y (n + l)) (hlt : f x + l < f y) : BF c a (pup f y (f x + l)) := by
  have hyl := h.le y
  have hc := cnt_le (f := f)
  have hxs : Path c a x (f x) ∧ f x + 20 ≤ 20 * cnt f := by
    rcases h.snd x hx with e | p
    · omega
    · exact p
  have c1 := sumN_upd (g := fin1 f) (j := y) (v := if f x + l = 1000000000 then 0 else 1) 20 hy
  rw [← fin1_upd, if_neg (by omega)] at c1
  have p1 := sumN_upd (g := pot1 f) (j := y) (v := if f x + l = 1000000000 then 1000 else f x + l) 20 hy
  rw [← pot1_upd, if_neg (by omega)] at p1
  have hcn : cnt (pup f y (f x + l)) + fin1 f y = cnt f + 1 := by unfold cnt; exact c1
  have hpo : pot (pup f y (f x + l)) + pot1 f y = pot f + (f x + l) := by unfold pot; exact p1
  have hf1 : fin1 f y ≤ 1 := by unfold fin1; split <;> omega
  have hya : a ≠ y := fun e => by have := h.z; rw [e] at this; omega
  refine BF.mk ?_ (fun b => ?_) (fun b hb => ?_)
  · rw [pup_ne hya]; exact h.z
  · unfold pup; split
    · omega
    · exact h.le b
  · by_cases e : b = y
    · subst e
      rw [pup_eq]
      refine Or.inr ⟨hp _ hxs.1, ?_⟩
      by_cases hfin : f b = 1000000000
      · have : fin1 f b = 0 := by unfold fin1; rw [if_pos hfin]
        omega
      · rcases h.snd b hy with e2 | p2
        · omega
        · omega
    · rw [pup_ne e]
      rcases h.snd b hb with e2 | p2
      · exact Or.inl e2
      · exact Or.inr ⟨p2.1, by omega⟩
theorem BF.relax2 {c : CSt} {a x y l : Nat} {f : Nat → Nat} (h : BF c a f) (hx : x < 20) (hy : y < 20) (hl : l ≤ 20) (hp : ∀ n, Path c a x n → Path c a y (n + l)) (hlt : f x + l < f y) : pot (pup f y (f x + l)) < pot f := by
  have hyl := h.le y
  have hc := cnt_le (f := f)
  have hxs : Path c a x (f x) ∧ f x + 20 ≤ 20 * cnt f := by
    rcases h.snd x hx with e | p
    · omega
    · exact p
  have c1 := sumN_upd (g := fin1 f) (j := y) (v := if f x + l = 1000000000 then 0 else 1) 20 hy
  rw [← fin1_upd, if_neg (by omega)] at c1
  have p1 := sumN_upd (g := pot1 f) (j := y) (v := if f x + l = 1000000000 then 1000 else f x + l) 20 hy
  rw [← pot1_upd, if_neg (by omega)] at p1
  have hcn : cnt (pup f y (f x + l)) + fin1 f y = cnt f + 1 := by unfold cnt; exact c1
  have hpo : pot (pup f y (f x + l)) + pot1 f y = pot f + (f x + l) := by unfold pot; exact p1
  have hf1 : fin1 f y ≤ 1 := by unfold fin1; split <;> omega
  have hya : a ≠ y := fun e => by have := h.z; rw [e] at this; omega
  by_cases hfin : f y = 1000000000
  · have : pot1 f y = 1000 := by unfold pot1; rw [if_pos hfin]
    omega
  · have : pot1 f y = f y := by unfold pot1; rw [if_neg hfin]
    omega
theorem BF.relax {c : CSt} {a x y l : Nat} {f : Nat → Nat} (h : BF c a f) (hx : x < 20) (hy : y < 20) (hl : l ≤ 20) (hp : ∀ n, Path c a x n → Path c a y (n + l)) (hlt : f x + l < f y) : BF c a (pup f y (f x + l)) ∧ pot (pup f y (f x + l)) < pot f :=
  ⟨h.relax1 hx hy hl hp hlt, h.relax2 hx hy hl hp hlt⟩
def Wk (S : amSt) (f : Nat → Nat) : Prop := ∀ b, b < 20 → S.1 23 1 b = iN (f b)
def cls (c : CSt) (f : Nat → Nat) (s : Nat) : Prop := f (c.oth s) ≤ f (c.one s) + c.len s ∧ f (c.one s) ≤ f (c.oth s) + c.len s

theorem sp_X1_stroll_L41 {c : CSt} (h : c.WF) {φ : amSh} {S : amSt} (hR : RCst c φ S) {a : Nat} {f : Nat → Nat} (hW : Wk S f) (hB : BF c a f) :
    Rs (fun b S' => RCst c φ S' ∧ ∃ f', Wk S' f' ∧ BF c a f' ∧ ((b = 1 ∧ pot f' < pot f) ∨ (b = 0 ∧ f' = f ∧ ∀ s, s < c.n → cls c f s))) (alp p_X1_stroll_L41 amFu (0, 0) φ S) := by
  have hn := h.hn
  refine alp_I (fun k x S => x.2 = iN k ∧ RCst c φ S ∧ ∃ f', Wk S f' ∧ BF c a f' ∧ ((x.1 = 1 ∧ pot f' < pot f) ∨ (x.1 = 0 ∧ f' = f ∧ ∀ s, s < k → cls c f s))) c.n (amFu_lt (by omega)) ⟨rfl, hR, f, hW, hB, Or.inr ⟨rfl, rfl, fun s hs => by omega⟩⟩ ?_ ?_
  · rintro s ⟨m, x⟩ S hs ⟨hx, hR, f', hW, hB, hcase⟩ rec
    dsimp only at hx
    subst hx
    have h1 := h.one s hs
    have h2 := h.oth s hs
    have hl := h.len s hs
    have w1 := hW _ h1
    have w2 := hW _ h2
    have b1 := hB.le (c.one s)
    have b2 := hB.le (c.oth s)
    have hw : ∀ {S : amSt} {f : Nat → Nat} {y v : Nat}, Wk S f → Wk (u3 S.1 23 1 y (iN v), S.2) (pup f y v) := by
      intro S f y v hW b hb
      simp only [u3_same, pup]
      split
      · rfl
      · exact hW b hb
    have hfr : ∀ {S : amSt} {y : Nat} {v : Int32}, FrS [23] S (u3 S.1 23 1 y v, S.2) := fun {S y v} p r j hk => sm_u3 fun z => hk (z ▸ kyA (by decide) (by decide) (by decide) _)
    unfold p_X1_stroll_L41
    by_cases q1 : f' (c.one s) + c.len s < f' (c.oth s)
    · have hb1 := hB.relax h1 h2 hl.2 (fun n p => p.fw hs) q1
      have hW1 := hw (y := c.oth s) (v := f' (c.one s) + c.len s) hW
      by_cases q2 : f' (c.one s) + c.len s + c.len s < f' (c.one s)
      · omega
      · by_cases eq : c.one s = c.oth s
        · rw [eq] at q1; omega
        · simp (disch := first | omega | assumption) only [↓bd_rt, ↓bd_bd, ↓bd_ite, ↓bd_jn, ↓jn_ap, ↓ite_ap, ↓bd_gI1, ↓bd_pI1, ↓bd_gR1, ↓bd_pR1, ↓bd_gM, rt_ap, ↓reduceIte, iN_div, iN_divL, iN_add, iN_mul, iN_addL, iN_Ladd, iN_mulL, iN_Lmul, iN_subL, iN_sub, iN_le_T, iN_le_F, iN_lt_T, iN_lt_F, iN_eq_F, iN_leL_T, iN_leL_F, iN_Lle_T, iN_Lle_F, iN_ltL_T, iN_ltL_F, iN_Llt_T, iN_Llt_F, iN_eqL_T, iN_eqL_F, iN_m1, m1_iN, iN_le_m1, m1_le_iN, iN_neg, iN_pos, i10, i01, i00, i11, u3_op, u3_or, u3_same, pup_eq, pup_ne, hR.n, ↓rR20_1, ↓rI23_1, ↓wI23_1, hR.obj s hs, ↓bd_gI, hR.one s hs, hR.oth s hs, hR.len s hs, w1, w2, eq]
          exact Lz.go ⟨rfl, hR.fr hfr (by decide), _, hW1, hb1.1, Or.inl ⟨rfl, by rcases hcase with ⟨_, hp⟩ | ⟨_, rfl, _⟩ <;> omega⟩⟩
    · by_cases q2 : f' (c.oth s) + c.len s < f' (c.one s)
      · have hb1 := hB.relax h2 h1 hl.2 (fun n p => p.bw hs) q2
        have hW1 := hw (y := c.one s) (v := f' (c.oth s) + c.len s) hW
        simp (disch := first | omega | assumption) only [↓bd_rt, ↓bd_bd, ↓bd_ite, ↓bd_jn, ↓jn_ap, ↓ite_ap, ↓bd_gI1, ↓bd_pI1, ↓bd_gR1, ↓bd_pR1, ↓bd_gM, rt_ap, ↓reduceIte, iN_div, iN_divL, iN_add, iN_mul, iN_addL, iN_Ladd, iN_mulL, iN_Lmul, iN_subL, iN_sub, iN_le_T, iN_le_F, iN_lt_T, iN_lt_F, iN_eq_F, iN_leL_T, iN_leL_F, iN_Lle_T, iN_Lle_F, iN_ltL_T, iN_ltL_F, iN_Llt_T, iN_Llt_F, iN_eqL_T, iN_eqL_F, iN_m1, m1_iN, iN_le_m1, m1_le_iN, iN_neg, iN_pos, i10, i01, i00, i11, u3_op, u3_or, u3_same, pup_eq, pup_ne, hR.n, ↓rR20_1, ↓rI23_1, ↓wI23_1, hR.obj s hs, ↓bd_gI, hR.one s hs, hR.oth s hs, hR.len s hs, w1, w2]
        exact Lz.go ⟨rfl, hR.fr hfr (by decide), _, hW1, hb1.1, Or.inl ⟨rfl, by rcases hcase with ⟨_, hp⟩ | ⟨_, rfl, _⟩ <;> omega⟩⟩
      · simp (disch := first | omega | assumption) only [↓bd_rt, ↓bd_bd, ↓bd_ite, ↓bd_jn, ↓jn_ap, ↓ite_ap, ↓bd_gI1, ↓bd_pI1, ↓bd_gR1, ↓bd_pR1, ↓bd_gM, rt_ap, ↓reduceIte, iN_div, iN_divL, iN_add, iN_mul, iN_addL, iN_Ladd, iN_mulL, iN_Lmul, iN_subL, iN_sub, iN_le_T, iN_le_F, iN_lt_T, iN_lt_F, iN_eq_F, iN_leL_T, iN_leL_F, iN_Lle_T, iN_Lle_F, iN_ltL_T, iN_ltL_F, iN_Llt_T, iN_Llt_F, iN_eqL_T, iN_eqL_F, iN_m1, m1_iN, iN_le_m1, m1_le_iN, iN_neg, iN_pos, i10, i01, i00, i11, u3_op, u3_or, u3_same, pup_eq, pup_ne, hR.n, ↓rR20_1, ↓rI23_1, ↓wI23_1, hR.obj s hs, ↓bd_gI, hR.one s hs, hR.oth s hs, hR.len s hs, w1, w2]
        refine Lz.go ⟨rfl, hR, f', hW, hB, ?_⟩
        rcases hcase with hp | ⟨e1, rfl, e3⟩
        · exact Or.inl hp
        · refine Or.inr ⟨e1, rfl, fun s' hs' => ?_⟩
          by_cases e : s' = s
          · subst e; exact ⟨by omega, by omega⟩
          · exact e3 s' (by omega)
  · rintro ⟨m, x⟩ S ⟨hx, hR, f', hW, hB, hcase⟩ rec
    dsimp only at hx
    subst hx
    unfold p_X1_stroll_L41
    simp (disch := first | omega | assumption) only [↓bd_rt, ↓bd_bd, ↓bd_ite, ↓bd_jn, ↓jn_ap, ↓ite_ap, ↓bd_gI1, ↓bd_pI1, ↓bd_gR1, ↓bd_pR1, ↓bd_gM, rt_ap, ↓reduceIte, iN_div, iN_divL, iN_add, iN_mul, iN_addL, iN_Ladd, iN_mulL, iN_Lmul, iN_subL, iN_sub, iN_le_T, iN_le_F, iN_lt_T, iN_lt_F, iN_eq_F, iN_leL_T, iN_leL_F, iN_Lle_T, iN_Lle_F, iN_ltL_T, iN_ltL_F, iN_Llt_T, iN_Llt_F, iN_eqL_T, iN_eqL_F, iN_m1, m1_iN, iN_le_m1, m1_le_iN, iN_neg, iN_pos, i10, i01, i00, i11, u3_op, u3_or, u3_same, pup_eq, pup_ne, hR.n]
    exact Rs.mk ⟨hR, f', hW, hB, hcase⟩
def fS (S : amSt) : Nat → Nat := fun b => (S.1 23 1 b).toNatClampNeg
theorem pot_fS {c : CSt} {a : Nat} {S : amSt} {f : Nat → Nat} (hW : Wk S f) (hB : BF c a f) : pot (fS S) = pot f := by
  refine sumN_congr 20 fun k hk => ?_
  have : fS S k = f k := by
    unfold fS
    rw [hW k hk, iN_nat (by have := hB.le k; omega)]
  unfold pot1
  rw [this]
theorem sp_X1_stroll {c : CSt} (h : c.WF) {φ : amSh} {S : amSt} (hφ : φ.1 255 ≠ 0) (hR : RCst c φ S) {a : Nat} (ha : a < 20) :
    Rs (fun _ S' => Wk S' (c.d9 a) ∧ FrS [23] S S') (p_X1_stroll (iN a) φ S) := by
  refine Rs.fr (Q := fun _ S' => Wk S' (c.d9 a)) (fr_p_X1_stroll _) ?_
  unfold p_X1_stroll
  simp (disch := first | omega | assumption) only [↓bd_rt, ↓bd_bd, ↓bd_ite, ↓bd_jn, ↓jn_ap, ↓ite_ap, ↓bd_gI1, ↓bd_pI1, ↓bd_gR1, ↓bd_pR1, ↓bd_gM, rt_ap, ↓reduceIte, iN_div, iN_divL, iN_add, iN_mul, iN_addL, iN_Ladd, iN_mulL, iN_Lmul, iN_subL, iN_sub, iN_le_T, iN_le_F, iN_lt_T, iN_lt_F, iN_eq_F, iN_leL_T, iN_leL_F, iN_Lle_T, iN_Lle_F, iN_ltL_T, iN_ltL_F, iN_Llt_T, iN_Llt_F, iN_eqL_T, iN_eqL_F, iN_m1, m1_iN, iN_le_m1, m1_le_iN, iN_neg, iN_pos, i10, i01, i00, i11, u3_op, u3_or, u3_same, pup_eq, pup_ne]
  refine bdRF (L := [23]) (Q := fun _ S' => Wk S' (fun b => if b = a then 0 else 1000000000)) (Fr.halp (fun rec hrec x => fr_p_X1_stroll_L2 (by decide) hrec x) _ _) ?_ fun _ S1 h1 hF => ?_
  · refine alp_I (fun k x S => x = iN k ∧ ∀ b, b < k → S.1 23 1 b = iN (if b = a then 0 else 1000000000)) 20 (amFu_lt (by decide)) ⟨rfl, fun b hb => by omega⟩ ?_ ?_
    · rintro k x S hk ⟨rfl, hS⟩ rec
      unfold p_X1_stroll_L2
      by_cases e : k = a
      · subst e
        simp (disch := first | omega | assumption) only [↓bd_rt, ↓bd_bd, ↓bd_ite, ↓bd_jn, ↓jn_ap, ↓ite_ap, ↓bd_gI1, ↓bd_pI1, ↓bd_gR1, ↓bd_pR1, ↓bd_gM, rt_ap, ↓reduceIte, iN_div, iN_divL, iN_add, iN_mul, iN_addL, iN_Ladd, iN_mulL, iN_Lmul, iN_subL, iN_sub, iN_le_T, iN_le_F, iN_lt_T, iN_lt_F, iN_eq_F, iN_leL_T, iN_leL_F, iN_Lle_T, iN_Lle_F, iN_ltL_T, iN_ltL_F, iN_Llt_T, iN_Llt_F, iN_eqL_T, iN_eqL_F, iN_m1, m1_iN, iN_le_m1, m1_le_iN, iN_neg, iN_pos, i10, i01, i00, i11, u3_op, u3_or, u3_same, pup_eq, pup_ne, ↓wI23_1]
        refine Lz.go ⟨rfl, fun b hb => ?_⟩
        by_cases e : b = k
        · subst e; simp (disch := first | omega | assumption) only [↓bd_rt, ↓bd_bd, ↓bd_ite, ↓bd_jn, ↓jn_ap, ↓ite_ap, ↓bd_gI1, ↓bd_pI1, ↓bd_gR1, ↓bd_pR1, ↓bd_gM, rt_ap, ↓reduceIte, iN_div, iN_divL, iN_add, iN_mul, iN_addL, iN_Ladd, iN_mulL, iN_Lmul, iN_subL, iN_sub, iN_le_T, iN_le_F, iN_lt_T, iN_lt_F, iN_eq_F, iN_leL_T, iN_leL_F, iN_Lle_T, iN_Lle_F, iN_ltL_T, iN_ltL_F, iN_Llt_T, iN_Llt_F, iN_eqL_T, iN_eqL_F, iN_m1, m1_iN, iN_le_m1, m1_le_iN, iN_neg, iN_pos, i10, i01, i00, i11, u3_op, u3_or, u3_same, pup_eq, pup_ne]; rfl
        · simp (disch := first | omega | assumption) only [↓bd_rt, ↓bd_bd, ↓bd_ite, ↓bd_jn, ↓jn_ap, ↓ite_ap, ↓bd_gI1, ↓bd_pI1, ↓bd_gR1, ↓bd_pR1, ↓bd_gM, rt_ap, ↓reduceIte, iN_div, iN_divL, iN_add, iN_mul, iN_addL, iN_Ladd, iN_mulL, iN_Lmul, iN_subL, iN_sub, iN_le_T, iN_le_F, iN_lt_T, iN_lt_F, iN_eq_F, iN_leL_T, iN_leL_F, iN_Lle_T, iN_Lle_F, iN_ltL_T, iN_ltL_F, iN_Llt_T, iN_Llt_F, iN_eqL_T, iN_eqL_F, iN_m1, m1_iN, iN_le_m1, m1_le_iN, iN_neg, iN_pos, i10, i01, i00, i11, u3_op, u3_or, u3_same, pup_eq, pup_ne]; exact hS b (by omega)
      · simp (disch := first | omega | assumption) only [↓bd_rt, ↓bd_bd, ↓bd_ite, ↓bd_jn, ↓jn_ap, ↓ite_ap, ↓bd_gI1, ↓bd_pI1, ↓bd_gR1, ↓bd_pR1, ↓bd_gM, rt_ap, ↓reduceIte, iN_div, iN_divL, iN_add, iN_mul, iN_addL, iN_Ladd, iN_mulL, iN_Lmul, iN_subL, iN_sub, iN_le_T, iN_le_F, iN_lt_T, iN_lt_F, iN_eq_F, iN_leL_T, iN_leL_F, iN_Lle_T, iN_Lle_F, iN_ltL_T, iN_ltL_F, iN_Llt_T, iN_Llt_F, iN_eqL_T, iN_eqL_F, iN_m1, m1_iN, iN_le_m1, m1_le_iN, iN_neg, iN_pos, i10, i01, i00, i11, u3_op, u3_or, u3_same, pup_eq, pup_ne, ↓wI23_1]
        refine Lz.go ⟨rfl, fun b hb => ?_⟩
        by_cases e2 : b = k
        · subst e2; simp (disch := first | omega | assumption) only [↓bd_rt, ↓bd_bd, ↓bd_ite, ↓bd_jn, ↓jn_ap, ↓ite_ap, ↓bd_gI1, ↓bd_pI1, ↓bd_gR1, ↓bd_pR1, ↓bd_gM, rt_ap, ↓reduceIte, iN_div, iN_divL, iN_add, iN_mul, iN_addL, iN_Ladd, iN_mulL, iN_Lmul, iN_subL, iN_sub, iN_le_T, iN_le_F, iN_lt_T, iN_lt_F, iN_eq_F, iN_leL_T, iN_leL_F, iN_Lle_T, iN_Lle_F, iN_ltL_T, iN_ltL_F, iN_Llt_T, iN_Llt_F, iN_eqL_T, iN_eqL_F, iN_m1, m1_iN, iN_le_m1, m1_le_iN, iN_neg, iN_pos, i10, i01, i00, i11, u3_op, u3_or, u3_same, pup_eq, pup_ne]; rw [if_neg e]; rfl
        · simp (disch := first | omega | assumption) only [↓bd_rt, ↓bd_bd, ↓bd_ite, ↓bd_jn, ↓jn_ap, ↓ite_ap, ↓bd_gI1, ↓bd_pI1, ↓bd_gR1, ↓bd_pR1, ↓bd_gM, rt_ap, ↓reduceIte, iN_div, iN_divL, iN_add, iN_mul, iN_addL, iN_Ladd, iN_mulL, iN_Lmul, iN_subL, iN_sub, iN_le_T, iN_le_F, iN_lt_T, iN_lt_F, iN_eq_F, iN_leL_T, iN_leL_F, iN_Lle_T, iN_Lle_F, iN_ltL_T, iN_ltL_F, iN_Llt_T, iN_Llt_F, iN_eqL_T, iN_eqL_F, iN_m1, m1_iN, iN_le_m1, m1_le_iN, iN_neg, iN_pos, i10, i01, i00, i11, u3_op, u3_or, u3_same, pup_eq, pup_ne]; exact hS b (by omega)
    · rintro x S ⟨rfl, hS⟩ rec
      unfold p_X1_stroll_L2
      simp (disch := first | omega | assumption) only [↓bd_rt, ↓bd_bd, ↓bd_ite, ↓bd_jn, ↓jn_ap, ↓ite_ap, ↓bd_gI1, ↓bd_pI1, ↓bd_gR1, ↓bd_pR1, ↓bd_gM, rt_ap, ↓reduceIte, iN_div, iN_divL, iN_add, iN_mul, iN_addL, iN_Ladd, iN_mulL, iN_Lmul, iN_subL, iN_sub, iN_le_T, iN_le_F, iN_lt_T, iN_lt_F, iN_eq_F, iN_leL_T, iN_leL_F, iN_Lle_T, iN_Lle_F, iN_ltL_T, iN_ltL_F, iN_Llt_T, iN_Llt_F, iN_eqL_T, iN_eqL_F, iN_m1, m1_iN, iN_le_m1, m1_le_iN, iN_neg, iN_pos, i10, i01, i00, i11, u3_op, u3_or, u3_same, pup_eq, pup_ne]
      exact Rs.mk hS
  · have hB : BF c a (fun b => if b = a then 0 else 1000000000) := by
      refine BF.mk (by simp) (fun b => by split <;> omega) (fun b hb => ?_)
      by_cases e : b = a
      · subst e
        simp only [if_true]
        refine Or.inr ⟨.nil, ?_⟩
        have c1 := sumN_upd (g := fun _ => 0) (j := b) (v := 1) 20 hb
        have c0 : sumN (fun _ => 0) 20 = 0 := rfl
        have : fin1 (fun k => if k = b then 0 else 1000000000) = pup (fun _ => 0) b 1 := by
          funext k; unfold fin1 pup; by_cases e : k = b <;> simp [e]
        unfold cnt
        rw [this]
        omega
      · simp [e]
    refine bdRF (L := [23]) (Q := fun _ S' => Wk S' (c.d9 a)) (Fr.halp (fun rec hrec x => fr_p_X1_stroll_L33 (by decide) hrec x) _ _) ?_ fun _ S2 h2 _ => ?_
    · refine alp_M (fun x S => RCst c φ S ∧ ∃ f, Wk S f ∧ BF c a f ∧ (x = 1 ∨ (x = 0 ∧ ∀ s, s < c.n → cls c f s))) (fun x S => if x = 0 then 0 else 1 + pot (fS S)) ?_ ⟨hR.fr hF (by decide), _, h1, hB, Or.inl rfl⟩ ?_
      · simp only [i10, if_false]
        rw [pot_fS h1 hB]
        have : pot (fun b => if b = a then 0 else 1000000000) ≤ 1000 * 20 := sumN_le 20 fun k _ => by
          unfold pot1; dsimp only; split <;> split <;> omega
        unfold amFu
        omega
      · rintro x S2 ⟨hR2, f, hW, hB, hx⟩ rec
        unfold p_X1_stroll_L33
        rcases hx with rfl | ⟨rfl, hcl⟩
        · simp only [i10, if_false]
          refine bdR (sp_X1_stroll_L41 h hR2 hW hB) fun y S3 h3 => ?_
          obtain ⟨hR3, f', hW', hB', hc⟩ := h3
          rcases hc with ⟨rfl, hp⟩ | ⟨rfl, rfl, hcl⟩
          · refine Lz.go ⟨⟨hR3, f', hW', hB', Or.inl rfl⟩, ?_⟩
            simp only [i10, if_false]
            rw [pot_fS hW' hB', pot_fS hW hB]
            omega
          · refine Lz.go ⟨⟨hR3, f', hW', hB', Or.inr ⟨rfl, hcl⟩⟩, ?_⟩
            simp only [if_true]
            omega
        · simp only [if_true]
          refine Lz.ret ?_
          intro b hb
          rw [hW b hb]
          congr 1
          have hc := cnt_le (f := f)
          exact d9_uniq h ha hB.z (fun b hb => by rcases hB.snd b hb with e | ⟨p, q⟩
                                                  · exact Or.inl e
                                                  · exact Or.inr ⟨p, by omega⟩) hB.le (fun s hs => (hcl s hs).1) (fun s hs => (hcl s hs).2) hb
    · simp (disch := first | omega | assumption) only [↓bd_rt, ↓bd_bd, ↓bd_ite, ↓bd_jn, ↓jn_ap, ↓ite_ap, ↓bd_gI1, ↓bd_pI1, ↓bd_gR1, ↓bd_pR1, ↓bd_gM, rt_ap, ↓reduceIte, iN_div, iN_divL, iN_add, iN_mul, iN_addL, iN_Ladd, iN_mulL, iN_Lmul, iN_subL, iN_sub, iN_le_T, iN_le_F, iN_lt_T, iN_lt_F, iN_eq_F, iN_leL_T, iN_leL_F, iN_Lle_T, iN_Lle_F, iN_ltL_T, iN_ltL_F, iN_Llt_T, iN_Llt_F, iN_eqL_T, iN_eqL_F, iN_m1, m1_iN, iN_le_m1, m1_le_iN, iN_neg, iN_pos, i10, i01, i00, i11, u3_op, u3_or, u3_same, pup_eq, pup_ne]
      exact Rs.mk h2
