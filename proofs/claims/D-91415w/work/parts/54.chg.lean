/-! PURE: rooms change at once -/
def loseS (c : CHo) (b : CBz) (h k : Nat) : Int32 := if brn c b h k then (if 1 + b.heat (24 * h + k) / 250 < b.stuff (24 * h + k) then 1 + b.heat (24 * h + k) / 250 else b.stuff (24 * h + k)) else 0
def clmp (v : Int32) : Int32 := if 0 < (if v < 1000 then v else 1000) then (if v < 1000 then v else 1000) else 0
def nhS (c : CHo) (b : CBz) (h k : Nat) : Int32 := if b.fal (6 * h + k / c.wd h) = 0 then clmp (b.heat (24 * h + k) + gainS c b h k) else 0
/-- gone over: the houses below h, and of h the rooms below k -/
def gone (c : CHo) (h k q : Nat) : Prop := (q / 24 < h ∧ q % 24 < c.fl (q / 24) * c.wd (q / 24)) ∨ (q / 24 = h ∧ q % 24 < k)
def heatP (c : CHo) (b : CBz) (h : Nat) : Nat → Nat → Int32
  | 0 => itn (fun h B => itn (fun k B => pup B (24 * h + k) (nhS c b h k)) B (c.fl h * c.wd h)) b.heat h
  | k + 1 => pup (heatP c b h k) (24 * h + k) (nhS c b h k)
def stuffP (c : CHo) (b : CBz) (h : Nat) : Nat → Nat → Int32
  | 0 => itn (fun h B => itn (fun k B => pup B (24 * h + k) (b.stuff (24 * h + k) - loseS c b h k)) B (c.fl h * c.wd h)) b.stuff h
  | k + 1 => pup (stuffP c b h k) (24 * h + k) (b.stuff (24 * h + k) - loseS c b h k)
def waterP (c : CHo) (b : CBz) (z : Bool) (h : Nat) : Nat → Nat → Int32
  | 0 => itn (fun h B => itn (fun k B => if z then pup B (24 * h + k) 0 else B) B (c.fl h * c.wd h)) b.water h
  | k + 1 => if z then pup (waterP c b z h k) (24 * h + k) 0 else waterP c b z h k
def bntP (c : CHo) (b : CBz) (h : Nat) : Nat → Nat → Int32
  | 0 => itn (fun h B => itn (fun k B => pup B (6 * h + k / c.wd h) (B (6 * h + k / c.wd h) + loseS c b h k)) B (c.fl h * c.wd h)) b.bnt h
  | k + 1 => pup (bntP c b h k) (6 * h + k / c.wd h) (bntP c b h k (6 * h + k / c.wd h) + loseS c b h k)
def bP (c : CHo) (b : CBz) (z : Bool) (h k : Nat) : CBz := CBz.mk (heatP c b h k) (stuffP c b h k) (waterP c b z h k) (bntP c b h k) b.fal
theorem bP_h {c : CHo} {b : CBz} {z : Bool} {h : Nat} : bP c b z (h + 1) 0 = bP c b z h (c.fl h * c.wd h) := by
  have e1 : ∀ k, heatP c b h k = itn (fun k B => pup B (24 * h + k) (nhS c b h k)) (heatP c b h 0) k := by
    intro k; induction k with
    | zero => rfl
    | succ k ih => show pup (heatP c b h k) _ _ = pup _ _ _; rw [ih]
  have e2 : ∀ k, stuffP c b h k = itn (fun k B => pup B (24 * h + k) (b.stuff (24 * h + k) - loseS c b h k)) (stuffP c b h 0) k := by
    intro k; induction k with
    | zero => rfl
    | succ k ih => show pup (stuffP c b h k) _ _ = pup _ _ _; rw [ih]
  have e3 : ∀ k, waterP c b z h k = itn (fun k B => if z then pup B (24 * h + k) 0 else B) (waterP c b z h 0) k := by
    intro k; induction k with
    | zero => rfl
    | succ k ih => show (if z then pup (waterP c b z h k) _ _ else _) = (if z then pup _ _ _ else _); rw [ih]
  have e4 : ∀ k, bntP c b h k = itn (fun k B => pup B (6 * h + k / c.wd h) (B (6 * h + k / c.wd h) + loseS c b h k)) (bntP c b h 0) k := by
    intro k; induction k with
    | zero => rfl
    | succ k ih => show pup (bntP c b h k) _ _ = pup _ _ _; rw [ih]
  unfold bP
  rw [e1, e2, e3, e4]
  rfl
theorem heatP_hi {c : CHo} {b : CBz} {h q : Nat} (hb : ∀ h', h' < h → c.fl h' * c.wd h' ≤ 24) : ∀ k, 24 * h + k ≤ q → heatP c b h k q = b.heat q := by
  have base : ∀ j, (∀ h', h' < j → c.fl h' * c.wd h' ≤ 24) → 24 * j ≤ q → itn (fun h B => itn (fun k B => pup B (24 * h + k) (nhS c b h k)) B (c.fl h * c.wd h)) b.heat j q = b.heat q := by
    intro j
    induction j with
    | zero => intros; rfl
    | succ j ih =>
      intro hb2 hq
      have inner : ∀ (B : Nat → Int32) m, m ≤ 24 → itn (fun k B => pup B (24 * j + k) (nhS c b j k)) B m q = B q := by
        intro B m
        induction m with
        | zero => intros; rfl
        | succ m ihm => intro hm; show pup _ (24 * j + m) _ q = B q; rw [pup_ne (by omega)]; exact ihm (by omega)
      show itn (fun k B => pup B (24 * j + k) (nhS c b j k)) _ (c.fl j * c.wd j) q = b.heat q
      rw [inner _ _ (hb2 j (by omega))]
      exact ih (fun h' hh' => hb2 h' (by omega)) (by omega)
  intro k
  induction k with
  | zero => intro hq; exact base h hb (by omega)
  | succ k ih => intro hq; show pup _ (24 * h + k) _ q = _; rw [pup_ne (by omega)]; exact ih (by omega)
theorem stuffP_hi {c : CHo} {b : CBz} {h q : Nat} (hb : ∀ h', h' < h → c.fl h' * c.wd h' ≤ 24) : ∀ k, 24 * h + k ≤ q → stuffP c b h k q = b.stuff q := by
  have base : ∀ j, (∀ h', h' < j → c.fl h' * c.wd h' ≤ 24) → 24 * j ≤ q → itn (fun h B => itn (fun k B => pup B (24 * h + k) (b.stuff (24 * h + k) - loseS c b h k)) B (c.fl h * c.wd h)) b.stuff j q = b.stuff q := by
    intro j
    induction j with
    | zero => intros; rfl
    | succ j ih =>
      intro hb2 hq
      have inner : ∀ (B : Nat → Int32) m, m ≤ 24 → itn (fun k B => pup B (24 * j + k) (b.stuff (24 * j + k) - loseS c b j k)) B m q = B q := by
        intro B m
        induction m with
        | zero => intros; rfl
        | succ m ihm => intro hm; show pup _ (24 * j + m) _ q = B q; rw [pup_ne (by omega)]; exact ihm (by omega)
      show itn (fun k B => pup B (24 * j + k) (b.stuff (24 * j + k) - loseS c b j k)) _ (c.fl j * c.wd j) q = b.stuff q
      rw [inner _ _ (hb2 j (by omega))]
      exact ih (fun h' hh' => hb2 h' (by omega)) (by omega)
  intro k
  induction k with
  | zero => intro hq; exact base h hb (by omega)
  | succ k ih => intro hq; show pup _ (24 * h + k) _ q = _; rw [pup_ne (by omega)]; exact ih (by omega)
/-! the model -/
theorem sp_X3_burn_L12 {c : CHo} (w : c.WF) {b : CBz} {φ : amSh} {S : amSt} (hφ : φ.1 255 ≠ 0) (hR : RMho c S) (hb : RMbz b S) {h : Nat} (hh : h < c.n) :
    Rs (fun _ S' => (RMho c S' ∧ RMbz b S') ∧ (∀ k, k < c.fl h * c.wd h → S'.1 77 1 (24 * h + k) = nhS c b h k ∧ S'.1 78 1 (24 * h + k) = loseS c b h k) ∧ ∀ q, q < 24 * h → S'.1 77 1 q = S.1 77 1 q ∧ S'.1 78 1 q = S.1 78 1 q) (alp (p_X3_burn_L12 (iN h)) amFu 0 φ S) := by
  have hn := w.hn
  have hfw := w.fw hh
  have hfl := w.fl h hh
  refine alp_I (fun j x S' => x = iN j ∧ (RMho c S' ∧ RMbz b S') ∧ (∀ k, k < j → S'.1 77 1 (24 * h + k) = nhS c b h k ∧ S'.1 78 1 (24 * h + k) = loseS c b h k) ∧ ∀ q, q < 24 * h → S'.1 77 1 q = S.1 77 1 q ∧ S'.1 78 1 q = S.1 78 1 q) (c.fl h * c.wd h) (amFu_lt (by omega)) ⟨rfl, ⟨hR, hb⟩, fun k hk => by omega, fun _ _ => ⟨rfl, rfl⟩⟩ ?_ ?_
  · rintro k x S1 hk ⟨rfl, ⟨hR, hb⟩, h1, h2⟩ rec
    have hdv := w.dv hh hk
    have tr77 : ∀ {v : Int32}, RMho c (u3 S1.1 77 1 (24 * h + k) v, S1.2) ∧ RMbz b (u3 S1.1 77 1 (24 * h + k) v, S1.2) := fun {v} => by
      have hf : FrS [77] S1 (u3 S1.1 77 1 (24 * h + k) v, S1.2) := fun p r j hk => sm_u3 fun z => hk (z ▸ kyA (by decide) (by decide) (by decide) _)
      exact ⟨hR.fr hf (by decide), hb.fr hf (by decide)⟩
    have fin : ∀ {v1 v2 : Int32}, v1 = nhS c b h k → v2 = loseS c b h k → Lz rec φ (fun x S' => x = iN (k + 1) ∧ (RMho c S' ∧ RMbz b S') ∧ (∀ k', k' < k + 1 → S'.1 77 1 (24 * h + k') = nhS c b h k' ∧ S'.1 78 1 (24 * h + k') = loseS c b h k') ∧ ∀ q, q < 24 * h → S'.1 77 1 q = S.1 77 1 q ∧ S'.1 78 1 q = S.1 78 1 q)
        (fun _ S' => (RMho c S' ∧ RMbz b S') ∧ (∀ k, k < c.fl h * c.wd h → S'.1 77 1 (24 * h + k) = nhS c b h k ∧ S'.1 78 1 (24 * h + k) = loseS c b h k) ∧ ∀ q, q < 24 * h → S'.1 77 1 q = S.1 77 1 q ∧ S'.1 78 1 q = S.1 78 1 q) (rec (iN (k + 1)) φ (u3 (u3 S1.1 77 1 (24 * h + k) v1) 78 1 (24 * h + k) v2, S1.2)) := by
      intro v1 v2 e1 e2
      have t := @tr77 v1
      have hf : FrS [78] (u3 S1.1 77 1 (24 * h + k) v1, S1.2) (u3 (u3 S1.1 77 1 (24 * h + k) v1) 78 1 (24 * h + k) v2, S1.2) := fun p r j hk => sm_u3 (S := (u3 S1.1 77 1 (24 * h + k) v1, S1.2)) fun z => hk (z ▸ kyA (by decide) (by decide) (by decide) _)
      refine Lz.go ⟨rfl, ⟨t.1.fr hf (by decide), t.2.fr hf (by decide)⟩, fun k' hk' => ?_, fun q hq => ?_⟩
      · by_cases e : k' = k
        · subst e; simp (disch := first | omega | assumption) only [↓bd_rt, ↓bd_bd, ↓bd_ite, ↓bd_jn, ↓jn_ap, ↓ite_ap, ↓bd_gI1, ↓bd_pI1, ↓bd_gR1, ↓bd_pR1, ↓bd_gM, rt_ap, ↓reduceIte, iN_div, iN_divL, iN_add, iN_mul, iN_addL, iN_Ladd, iN_mulL, iN_Lmul, iN_subL, iN_sub, iN_le_T, iN_le_F, iN_lt_T, iN_lt_F, iN_eq_F, iN_leL_T, iN_leL_F, iN_Lle_T, iN_Lle_F, iN_ltL_T, iN_ltL_F, iN_Llt_T, iN_Llt_F, iN_eqL_T, iN_eqL_F, iN_m1, m1_iN, iN_le_m1, m1_le_iN, iN_neg, iN_pos, i10, i01, i00, i11, u3_op, u3_or, u3_same, pup_eq, pup_ne]; exact ⟨e1, e2⟩
        · simp (disch := first | omega | assumption) only [↓bd_rt, ↓bd_bd, ↓bd_ite, ↓bd_jn, ↓jn_ap, ↓ite_ap, ↓bd_gI1, ↓bd_pI1, ↓bd_gR1, ↓bd_pR1, ↓bd_gM, rt_ap, ↓reduceIte, iN_div, iN_divL, iN_add, iN_mul, iN_addL, iN_Ladd, iN_mulL, iN_Lmul, iN_subL, iN_sub, iN_le_T, iN_le_F, iN_lt_T, iN_lt_F, iN_eq_F, iN_leL_T, iN_leL_F, iN_Lle_T, iN_Lle_F, iN_ltL_T, iN_ltL_F, iN_Llt_T, iN_Llt_F, iN_eqL_T, iN_eqL_F, iN_m1, m1_iN, iN_le_m1, m1_le_iN, iN_neg, iN_pos, i10, i01, i00, i11, u3_op, u3_or, u3_same, pup_eq, pup_ne]; exact h1 k' (by omega)
      · simp (disch := first | omega | assumption) only [↓bd_rt, ↓bd_bd, ↓bd_ite, ↓bd_jn, ↓jn_ap, ↓ite_ap, ↓bd_gI1, ↓bd_pI1, ↓bd_gR1, ↓bd_pR1, ↓bd_gM, rt_ap, ↓reduceIte, iN_div, iN_divL, iN_add, iN_mul, iN_addL, iN_Ladd, iN_mulL, iN_Lmul, iN_subL, iN_sub, iN_le_T, iN_le_F, iN_lt_T, iN_lt_F, iN_eq_F, iN_leL_T, iN_leL_F, iN_Lle_T, iN_Lle_F, iN_ltL_T, iN_ltL_F, iN_Llt_T, iN_Llt_F, iN_eqL_T, iN_eqL_F, iN_m1, m1_iN, iN_le_m1, m1_le_iN, iN_neg, iN_pos, i10, i01, i00, i11, u3_op, u3_or, u3_same, pup_eq, pup_ne]; exact h2 q hq
    unfold p_X3_burn_L12
    simp (disch := first | omega | assumption) only [↓bd_rt, ↓bd_bd, ↓bd_jn, ↓jn_ap, ↓bd_gI1, ↓bd_pI1, ↓bd_gR1, ↓bd_pR1, ↓bd_gM, rt_ap, ↓reduceIte, iN_div, iN_divL, iN_add, iN_mul, iN_addL, iN_Ladd, iN_mulL, iN_Lmul, iN_subL, iN_sub, iN_le_T, iN_le_F, iN_lt_T, iN_lt_F, iN_eq_F, iN_leL_T, iN_leL_F, iN_Lle_T, iN_Lle_F, iN_ltL_T, iN_ltL_F, iN_Llt_T, iN_Llt_F, iN_eqL_T, iN_eqL_F, iN_m1, m1_iN, iN_le_m1, m1_le_iN, iN_neg, iN_pos, i10, i01, i00, i11, u3_op, u3_or, u3_same, pup_eq, pup_ne, ↓rI64_1, ↓rI65_1, hR.fl h hh, hR.wd h hh, if_false, ↓bd_of (sp_X3_floorOf w hφ hR hh (k := k) (by omega)), ↓rI82_1, hb.fal (6 * h + k / c.wd h) (by omega)]
    refine bdR (Q := fun v S2 => v = nhS c b h k ∧ S2 = S1) ?_ fun v S2 hv => ?_
    · unfold nhS clmp
      by_cases c1 : b.fal (6 * h + k / c.wd h) = 0
      · simp (disch := first | omega | assumption) only [↓bd_rt, ↓bd_bd, ↓bd_ite, ↓bd_jn, ↓jn_ap, ↓ite_ap, ↓bd_gI1, ↓bd_pI1, ↓bd_gR1, ↓bd_pR1, ↓bd_gM, rt_ap, ↓reduceIte, iN_div, iN_divL, iN_add, iN_mul, iN_addL, iN_Ladd, iN_mulL, iN_Lmul, iN_subL, iN_sub, iN_le_T, iN_le_F, iN_lt_T, iN_lt_F, iN_eq_F, iN_leL_T, iN_leL_F, iN_Lle_T, iN_Lle_F, iN_ltL_T, iN_ltL_F, iN_Llt_T, iN_Llt_F, iN_eqL_T, iN_eqL_F, iN_m1, m1_iN, iN_le_m1, m1_le_iN, iN_neg, iN_pos, i10, i01, i00, i11, u3_op, u3_or, u3_same, pup_eq, pup_ne, c1, if_true, ↓rI74_1, hb.heat (24 * h + k) (by omega), ↓bd_of (sp_X3_gain w hφ hR hb hh hk)]
        exact Rs.mk ⟨rfl, rfl⟩
      · simp (disch := first | omega | assumption) only [↓bd_rt, ↓bd_bd, ↓bd_ite, ↓bd_jn, ↓jn_ap, ↓ite_ap, ↓bd_gI1, ↓bd_pI1, ↓bd_gR1, ↓bd_pR1, ↓bd_gM, rt_ap, ↓reduceIte, iN_div, iN_divL, iN_add, iN_mul, iN_addL, iN_Ladd, iN_mulL, iN_Lmul, iN_subL, iN_sub, iN_le_T, iN_le_F, iN_lt_T, iN_lt_F, iN_eq_F, iN_leL_T, iN_leL_F, iN_Lle_T, iN_Lle_F, iN_ltL_T, iN_ltL_F, iN_Llt_T, iN_Llt_F, iN_eqL_T, iN_eqL_F, iN_m1, m1_iN, iN_le_m1, m1_le_iN, iN_neg, iN_pos, i10, i01, i00, i11, u3_op, u3_or, u3_same, pup_eq, pup_ne, c1, if_false]
        exact Rs.mk ⟨rfl, rfl⟩
    obtain ⟨hv, rfl⟩ := hv
    have t := @tr77 v
    simp (disch := first | omega | assumption) only [↓bd_rt, ↓bd_bd, ↓bd_jn, ↓jn_ap, ↓bd_gI1, ↓bd_pI1, ↓bd_gR1, ↓bd_pR1, ↓bd_gM, rt_ap, ↓reduceIte, iN_div, iN_divL, iN_add, iN_mul, iN_addL, iN_Ladd, iN_mulL, iN_Lmul, iN_subL, iN_sub, iN_le_T, iN_le_F, iN_lt_T, iN_lt_F, iN_eq_F, iN_leL_T, iN_leL_F, iN_Lle_T, iN_Lle_F, iN_ltL_T, iN_ltL_F, iN_Llt_T, iN_Llt_F, iN_eqL_T, iN_eqL_F, iN_m1, m1_iN, iN_le_m1, m1_le_iN, iN_neg, iN_pos, i10, i01, i00, i11, u3_op, u3_or, u3_same, pup_eq, pup_ne, ↓wI77_1, ↓bd_of (sp_X3_burns w hφ t.1 t.2 hh hk)]
    refine bdR (Q := fun v2 S2' => v2 = loseS c b h k ∧ S2' = (u3 S2.1 77 1 (24 * h + k) v, S2.2)) ?_ fun v2 S2' hv2 => ?_
    · unfold loseS
      cases q : brn c b h k
      · simp (disch := first | omega | assumption) only [↓bd_rt, ↓bd_bd, ↓bd_ite, ↓bd_jn, ↓jn_ap, ↓ite_ap, ↓bd_gI1, ↓bd_pI1, ↓bd_gR1, ↓bd_pR1, ↓bd_gM, rt_ap, ↓reduceIte, iN_div, iN_divL, iN_add, iN_mul, iN_addL, iN_Ladd, iN_mulL, iN_Lmul, iN_subL, iN_sub, iN_le_T, iN_le_F, iN_lt_T, iN_lt_F, iN_eq_F, iN_leL_T, iN_leL_F, iN_Lle_T, iN_Lle_F, iN_ltL_T, iN_ltL_F, iN_Llt_T, iN_Llt_F, iN_eqL_T, iN_eqL_F, iN_m1, m1_iN, iN_le_m1, m1_le_iN, iN_neg, iN_pos, i10, i01, i00, i11, u3_op, u3_or, u3_same, pup_eq, pup_ne, b01_f, Bool.false_eq_true, if_false]
        exact Rs.mk ⟨rfl, rfl⟩
      · simp (disch := first | omega | assumption) only [↓bd_rt, ↓bd_bd, ↓bd_ite, ↓bd_jn, ↓jn_ap, ↓ite_ap, ↓bd_gI1, ↓bd_pI1, ↓bd_gR1, ↓bd_pR1, ↓bd_gM, rt_ap, ↓reduceIte, iN_div, iN_divL, iN_add, iN_mul, iN_addL, iN_Ladd, iN_mulL, iN_Lmul, iN_subL, iN_sub, iN_le_T, iN_le_F, iN_lt_T, iN_lt_F, iN_eq_F, iN_leL_T, iN_leL_F, iN_Lle_T, iN_Lle_F, iN_ltL_T, iN_ltL_F, iN_Llt_T, iN_Llt_F, iN_eqL_T, iN_eqL_F, iN_m1, m1_iN, iN_le_m1, m1_le_iN, iN_neg, iN_pos, i10, i01, i00, i11, u3_op, u3_or, u3_same, pup_eq, pup_ne, b01_t, if_true, ↓rI74_1, ↓rI75_1, hb.heat (24 * h + k) (by omega), hb.stuff (24 * h + k) (by omega)]
        exact Rs.mk ⟨rfl, rfl⟩
    obtain ⟨hv2, rfl⟩ := hv2
    simp (disch := first | omega | assumption) only [↓bd_rt, ↓bd_bd, ↓bd_ite, ↓bd_jn, ↓jn_ap, ↓ite_ap, ↓bd_gI1, ↓bd_pI1, ↓bd_gR1, ↓bd_pR1, ↓bd_gM, rt_ap, ↓reduceIte, iN_div, iN_divL, iN_add, iN_mul, iN_addL, iN_Ladd, iN_mulL, iN_Lmul, iN_subL, iN_sub, iN_le_T, iN_le_F, iN_lt_T, iN_lt_F, iN_eq_F, iN_leL_T, iN_leL_F, iN_Lle_T, iN_Lle_F, iN_ltL_T, iN_ltL_F, iN_Llt_T, iN_Llt_F, iN_eqL_T, iN_eqL_F, iN_m1, m1_iN, iN_le_m1, m1_le_iN, iN_neg, iN_pos, i10, i01, i00, i11, u3_op, u3_or, u3_same, pup_eq, pup_ne, ↓wI78_1]
    exact fin hv hv2
  · rintro x S1 ⟨rfl, ⟨hR, hb⟩, h1, h2⟩ rec
    unfold p_X3_burn_L12
    simp (disch := first | omega | assumption) only [↓bd_rt, ↓bd_bd, ↓bd_ite, ↓bd_jn, ↓jn_ap, ↓ite_ap, ↓bd_gI1, ↓bd_pI1, ↓bd_gR1, ↓bd_pR1, ↓bd_gM, rt_ap, ↓reduceIte, iN_div, iN_divL, iN_add, iN_mul, iN_addL, iN_Ladd, iN_mulL, iN_Lmul, iN_subL, iN_sub, iN_le_T, iN_le_F, iN_lt_T, iN_lt_F, iN_eq_F, iN_leL_T, iN_leL_F, iN_Lle_T, iN_Lle_F, iN_ltL_T, iN_ltL_F, iN_Llt_T, iN_Llt_F, iN_eqL_T, iN_eqL_F, iN_m1, m1_iN, iN_le_m1, m1_le_iN, iN_neg, iN_pos, i10, i01, i00, i11, u3_op, u3_or, u3_same, pup_eq, pup_ne, ↓rI64_1, ↓rI65_1, hR.fl h hh, hR.wd h hh]
    exact Rs.mk ⟨⟨hR, hb⟩, h1, h2⟩
theorem sp_X3_burn_L2 {c : CHo} (w : c.WF) {b : CBz} {φ : amSh} {S : amSt} (hφ : φ.1 255 ≠ 0) (hR : RMho c S) (hb : RMbz b S) :
    Rs (fun _ S' => (RMho c S' ∧ RMbz b S') ∧ (∀ h k, h < c.n → k < c.fl h * c.wd h → S'.1 77 1 (24 * h + k) = nhS c b h k ∧ S'.1 78 1 (24 * h + k) = loseS c b h k)) (alp p_X3_burn_L2 amFu 0 φ S) := by
  have hn := w.hn
  refine alp_I (fun j x S' => x = iN j ∧ (RMho c S' ∧ RMbz b S') ∧ (∀ h k, h < j → k < c.fl h * c.wd h → S'.1 77 1 (24 * h + k) = nhS c b h k ∧ S'.1 78 1 (24 * h + k) = loseS c b h k)) c.n (amFu_lt (by omega)) ⟨rfl, ⟨hR, hb⟩, fun h k hk => by omega⟩ ?_ ?_
  · rintro j x S1 hj ⟨rfl, ⟨hR, hb⟩, h1⟩ rec
    unfold p_X3_burn_L2
    simp (disch := first | omega | assumption) only [↓bd_rt, ↓bd_bd, ↓bd_ite, ↓bd_jn, ↓jn_ap, ↓ite_ap, ↓bd_gI1, ↓bd_pI1, ↓bd_gR1, ↓bd_pR1, ↓bd_gM, rt_ap, ↓reduceIte, iN_div, iN_divL, iN_add, iN_mul, iN_addL, iN_Ladd, iN_mulL, iN_Lmul, iN_subL, iN_sub, iN_le_T, iN_le_F, iN_lt_T, iN_lt_F, iN_eq_F, iN_leL_T, iN_leL_F, iN_Lle_T, iN_Lle_F, iN_ltL_T, iN_ltL_F, iN_Llt_T, iN_Llt_F, iN_eqL_T, iN_eqL_F, iN_m1, m1_iN, iN_le_m1, m1_le_iN, iN_neg, iN_pos, i10, i01, i00, i11, u3_op, u3_or, u3_same, pup_eq, pup_ne, hR.n]
    refine bdR (sp_X3_burn_L12 w hφ hR hb hj) fun _ S2 h2 => ?_
    refine Lz.go ⟨rfl, h2.1, fun h k hh hk => ?_⟩
    by_cases e : h = j
    · subst e; exact h2.2.1 k hk
    · have hfw := w.fw (show h < c.n by omega)
      have := h2.2.2 (24 * h + k) (by omega)
      rw [this.1, this.2]
      exact h1 h k (by omega) hk
  · rintro x S1 ⟨rfl, ⟨hR, hb⟩, h1⟩ rec
    unfold p_X3_burn_L2
    simp (disch := first | omega | assumption) only [↓bd_rt, ↓bd_bd, ↓bd_ite, ↓bd_jn, ↓jn_ap, ↓ite_ap, ↓bd_gI1, ↓bd_pI1, ↓bd_gR1, ↓bd_pR1, ↓bd_gM, rt_ap, ↓reduceIte, iN_div, iN_divL, iN_add, iN_mul, iN_addL, iN_Ladd, iN_mulL, iN_Lmul, iN_subL, iN_sub, iN_le_T, iN_le_F, iN_lt_T, iN_lt_F, iN_eq_F, iN_leL_T, iN_leL_F, iN_Lle_T, iN_Lle_F, iN_ltL_T, iN_ltL_F, iN_Llt_T, iN_Llt_F, iN_eqL_T, iN_eqL_F, iN_m1, m1_iN, iN_le_m1, m1_le_iN, iN_neg, iN_pos, i10, i01, i00, i11, u3_op, u3_or, u3_same, pup_eq, pup_ne, hR.n]
    exact Rs.mk ⟨⟨hR, hb⟩, h1⟩
theorem CHo.WF.al {c : CHo} (w : c.WF) {h : Nat} (hh : h ≤ c.n) : ∀ h', h' < h → c.fl h' * c.wd h' ≤ 24 := fun h' hh' => w.fw (by omega)
theorem sp_X3_burn_L158 {c : CHo} (w : c.WF) {b : CBz} {φ : amSh} {S : amSt} (hφ : φ.1 255 ≠ 0) (hR : RMho c S) {h : Nat} (hh : h < c.n) (hb : RMbz (bP c b false h 0) S)
    (hp : ∀ h k, h < c.n → k < c.fl h * c.wd h → S.1 77 1 (24 * h + k) = nhS c b h k ∧ S.1 78 1 (24 * h + k) = loseS c b h k) :
    Rs (fun _ S' => RMho c S' ∧ RMbz (bP c b false (h + 1) 0) S') (alp (p_X3_burn_L158 (iN h)) amFu 0 φ S) := by
  have hn := w.hn
  have hfw := w.fw hh
  have hfl := w.fl h hh
  refine Rs.imp (Q := fun _ S' => RMho c S' ∧ RMbz (bP c b false h (c.fl h * c.wd h)) S') ?_ fun _ S' hq => by rw [bP_h]; exact hq
  refine alp_I (fun j x S' => x = iN j ∧ RMho c S' ∧ RMbz (bP c b false h j) S' ∧ ∀ k, k < c.fl h * c.wd h → S'.1 77 1 (24 * h + k) = nhS c b h k ∧ S'.1 78 1 (24 * h + k) = loseS c b h k) (c.fl h * c.wd h) (amFu_lt (by omega)) ⟨rfl, hR, hb, fun k hk => hp h k hh hk⟩ ?_ ?_
  · rintro k x S1 hk ⟨rfl, hR, hb, hp⟩ rec
    have hdv := w.dv hh hk
    have p7 := (hp k hk).1
    have p8 := (hp k hk).2
    have hst : (bP c b false h k).stuff (24 * h + k) = b.stuff (24 * h + k) := stuffP_hi (w.al (by omega)) k (Nat.le_refl _)
    have tr : ∀ {p j : Nat} {v : Int32} {S : amSt}, p = 74 ∨ p = 75 → RMho c S → RMho c (u3 S.1 p 1 j v, S.2) := fun {p j v S} hp hR => by
      have hf : FrS [74, 75] S (u3 S.1 p 1 j v, S.2) := fun p' r j hk => sm_u3 fun z => hk (z ▸ kyA (by omega) (by omega) (by rcases hp with rfl | rfl <;> decide) _)
      exact hR.fr hf (by decide)
    unfold p_X3_burn_L158
    simp (disch := first | omega | assumption) only [↓bd_rt, ↓bd_bd, ↓bd_ite, ↓bd_jn, ↓jn_ap, ↓ite_ap, ↓bd_gI1, ↓bd_pI1, ↓bd_gR1, ↓bd_pR1, ↓bd_gM, rt_ap, ↓reduceIte, iN_div, iN_divL, iN_add, iN_mul, iN_addL, iN_Ladd, iN_mulL, iN_Lmul, iN_subL, iN_sub, iN_le_T, iN_le_F, iN_lt_T, iN_lt_F, iN_eq_F, iN_leL_T, iN_leL_F, iN_Lle_T, iN_Lle_F, iN_ltL_T, iN_ltL_F, iN_Llt_T, iN_Llt_F, iN_eqL_T, iN_eqL_F, iN_m1, m1_iN, iN_le_m1, m1_le_iN, iN_neg, iN_pos, i10, i01, i00, i11, u3_op, u3_or, u3_same, pup_eq, pup_ne, ↓rI64_1, ↓rI65_1, hR.fl h hh, hR.wd h hh, if_false, ↓rI77_1, ↓rI78_1, ↓rI75_1, ↓wI74_1, ↓wI75_1, p7, p8, hb.stuff (24 * h + k) (by omega)]
    rw [bd_of (sp_X3_floorOf w hφ (tr (S := (u3 S1.1 74 1 (24 * h + k) (nhS c b h k), S1.2)) (Or.inr rfl) (tr (Or.inl rfl) hR)) hh (k := k) (by omega))]
    simp (disch := first | omega | assumption) only [↓bd_rt, ↓bd_bd, ↓bd_ite, ↓bd_jn, ↓jn_ap, ↓ite_ap, ↓bd_gI1, ↓bd_pI1, ↓bd_gR1, ↓bd_pR1, ↓bd_gM, rt_ap, ↓reduceIte, iN_div, iN_divL, iN_add, iN_mul, iN_addL, iN_Ladd, iN_mulL, iN_Lmul, iN_subL, iN_sub, iN_le_T, iN_le_F, iN_lt_T, iN_lt_F, iN_eq_F, iN_leL_T, iN_leL_F, iN_Lle_T, iN_Lle_F, iN_ltL_T, iN_ltL_F, iN_Llt_T, iN_Llt_F, iN_eqL_T, iN_eqL_F, iN_m1, m1_iN, iN_le_m1, m1_le_iN, iN_neg, iN_pos, i10, i01, i00, i11, u3_op, u3_or, u3_same, pup_eq, pup_ne, ↓rI79_1, ↓rI78_1, ↓wI79_1, p8, hb.bnt (6 * h + k / c.wd h) (by omega)]
    refine Lz.go ⟨rfl, ?_, ?_, fun k' hk' => ?_⟩
    · have hf : FrS [74, 75, 79] S1 (u3 (u3 (u3 S1.1 74 1 (24 * h + k) (nhS c b h k)) 75 1 (24 * h + k) ((bP c b false h k).stuff (24 * h + k) - loseS c b h k)) 79 1 (6 * h + k / c.wd h) ((bP c b false h k).bnt (6 * h + k / c.wd h) + loseS c b h k), S1.2) := fun p r j hk => by
        have h1 : ¬ (p = 74) := fun e => by subst e; exact hk (kyA (by decide) (by decide) (by decide) _)
        have h2 : ¬ (p = 75) := fun e => by subst e; exact hk (kyA (by decide) (by decide) (by decide) _)
        have h3 : ¬ (p = 79) := fun e => by subst e; exact hk (kyA (by decide) (by decide) (by decide) _)
        refine ⟨?_, rfl, rfl⟩
        simp only [u3_op h1, u3_op h2, u3_op h3]
      exact hR.fr hf (by decide)
    · refine RMbz.mk ?_ ?_ ?_ ?_ ?_
      · intro q hq
        show _ = pup (heatP c b h k) (24 * h + k) (nhS c b h k) q
        by_cases e : q = 24 * h + k
        · subst e; simp (disch := first | omega | assumption) only [↓bd_rt, ↓bd_bd, ↓bd_ite, ↓bd_jn, ↓jn_ap, ↓ite_ap, ↓bd_gI1, ↓bd_pI1, ↓bd_gR1, ↓bd_pR1, ↓bd_gM, rt_ap, ↓reduceIte, iN_div, iN_divL, iN_add, iN_mul, iN_addL, iN_Ladd, iN_mulL, iN_Lmul, iN_subL, iN_sub, iN_le_T, iN_le_F, iN_lt_T, iN_lt_F, iN_eq_F, iN_leL_T, iN_leL_F, iN_Lle_T, iN_Lle_F, iN_ltL_T, iN_ltL_F, iN_Llt_T, iN_Llt_F, iN_eqL_T, iN_eqL_F, iN_m1, m1_iN, iN_le_m1, m1_le_iN, iN_neg, iN_pos, i10, i01, i00, i11, u3_op, u3_or, u3_same, pup_eq, pup_ne]
        · simp (disch := first | omega | assumption) only [↓bd_rt, ↓bd_bd, ↓bd_ite, ↓bd_jn, ↓jn_ap, ↓ite_ap, ↓bd_gI1, ↓bd_pI1, ↓bd_gR1, ↓bd_pR1, ↓bd_gM, rt_ap, ↓reduceIte, iN_div, iN_divL, iN_add, iN_mul, iN_addL, iN_Ladd, iN_mulL, iN_Lmul, iN_subL, iN_sub, iN_le_T, iN_le_F, iN_lt_T, iN_lt_F, iN_eq_F, iN_leL_T, iN_leL_F, iN_Lle_T, iN_Lle_F, iN_ltL_T, iN_ltL_F, iN_Llt_T, iN_Llt_F, iN_eqL_T, iN_eqL_F, iN_m1, m1_iN, iN_le_m1, m1_le_iN, iN_neg, iN_pos, i10, i01, i00, i11, u3_op, u3_or, u3_same, pup_eq, pup_ne]; exact hb.heat q hq
      · intro q hq
        show _ = pup (stuffP c b h k) (24 * h + k) (b.stuff (24 * h + k) - loseS c b h k) q
        by_cases e : q = 24 * h + k
        · subst e; simp (disch := first | omega | assumption) only [↓bd_rt, ↓bd_bd, ↓bd_ite, ↓bd_jn, ↓jn_ap, ↓ite_ap, ↓bd_gI1, ↓bd_pI1, ↓bd_gR1, ↓bd_pR1, ↓bd_gM, rt_ap, ↓reduceIte, iN_div, iN_divL, iN_add, iN_mul, iN_addL, iN_Ladd, iN_mulL, iN_Lmul, iN_subL, iN_sub, iN_le_T, iN_le_F, iN_lt_T, iN_lt_F, iN_eq_F, iN_leL_T, iN_leL_F, iN_Lle_T, iN_Lle_F, iN_ltL_T, iN_ltL_F, iN_Llt_T, iN_Llt_F, iN_eqL_T, iN_eqL_F, iN_m1, m1_iN, iN_le_m1, m1_le_iN, iN_neg, iN_pos, i10, i01, i00, i11, u3_op, u3_or, u3_same, pup_eq, pup_ne]; rw [hst]
        · simp (disch := first | omega | assumption) only [↓bd_rt, ↓bd_bd, ↓bd_ite, ↓bd_jn, ↓jn_ap, ↓ite_ap, ↓bd_gI1, ↓bd_pI1, ↓bd_gR1, ↓bd_pR1, ↓bd_gM, rt_ap, ↓reduceIte, iN_div, iN_divL, iN_add, iN_mul, iN_addL, iN_Ladd, iN_mulL, iN_Lmul, iN_subL, iN_sub, iN_le_T, iN_le_F, iN_lt_T, iN_lt_F, iN_eq_F, iN_leL_T, iN_leL_F, iN_Lle_T, iN_Lle_F, iN_ltL_T, iN_ltL_F, iN_Llt_T, iN_Llt_F, iN_eqL_T, iN_eqL_F, iN_m1, m1_iN, iN_le_m1, m1_le_iN, iN_neg, iN_pos, i10, i01, i00, i11, u3_op, u3_or, u3_same, pup_eq, pup_ne]; exact hb.stuff q hq
      · intro q hq
        simp (disch := first | omega | assumption) only [↓bd_rt, ↓bd_bd, ↓bd_ite, ↓bd_jn, ↓jn_ap, ↓ite_ap, ↓bd_gI1, ↓bd_pI1, ↓bd_gR1, ↓bd_pR1, ↓bd_gM, rt_ap, ↓reduceIte, iN_div, iN_divL, iN_add, iN_mul, iN_addL, iN_Ladd, iN_mulL, iN_Lmul, iN_subL, iN_sub, iN_le_T, iN_le_F, iN_lt_T, iN_lt_F, iN_eq_F, iN_leL_T, iN_leL_F, iN_Lle_T, iN_Lle_F, iN_ltL_T, iN_ltL_F, iN_Llt_T, iN_Llt_F, iN_eqL_T, iN_eqL_F, iN_m1, m1_iN, iN_le_m1, m1_le_iN, iN_neg, iN_pos, i10, i01, i00, i11, u3_op, u3_or, u3_same, pup_eq, pup_ne]; exact hb.water q hq
      · intro q hq
        show _ = pup (bntP c b h k) (6 * h + k / c.wd h) (bntP c b h k (6 * h + k / c.wd h) + loseS c b h k) q
        by_cases e : q = 6 * h + k / c.wd h
        · subst e; simp (disch := first | omega | assumption) only [↓bd_rt, ↓bd_bd, ↓bd_ite, ↓bd_jn, ↓jn_ap, ↓ite_ap, ↓bd_gI1, ↓bd_pI1, ↓bd_gR1, ↓bd_pR1, ↓bd_gM, rt_ap, ↓reduceIte, iN_div, iN_divL, iN_add, iN_mul, iN_addL, iN_Ladd, iN_mulL, iN_Lmul, iN_subL, iN_sub, iN_le_T, iN_le_F, iN_lt_T, iN_lt_F, iN_eq_F, iN_leL_T, iN_leL_F, iN_Lle_T, iN_Lle_F, iN_ltL_T, iN_ltL_F, iN_Llt_T, iN_Llt_F, iN_eqL_T, iN_eqL_F, iN_m1, m1_iN, iN_le_m1, m1_le_iN, iN_neg, iN_pos, i10, i01, i00, i11, u3_op, u3_or, u3_same, pup_eq, pup_ne]; rfl
        · simp (disch := first | omega | assumption) only [↓bd_rt, ↓bd_bd, ↓bd_ite, ↓bd_jn, ↓jn_ap, ↓ite_ap, ↓bd_gI1, ↓bd_pI1, ↓bd_gR1, ↓bd_pR1, ↓bd_gM, rt_ap, ↓reduceIte, iN_div, iN_divL, iN_add, iN_mul, iN_addL, iN_Ladd, iN_mulL, iN_Lmul, iN_subL, iN_sub, iN_le_T, iN_le_F, iN_lt_T, iN_lt_F, iN_eq_F, iN_leL_T, iN_leL_F, iN_Lle_T, iN_Lle_F, iN_ltL_T, iN_ltL_F, iN_Llt_T, iN_Llt_F, iN_eqL_T, iN_eqL_F, iN_m1, m1_iN, iN_le_m1, m1_le_iN, iN_neg, iN_pos, i10, i01, i00, i11, u3_op, u3_or, u3_same, pup_eq, pup_ne]; exact hb.bnt q hq
      · intro q hq
        simp (disch := first | omega | assumption) only [↓bd_rt, ↓bd_bd, ↓bd_ite, ↓bd_jn, ↓jn_ap, ↓ite_ap, ↓bd_gI1, ↓bd_pI1, ↓bd_gR1, ↓bd_pR1, ↓bd_gM, rt_ap, ↓reduceIte, iN_div, iN_divL, iN_add, iN_mul, iN_addL, iN_Ladd, iN_mulL, iN_Lmul, iN_subL, iN_sub, iN_le_T, iN_le_F, iN_lt_T, iN_lt_F, iN_eq_F, iN_leL_T, iN_leL_F, iN_Lle_T, iN_Lle_F, iN_ltL_T, iN_ltL_F, iN_Llt_T, iN_Llt_F, iN_eqL_T, iN_eqL_F, iN_m1, m1_iN, iN_le_m1, m1_le_iN, iN_neg, iN_pos, i10, i01, i00, i11, u3_op, u3_or, u3_same, pup_eq, pup_ne]; exact hb.fal q hq
    · simp (disch := first | omega | assumption) only [↓bd_rt, ↓bd_bd, ↓bd_ite, ↓bd_jn, ↓jn_ap, ↓ite_ap, ↓bd_gI1, ↓bd_pI1, ↓bd_gR1, ↓bd_pR1, ↓bd_gM, rt_ap, ↓reduceIte, iN_div, iN_divL, iN_add, iN_mul, iN_addL, iN_Ladd, iN_mulL, iN_Lmul, iN_subL, iN_sub, iN_le_T, iN_le_F, iN_lt_T, iN_lt_F, iN_eq_F, iN_leL_T, iN_leL_F, iN_Lle_T, iN_Lle_F, iN_ltL_T, iN_ltL_F, iN_Llt_T, iN_Llt_F, iN_eqL_T, iN_eqL_F, iN_m1, m1_iN, iN_le_m1, m1_le_iN, iN_neg, iN_pos, i10, i01, i00, i11, u3_op, u3_or, u3_same, pup_eq, pup_ne]; exact hp k' hk'
  · rintro x S1 ⟨rfl, hR, hb, hp⟩ rec
    unfold p_X3_burn_L158
    simp (disch := first | omega | assumption) only [↓bd_rt, ↓bd_bd, ↓bd_ite, ↓bd_jn, ↓jn_ap, ↓ite_ap, ↓bd_gI1, ↓bd_pI1, ↓bd_gR1, ↓bd_pR1, ↓bd_gM, rt_ap, ↓reduceIte, iN_div, iN_divL, iN_add, iN_mul, iN_addL, iN_Ladd, iN_mulL, iN_Lmul, iN_subL, iN_sub, iN_le_T, iN_le_F, iN_lt_T, iN_lt_F, iN_eq_F, iN_leL_T, iN_leL_F, iN_Lle_T, iN_Lle_F, iN_ltL_T, iN_ltL_F, iN_Llt_T, iN_Llt_F, iN_eqL_T, iN_eqL_F, iN_m1, m1_iN, iN_le_m1, m1_le_iN, iN_neg, iN_pos, i10, i01, i00, i11, u3_op, u3_or, u3_same, pup_eq, pup_ne, ↓rI64_1, ↓rI65_1, hR.fl h hh, hR.wd h hh]
    exact Rs.mk ⟨hR, hb⟩
theorem sp_X3_burn_L148 {c : CHo} (w : c.WF) {b : CBz} {φ : amSh} {S : amSt} (hφ : φ.1 255 ≠ 0) (hR : RMho c S) (hb : RMbz b S)
    (hp : ∀ h k, h < c.n → k < c.fl h * c.wd h → S.1 77 1 (24 * h + k) = nhS c b h k ∧ S.1 78 1 (24 * h + k) = loseS c b h k) :
    Rs (fun _ S' => RMho c S' ∧ RMbz (bP c b false c.n 0) S') (alp p_X3_burn_L148 amFu 0 φ S) := by
  have hn := w.hn
  refine alp_I (fun j x S' => x = iN j ∧ RMho c S' ∧ RMbz (bP c b false j 0) S' ∧ ∀ h k, h < c.n → k < c.fl h * c.wd h → S'.1 77 1 (24 * h + k) = nhS c b h k ∧ S'.1 78 1 (24 * h + k) = loseS c b h k) c.n (amFu_lt (by omega)) ⟨rfl, hR, hb, hp⟩ ?_ ?_
  · rintro j x S1 hj ⟨rfl, hR, hb, hp⟩ rec
    unfold p_X3_burn_L148
    simp (disch := first | omega | assumption) only [↓bd_rt, ↓bd_bd, ↓bd_ite, ↓bd_jn, ↓jn_ap, ↓ite_ap, ↓bd_gI1, ↓bd_pI1, ↓bd_gR1, ↓bd_pR1, ↓bd_gM, rt_ap, ↓reduceIte, iN_div, iN_divL, iN_add, iN_mul, iN_addL, iN_Ladd, iN_mulL, iN_Lmul, iN_subL, iN_sub, iN_le_T, iN_le_F, iN_lt_T, iN_lt_F, iN_eq_F, iN_leL_T, iN_leL_F, iN_Lle_T, iN_Lle_F, iN_ltL_T, iN_ltL_F, iN_Llt_T, iN_Llt_F, iN_eqL_T, iN_eqL_F, iN_m1, m1_iN, iN_le_m1, m1_le_iN, iN_neg, iN_pos, i10, i01, i00, i11, u3_op, u3_or, u3_same, pup_eq, pup_ne, hR.n]
    refine bdRF (L := [74, 75, 79]) (Fr.halp (fun rec hrec x => fr_p_X3_burn_L158 (by decide) hrec x) _ _) (sp_X3_burn_L158 w hφ hR hj hb hp) fun _ S2 h2 hF => ?_
    refine Lz.go ⟨rfl, h2.1, h2.2, fun h k hh hk => ?_⟩
    rw [hF.i 77 1 _ (kyN (by decide) (by decide) (by decide)), hF.i 78 1 _ (kyN (by decide) (by decide) (by decide))]
    exact hp h k hh hk
  · rintro x S1 ⟨rfl, hR, hb, hp⟩ rec
    unfold p_X3_burn_L148
    simp (disch := first | omega | assumption) only [↓bd_rt, ↓bd_bd, ↓bd_ite, ↓bd_jn, ↓jn_ap, ↓ite_ap, ↓bd_gI1, ↓bd_pI1, ↓bd_gR1, ↓bd_pR1, ↓bd_gM, rt_ap, ↓reduceIte, iN_div, iN_divL, iN_add, iN_mul, iN_addL, iN_Ladd, iN_mulL, iN_Lmul, iN_subL, iN_sub, iN_le_T, iN_le_F, iN_lt_T, iN_lt_F, iN_eq_F, iN_leL_T, iN_leL_F, iN_Lle_T, iN_Lle_F, iN_ltL_T, iN_ltL_F, iN_Llt_T, iN_Llt_F, iN_eqL_T, iN_eqL_F, iN_m1, m1_iN, iN_le_m1, m1_le_iN, iN_neg, iN_pos, i10, i01, i00, i11, u3_op, u3_or, u3_same, pup_eq, pup_ne, hR.n]
    exact Rs.mk ⟨hR, hb⟩
/-! the component -/
def RCbk (b : CBz) (n : Nat) (cp : Bool) (S : amSt) : Prop := ∀ h, h < n → RCb1 b h (bnum cp h) S
theorem RCbk.fr {b : CBz} {n : Nat} {cp : Bool} {S S1 : amSt} (h : RCbk b n cp S) {L : List Nat} (hf : FrS L S S1) (hd : ∀ x ∈ KRCb1, x ∉ L) : RCbk b n cp S1 := fun k hk => (h k hk).fr hf hd
theorem bnum_inj {cp : Bool} {h h' : Nat} (e : bnum cp h = bnum cp h') : h = h' := by
  unfold bnum at e; cases cp <;> simp at e <;> omega
theorem sp_X1_change_L12 {c : CHo} (w : c.WF) {b : CBz} {cp : Bool} {φ : amSh} {S : amSt} (hR : RCho c φ S) (hb : RCbk b c.n cp S) {h : Nat} (hh : h < c.n) :
    Rs (fun _ S' => (RCho c φ S' ∧ RCbk b c.n cp S') ∧ (∀ k, k < c.fl h * c.wd h → S'.1 150 (bnum cp h) k = b01 (brn c b h k)) ∧ ∀ r k, r ≠ bnum cp h → S'.1 150 r k = S.1 150 r k) (alp (p_X1_change_L12 (i32b cp) (iN h)) amFu 0 φ S) := by
  have hn := w.hn
  have hfw := w.fw hh
  have hbn := bnum_ne (cp := cp) (h := h)
  refine alp_I (fun j x S' => x = iN j ∧ (RCho c φ S' ∧ RCbk b c.n cp S') ∧ (∀ k, k < j → S'.1 150 (bnum cp h) k = b01 (brn c b h k)) ∧ ∀ r k, r ≠ bnum cp h → S'.1 150 r k = S.1 150 r k) (c.fl h * c.wd h) (amFu_lt (by omega)) ⟨rfl, ⟨hR, hb⟩, fun k hk => by omega, fun _ _ _ => rfl⟩ ?_ ?_
  · rintro k x S1 hk ⟨rfl, ⟨hR, hb⟩, h1, h2⟩ rec
    have hst := bnum_st hR hh cp
    have hz : b01 (brn c b h k) = 0 ∨ b01 (brn c b h k) = 1 := by cases brn c b h k <;> simp [b01]
    unfold p_X1_change_L12
    simp (disch := first | omega | assumption) only [↓bd_rt, ↓bd_bd, ↓bd_ite, ↓bd_jn, ↓jn_ap, ↓ite_ap, ↓bd_gI1, ↓bd_pI1, ↓bd_gR1, ↓bd_pR1, ↓bd_gM, rt_ap, ↓reduceIte, iN_div, iN_divL, iN_add, iN_mul, iN_addL, iN_Ladd, iN_mulL, iN_Lmul, iN_subL, iN_sub, iN_le_T, iN_le_F, iN_lt_T, iN_lt_F, iN_eq_F, iN_leL_T, iN_leL_F, iN_Lle_T, iN_Lle_F, iN_ltL_T, iN_ltL_F, iN_Llt_T, iN_Llt_F, iN_eqL_T, iN_eqL_F, iN_m1, m1_iN, iN_le_m1, m1_le_iN, iN_neg, iN_pos, i10, i01, i00, i11, u3_op, u3_or, u3_same, pup_eq, pup_ne, ↓rR24_1, hR.obj h hh, ↓bd_nn, ↓bd_of (sp_X5_all hR hh), ↓bd_of (sp_X1_blazeOf hR hh cp), ↓bd_gC hbn (show 5 < φ.2.1 4 (bnum cp h) by omega), ↓bd_of (sp_X5_burns w hR hh (hb h hh) hbn hst hk), ↓bd_gd hz, ↓wI150]
    have hf : FrS [150] S1 (u3 S1.1 150 (bnum cp h) k (b01 (brn c b h k)), S1.2) := fun p r j hk => sm_u3 fun z => hk (z ▸ kyA (by decide) (by decide) (by decide) _)
    refine Lz.go ⟨rfl, ⟨hR.fr hf (by decide), hb.fr hf (by decide)⟩, fun k' hk' => ?_, fun r k' hr => ?_⟩
    · by_cases e : k' = k
      · subst e; simp (disch := first | omega | assumption) only [↓bd_rt, ↓bd_bd, ↓bd_ite, ↓bd_jn, ↓jn_ap, ↓ite_ap, ↓bd_gI1, ↓bd_pI1, ↓bd_gR1, ↓bd_pR1, ↓bd_gM, rt_ap, ↓reduceIte, iN_div, iN_divL, iN_add, iN_mul, iN_addL, iN_Ladd, iN_mulL, iN_Lmul, iN_subL, iN_sub, iN_le_T, iN_le_F, iN_lt_T, iN_lt_F, iN_eq_F, iN_leL_T, iN_leL_F, iN_Lle_T, iN_Lle_F, iN_ltL_T, iN_ltL_F, iN_Llt_T, iN_Llt_F, iN_eqL_T, iN_eqL_F, iN_m1, m1_iN, iN_le_m1, m1_le_iN, iN_neg, iN_pos, i10, i01, i00, i11, u3_op, u3_or, u3_same, pup_eq, pup_ne]
      · simp (disch := first | omega | assumption) only [↓bd_rt, ↓bd_bd, ↓bd_ite, ↓bd_jn, ↓jn_ap, ↓ite_ap, ↓bd_gI1, ↓bd_pI1, ↓bd_gR1, ↓bd_pR1, ↓bd_gM, rt_ap, ↓reduceIte, iN_div, iN_divL, iN_add, iN_mul, iN_addL, iN_Ladd, iN_mulL, iN_Lmul, iN_subL, iN_sub, iN_le_T, iN_le_F, iN_lt_T, iN_lt_F, iN_eq_F, iN_leL_T, iN_leL_F, iN_Lle_T, iN_Lle_F, iN_ltL_T, iN_ltL_F, iN_Llt_T, iN_Llt_F, iN_eqL_T, iN_eqL_F, iN_m1, m1_iN, iN_le_m1, m1_le_iN, iN_neg, iN_pos, i10, i01, i00, i11, u3_op, u3_or, u3_same, pup_eq, pup_ne]; exact h1 k' (by omega)
    · simp (disch := first | omega | assumption) only [↓bd_rt, ↓bd_bd, ↓bd_ite, ↓bd_jn, ↓jn_ap, ↓ite_ap, ↓bd_gI1, ↓bd_pI1, ↓bd_gR1, ↓bd_pR1, ↓bd_gM, rt_ap, ↓reduceIte, iN_div, iN_divL, iN_add, iN_mul, iN_addL, iN_Ladd, iN_mulL, iN_Lmul, iN_subL, iN_sub, iN_le_T, iN_le_F, iN_lt_T, iN_lt_F, iN_eq_F, iN_leL_T, iN_leL_F, iN_Lle_T, iN_Lle_F, iN_ltL_T, iN_ltL_F, iN_Llt_T, iN_Llt_F, iN_eqL_T, iN_eqL_F, iN_m1, m1_iN, iN_le_m1, m1_le_iN, iN_neg, iN_pos, i10, i01, i00, i11, u3_op, u3_or, u3_same, pup_eq, pup_ne]; exact h2 r k' hr
  · rintro x S1 ⟨rfl, ⟨hR, hb⟩, h1, h2⟩ rec
    unfold p_X1_change_L12
    simp (disch := first | omega | assumption) only [↓bd_rt, ↓bd_bd, ↓bd_ite, ↓bd_jn, ↓jn_ap, ↓ite_ap, ↓bd_gI1, ↓bd_pI1, ↓bd_gR1, ↓bd_pR1, ↓bd_gM, rt_ap, ↓reduceIte, iN_div, iN_divL, iN_add, iN_mul, iN_addL, iN_Ladd, iN_mulL, iN_Lmul, iN_subL, iN_sub, iN_le_T, iN_le_F, iN_lt_T, iN_lt_F, iN_eq_F, iN_leL_T, iN_leL_F, iN_Lle_T, iN_Lle_F, iN_ltL_T, iN_ltL_F, iN_Llt_T, iN_Llt_F, iN_eqL_T, iN_eqL_F, iN_m1, m1_iN, iN_le_m1, m1_le_iN, iN_neg, iN_pos, i10, i01, i00, i11, u3_op, u3_or, u3_same, pup_eq, pup_ne, ↓rR24_1, hR.obj h hh, ↓bd_nn, ↓bd_of (sp_X5_all hR hh)]
    exact Rs.mk ⟨⟨hR, hb⟩, h1, h2⟩
theorem sp_X1_change_L2 {c : CHo} (w : c.WF) {b : CBz} {cp : Bool} {φ : amSh} {S : amSt} (hR : RCho c φ S) (hb : RCbk b c.n cp S) :
    Rs (fun _ S' => (RCho c φ S' ∧ RCbk b c.n cp S') ∧ RCbd c b cp S') (alp (p_X1_change_L2 (i32b cp)) amFu 0 φ S) := by
  have hn := w.hn
  refine alp_I (fun j x S' => x = iN j ∧ (RCho c φ S' ∧ RCbk b c.n cp S') ∧ ∀ h k, h < j → k < c.fl h * c.wd h → S'.1 150 (bnum cp h) k = b01 (brn c b h k)) c.n (amFu_lt (by omega)) ⟨rfl, ⟨hR, hb⟩, fun h k hk => by omega⟩ ?_ ?_
  · rintro j x S1 hj ⟨rfl, ⟨hR, hb⟩, h1⟩ rec
    unfold p_X1_change_L2
    simp (disch := first | omega | assumption) only [↓bd_rt, ↓bd_bd, ↓bd_ite, ↓bd_jn, ↓jn_ap, ↓ite_ap, ↓bd_gI1, ↓bd_pI1, ↓bd_gR1, ↓bd_pR1, ↓bd_gM, rt_ap, ↓reduceIte, iN_div, iN_divL, iN_add, iN_mul, iN_addL, iN_Ladd, iN_mulL, iN_Lmul, iN_subL, iN_sub, iN_le_T, iN_le_F, iN_lt_T, iN_lt_F, iN_eq_F, iN_leL_T, iN_leL_F, iN_Lle_T, iN_Lle_F, iN_ltL_T, iN_ltL_F, iN_Llt_T, iN_Llt_F, iN_eqL_T, iN_eqL_F, iN_m1, m1_iN, iN_le_m1, m1_le_iN, iN_neg, iN_pos, i10, i01, i00, i11, u3_op, u3_or, u3_same, pup_eq, pup_ne, hR.n]
    refine bdR (sp_X1_change_L12 w hR hb hj) fun _ S2 h2 => ?_
    refine Lz.go ⟨rfl, h2.1, fun h k hh hk => ?_⟩
    by_cases e : h = j
    · subst e; exact h2.2.1 k hk
    · rw [h2.2.2 _ _ fun z => e (bnum_inj z)]; exact h1 h k (by omega) hk
  · rintro x S1 ⟨rfl, ⟨hR, hb⟩, h1⟩ rec
    unfold p_X1_change_L2
    simp (disch := first | omega | assumption) only [↓bd_rt, ↓bd_bd, ↓bd_ite, ↓bd_jn, ↓jn_ap, ↓ite_ap, ↓bd_gI1, ↓bd_pI1, ↓bd_gR1, ↓bd_pR1, ↓bd_gM, rt_ap, ↓reduceIte, iN_div, iN_divL, iN_add, iN_mul, iN_addL, iN_Ladd, iN_mulL, iN_Lmul, iN_subL, iN_sub, iN_le_T, iN_le_F, iN_lt_T, iN_lt_F, iN_eq_F, iN_leL_T, iN_leL_F, iN_Lle_T, iN_Lle_F, iN_ltL_T, iN_ltL_F, iN_Llt_T, iN_Llt_F, iN_eqL_T, iN_eqL_F, iN_m1, m1_iN, iN_le_m1, m1_le_iN, iN_neg, iN_pos, i10, i01, i00, i11, u3_op, u3_or, u3_same, pup_eq, pup_ne, hR.n]
    exact Rs.mk ⟨⟨hR, hb⟩, h1⟩
def RCgn (c : CHo) (b : CBz) (cp : Bool) (S : amSt) : Prop := ∀ h k, h < c.n → k < c.fl h * c.wd h → S.1 151 (bnum cp h) k = gainS c b h k
theorem sp_X1_change_L86 {c : CHo} (w : c.WF) {b : CBz} {cp : Bool} {φ : amSh} {S : amSt} (hφ : φ.1 255 ≠ 0) (hR : RCho c φ S) (hb : RCbk b c.n cp S) (hB : RCbd c b cp S) {h : Nat} (hh : h < c.n) :
    Rs (fun _ S' => (RCho c φ S' ∧ RCbk b c.n cp S' ∧ RCbd c b cp S') ∧ (∀ k, k < c.fl h * c.wd h → S'.1 151 (bnum cp h) k = gainS c b h k) ∧ ∀ r k, r ≠ bnum cp h → S'.1 151 r k = S.1 151 r k) (alp (p_X1_change_L86 (i32b cp) (iN h)) amFu 0 φ S) := by
  have hn := w.hn
  have hfw := w.fw hh
  have hbn := bnum_ne (cp := cp) (h := h)
  refine alp_I (fun j x S' => x = iN j ∧ (RCho c φ S' ∧ RCbk b c.n cp S' ∧ RCbd c b cp S') ∧ (∀ k, k < j → S'.1 151 (bnum cp h) k = gainS c b h k) ∧ ∀ r k, r ≠ bnum cp h → S'.1 151 r k = S.1 151 r k) (c.fl h * c.wd h) (amFu_lt (by omega)) ⟨rfl, ⟨hR, hb, hB⟩, fun k hk => by omega, fun _ _ _ => rfl⟩ ?_ ?_
  · rintro k x S1 hk ⟨rfl, ⟨hR, hb, hB⟩, h1, h2⟩ rec
    have hst := bnum_st hR hh cp
    unfold p_X1_change_L86
    simp (disch := first | omega | assumption) only [↓bd_rt, ↓bd_bd, ↓bd_ite, ↓bd_jn, ↓jn_ap, ↓ite_ap, ↓bd_gI1, ↓bd_pI1, ↓bd_gR1, ↓bd_pR1, ↓bd_gM, rt_ap, ↓reduceIte, iN_div, iN_divL, iN_add, iN_mul, iN_addL, iN_Ladd, iN_mulL, iN_Lmul, iN_subL, iN_sub, iN_le_T, iN_le_F, iN_lt_T, iN_lt_F, iN_eq_F, iN_leL_T, iN_leL_F, iN_Lle_T, iN_Lle_F, iN_ltL_T, iN_ltL_F, iN_Llt_T, iN_Llt_F, iN_eqL_T, iN_eqL_F, iN_m1, m1_iN, iN_le_m1, m1_le_iN, iN_neg, iN_pos, i10, i01, i00, i11, u3_op, u3_or, u3_same, pup_eq, pup_ne, ↓rR24_1, hR.obj h hh, ↓bd_nn, ↓bd_of (sp_X5_all hR hh), ↓bd_of (sp_X1_blazeOf hR hh cp), ↓bd_gC hbn (show 6 < φ.2.1 4 (bnum cp h) by omega), ↓bd_of (sp_X1_gainOf w hφ hR hB hh hk ((hb h hh).water k (by omega))), ↓wI151]
    have hf : FrS [151] S1 (u3 S1.1 151 (bnum cp h) k (gainS c b h k), S1.2) := fun p r j hk => sm_u3 fun z => hk (z ▸ kyA (by decide) (by decide) (by decide) _)
    refine Lz.go ⟨rfl, ⟨hR.fr hf (by decide), hb.fr hf (by decide), fun h' k' a1 a2 => (hf.i 150 _ _ (kyN (by decide) (by decide) (by decide))).trans (hB h' k' a1 a2)⟩, fun k' hk' => ?_, fun r k' hr => ?_⟩
    · by_cases e : k' = k
      · subst e; simp (disch := first | omega | assumption) only [↓bd_rt, ↓bd_bd, ↓bd_ite, ↓bd_jn, ↓jn_ap, ↓ite_ap, ↓bd_gI1, ↓bd_pI1, ↓bd_gR1, ↓bd_pR1, ↓bd_gM, rt_ap, ↓reduceIte, iN_div, iN_divL, iN_add, iN_mul, iN_addL, iN_Ladd, iN_mulL, iN_Lmul, iN_subL, iN_sub, iN_le_T, iN_le_F, iN_lt_T, iN_lt_F, iN_eq_F, iN_leL_T, iN_leL_F, iN_Lle_T, iN_Lle_F, iN_ltL_T, iN_ltL_F, iN_Llt_T, iN_Llt_F, iN_eqL_T, iN_eqL_F, iN_m1, m1_iN, iN_le_m1, m1_le_iN, iN_neg, iN_pos, i10, i01, i00, i11, u3_op, u3_or, u3_same, pup_eq, pup_ne]
      · simp (disch := first | omega | assumption) only [↓bd_rt, ↓bd_bd, ↓bd_ite, ↓bd_jn, ↓jn_ap, ↓ite_ap, ↓bd_gI1, ↓bd_pI1, ↓bd_gR1, ↓bd_pR1, ↓bd_gM, rt_ap, ↓reduceIte, iN_div, iN_divL, iN_add, iN_mul, iN_addL, iN_Ladd, iN_mulL, iN_Lmul, iN_subL, iN_sub, iN_le_T, iN_le_F, iN_lt_T, iN_lt_F, iN_eq_F, iN_leL_T, iN_leL_F, iN_Lle_T, iN_Lle_F, iN_ltL_T, iN_ltL_F, iN_Llt_T, iN_Llt_F, iN_eqL_T, iN_eqL_F, iN_m1, m1_iN, iN_le_m1, m1_le_iN, iN_neg, iN_pos, i10, i01, i00, i11, u3_op, u3_or, u3_same, pup_eq, pup_ne]; exact h1 k' (by omega)
    · simp (disch := first | omega | assumption) only [↓bd_rt, ↓bd_bd, ↓bd_ite, ↓bd_jn, ↓jn_ap, ↓ite_ap, ↓bd_gI1, ↓bd_pI1, ↓bd_gR1, ↓bd_pR1, ↓bd_gM, rt_ap, ↓reduceIte, iN_div, iN_divL, iN_add, iN_mul, iN_addL, iN_Ladd, iN_mulL, iN_Lmul, iN_subL, iN_sub, iN_le_T, iN_le_F, iN_lt_T, iN_lt_F, iN_eq_F, iN_leL_T, iN_leL_F, iN_Lle_T, iN_Lle_F, iN_ltL_T, iN_ltL_F, iN_Llt_T, iN_Llt_F, iN_eqL_T, iN_eqL_F, iN_m1, m1_iN, iN_le_m1, m1_le_iN, iN_neg, iN_pos, i10, i01, i00, i11, u3_op, u3_or, u3_same, pup_eq, pup_ne]; exact h2 r k' hr
  · rintro x S1 ⟨rfl, hc, h1, h2⟩ rec
    have hR := hc.1
    unfold p_X1_change_L86
    simp (disch := first | omega | assumption) only [↓bd_rt, ↓bd_bd, ↓bd_ite, ↓bd_jn, ↓jn_ap, ↓ite_ap, ↓bd_gI1, ↓bd_pI1, ↓bd_gR1, ↓bd_pR1, ↓bd_gM, rt_ap, ↓reduceIte, iN_div, iN_divL, iN_add, iN_mul, iN_addL, iN_Ladd, iN_mulL, iN_Lmul, iN_subL, iN_sub, iN_le_T, iN_le_F, iN_lt_T, iN_lt_F, iN_eq_F, iN_leL_T, iN_leL_F, iN_Lle_T, iN_Lle_F, iN_ltL_T, iN_ltL_F, iN_Llt_T, iN_Llt_F, iN_eqL_T, iN_eqL_F, iN_m1, m1_iN, iN_le_m1, m1_le_iN, iN_neg, iN_pos, i10, i01, i00, i11, u3_op, u3_or, u3_same, pup_eq, pup_ne, ↓rR24_1, hR.obj h hh, ↓bd_nn, ↓bd_of (sp_X5_all hR hh)]
    exact Rs.mk ⟨hc, h1, h2⟩
theorem sp_X1_change_L76 {c : CHo} (w : c.WF) {b : CBz} {cp : Bool} {φ : amSh} {S : amSt} (hφ : φ.1 255 ≠ 0) (hR : RCho c φ S) (hb : RCbk b c.n cp S) (hB : RCbd c b cp S) :
    Rs (fun _ S' => (RCho c φ S' ∧ RCbk b c.n cp S' ∧ RCbd c b cp S') ∧ RCgn c b cp S') (alp (p_X1_change_L76 (i32b cp)) amFu 0 φ S) := by
  have hn := w.hn
  refine alp_I (fun j x S' => x = iN j ∧ (RCho c φ S' ∧ RCbk b c.n cp S' ∧ RCbd c b cp S') ∧ ∀ h k, h < j → k < c.fl h * c.wd h → S'.1 151 (bnum cp h) k = gainS c b h k) c.n (amFu_lt (by omega)) ⟨rfl, ⟨hR, hb, hB⟩, fun h k hk => by omega⟩ ?_ ?_
  · rintro j x S1 hj ⟨rfl, ⟨hR, hb, hB⟩, h1⟩ rec
    unfold p_X1_change_L76
    simp (disch := first | omega | assumption) only [↓bd_rt, ↓bd_bd, ↓bd_ite, ↓bd_jn, ↓jn_ap, ↓ite_ap, ↓bd_gI1, ↓bd_pI1, ↓bd_gR1, ↓bd_pR1, ↓bd_gM, rt_ap, ↓reduceIte, iN_div, iN_divL, iN_add, iN_mul, iN_addL, iN_Ladd, iN_mulL, iN_Lmul, iN_subL, iN_sub, iN_le_T, iN_le_F, iN_lt_T, iN_lt_F, iN_eq_F, iN_leL_T, iN_leL_F, iN_Lle_T, iN_Lle_F, iN_ltL_T, iN_ltL_F, iN_Llt_T, iN_Llt_F, iN_eqL_T, iN_eqL_F, iN_m1, m1_iN, iN_le_m1, m1_le_iN, iN_neg, iN_pos, i10, i01, i00, i11, u3_op, u3_or, u3_same, pup_eq, pup_ne, hR.n]
    refine bdR (sp_X1_change_L86 w hφ hR hb hB hj) fun _ S2 h2 => ?_
    refine Lz.go ⟨rfl, h2.1, fun h k hh hk => ?_⟩
    by_cases e : h = j
    · subst e; exact h2.2.1 k hk
    · rw [h2.2.2 _ _ fun z => e (bnum_inj z)]; exact h1 h k (by omega) hk
  · rintro x S1 ⟨rfl, hc, h1⟩ rec
    have hR := hc.1
    unfold p_X1_change_L76
    simp (disch := first | omega | assumption) only [↓bd_rt, ↓bd_bd, ↓bd_ite, ↓bd_jn, ↓jn_ap, ↓ite_ap, ↓bd_gI1, ↓bd_pI1, ↓bd_gR1, ↓bd_pR1, ↓bd_gM, rt_ap, ↓reduceIte, iN_div, iN_divL, iN_add, iN_mul, iN_addL, iN_Ladd, iN_mulL, iN_Lmul, iN_subL, iN_sub, iN_le_T, iN_le_F, iN_lt_T, iN_lt_F, iN_eq_F, iN_leL_T, iN_leL_F, iN_Lle_T, iN_Lle_F, iN_ltL_T, iN_ltL_F, iN_Llt_T, iN_Llt_F, iN_eqL_T, iN_eqL_F, iN_m1, m1_iN, iN_le_m1, m1_le_iN, iN_neg, iN_pos, i10, i01, i00, i11, u3_op, u3_or, u3_same, pup_eq, pup_ne, hR.n]
    exact Rs.mk ⟨hc, h1⟩
