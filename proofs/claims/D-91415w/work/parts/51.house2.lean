/-! PURE: houses: beside, worst, loads -/
theorem RCbz.fr {b : CBz} {n : Nat} {S S1 : amSt} (h : RCbz b n S) {L : List Nat} (hf : FrS L S S1) (hd : ∀ x ∈ KRCb1, x ∉ L) : RCbz b n S1 := fun k hk => (h k hk).fr hf hd
/-- the house beside one: 0 none, else its number and one -/
def besL (c : CHo) (h : Nat) (up : Bool) : Nat → Nat → Nat
  | 0, _ => 0
  | d + 1, k => if c.cor k = c.cor h then k + 1 else if up then (if k + 1 < c.n then besL c h up d (k + 1) else 0) else (if 0 < k then besL c h up d (k - 1) else 0)
def besS (c : CHo) (h : Nat) (up : Bool) : Nat := if up then (if h + 1 < c.n then besL c h up 12 (h + 1) else 0) else (if 0 < h then besL c h up 12 (h - 1) else 0)
theorem besL_le {c : CHo} {h : Nat} {up : Bool} : ∀ d k, k < c.n → besL c h up d k ≤ c.n := by
  intro d
  induction d with
  | zero => intro k _; exact Nat.zero_le _
  | succ d ih =>
    intro k hk
    unfold besL
    split
    · omega
    · split
      · split
        · exact ih _ (by omega)
        · omega
      · split
        · exact ih _ (by omega)
        · omega
theorem besS_le {c : CHo} {h : Nat} {up : Bool} (hh : h < c.n) : besS c h up ≤ c.n := by
  unfold besS
  split
  · split
    · exact besL_le _ _ (by omega)
    · omega
  · split
    · exact besL_le _ _ (by omega)
    · omega
def by1 (up : Bool) : Int32 := if up then 1 else -1
theorem iN_by_up {k : Nat} : iN k + by1 true = iN (k + 1) := iN_add
theorem iN_by_dn {k : Nat} (h : 0 < k) : iN k + by1 false = iN (k - 1) := by
  have : iN (k - 1) + iN 1 = iN k := by rw [iN_add, Nat.sub_add_cancel h]
  rw [← this]
  show iN (k - 1) + 1 + (-1) = _
  grind
theorem iN_by_0 : iN 0 + by1 false = -1 := by decide
/-- where a walk beside stands: at a house, or out at an end -/
def besP (c : CHo) (k : Option Nat) (x : Int32) : Prop := match k with
  | some k => k < c.n ∧ x = iN k
  | none => x = -1 ∨ x = iN c.n
def besN (c : CHo) (up : Bool) (k : Nat) : Option Nat := if up then (if k + 1 < c.n then some (k + 1) else none) else (if 0 < k then some (k - 1) else none)
theorem besP_n {c : CHo} {up : Bool} {k : Nat} (hk : k < c.n) : besP c (besN c up k) (iN k + by1 up) := by
  unfold besN
  cases up with
  | true =>
    simp only [if_true, iN_by_up]
    split
    · exact ⟨by omega, rfl⟩
    · exact Or.inr (by rw [show k + 1 = c.n by omega])
  | false =>
    simp only [Bool.false_eq_true, if_false]
    split
    · rename_i h0
      exact ⟨by omega, iN_by_dn h0⟩
    · rename_i h0
      have : k = 0 := by omega
      subst this
      exact Or.inl iN_by_0
def besO (c : CHo) (h : Nat) (up : Bool) (d : Nat) : Option Nat → Nat
  | none => 0
  | some k => besL c h up d k
theorem besL_s {c : CHo} {h : Nat} {up : Bool} {d k : Nat} : besL c h up (d + 1) k = if c.cor k = c.cor h then k + 1 else besO c h up d (besN c up k) := by
  show (if c.cor k = c.cor h then k + 1 else if up then (if k + 1 < c.n then besL c h up d (k + 1) else 0) else (if 0 < k then besL c h up d (k - 1) else 0)) = _
  unfold besN besO
  cases up
  · simp only [Bool.false_eq_true, if_false]; split
    · rfl
    · split <;> rfl
  · simp only [if_true]; split
    · rfl
    · split <;> rfl
theorem besS_s {c : CHo} {h : Nat} {up : Bool} : besS c h up = besO c h up 12 (besN c up h) := by
  unfold besS besN besO
  cases up
  · simp only [Bool.false_eq_true, if_false]; split <;> rfl
  · simp only [if_true]; split <;> rfl
/-- so many houses are ahead of a walk -/
def ahead (c : CHo) (up : Bool) : Option Nat → Nat
  | none => 0
  | some k => if up then c.n - k else k + 1
theorem ahead_n {c : CHo} {up : Bool} {k : Nat} (hk : k < c.n) : ahead c up (besN c up k) < ahead c up (some k) := by
  have a0 : ahead c up none = 0 := rfl
  have a1 : ∀ k, ahead c up (some k) = if up then c.n - k else k + 1 := fun _ => rfl
  unfold besN
  cases up
  · simp only [Bool.false_eq_true, if_false] at a1 ⊢
    split
    · rw [a1, a1]; omega
    · rw [a0, a1]; omega
  · simp only [if_true] at a1 ⊢
    split
    · rw [a1, a1]; omega
    · rw [a0, a1]; omega
theorem ahead_le {c : CHo} {up : Bool} {k : Option Nat} (hk : ∀ x, k = some x → x < c.n) : ahead c up k ≤ c.n := by
  unfold ahead
  split
  · omega
  · have := hk _ rfl
    split <;> omega
theorem besO_fuel {c : CHo} {h : Nat} {up : Bool} : ∀ (d : Nat) (k : Option Nat) (e : Nat), (∀ x, k = some x → x < c.n) → ahead c up k ≤ d → ahead c up k ≤ e → besO c h up d k = besO c h up e k := by
  intro d
  induction d with
  | zero =>
    intro k e hk h1 h2
    cases k with
    | none => rfl
    | some k => have := hk k rfl; unfold ahead at h1; dsimp only at h1; split at h1 <;> omega
  | succ d ih =>
    intro k e hk h1 h2
    cases k with
    | none => rfl
    | some k =>
      have hkn := hk k rfl
      have ha := ahead_n (c := c) (up := up) hkn
      obtain ⟨e, rfl⟩ : ∃ m, e = m + 1 := ⟨e - 1, by omega⟩
      show besL c h up (d + 1) k = besL c h up (e + 1) k
      rw [besL_s, besL_s]
      split
      · rfl
      · refine ih _ e (fun x hx => ?_) (by omega) (by omega)
        unfold besN at hx
        cases up
        · simp only [Bool.false_eq_true, if_false] at hx; split at hx
          · cases hx; omega
          · cases hx
        · simp only [if_true] at hx; split at hx
          · cases hx; omega
          · cases hx
theorem besN_lt {c : CHo} {up : Bool} {k x : Nat} (hk : k < c.n) (h : besN c up k = some x) : x < c.n := by
  unfold besN at h
  cases up
  · simp only [Bool.false_eq_true, if_false] at h; split at h
    · cases h; omega
    · cases h
  · simp only [if_true] at h; split at h
    · cases h; omega
    · cases h
theorem sp_X1_beside {c : CHo} (w : c.WF) {φ : amSh} {S : amSt} (hφ : φ.1 255 ≠ 0) (hR : RCho c φ S) {h : Nat} (hh : h < c.n) (up : Bool) : p_X1_beside (iN h) (by1 up) φ S = some (besS c h up, S) := by
  have hn := w.hn
  have key : Rs (fun b S' => b = besS c h up ∧ S' = S) (alp (p_X1_beside_L4 (iN h) (by1 up)) amFu (iN h + by1 up) φ S) := by
    refine alp_I (fun j x S' => S' = S ∧ ∃ k, besP c k x ∧ (∀ y, k = some y → y < c.n) ∧ ahead c up k + j ≤ 12 ∧ besO c h up (12 - j) k = besS c h up) 12 (amFu_lt (by decide)) ⟨rfl, besN c up h, besP_n hh, fun y hy => besN_lt hh hy, ?_, besS_s.symm⟩ ?_ ?_
    · have := ahead_le (c := c) (up := up) (k := besN c up h) fun x hx => besN_lt hh hx
      omega
    · rintro j x S' hj ⟨rfl, k, hP, hk, ha, hb⟩ rec
      unfold p_X1_beside_L4
      cases k with
      | none =>
        have e : besS c h up = 0 := by rw [← hb]; rfl
        rw [e]
        rcases hP with rfl | rfl
        · simp only [show ((-1 : Int32) < 0) = True from eq_true (by decide), if_true, rt_ap]
          exact Lz.ret ⟨rfl, rfl⟩
        · simp (disch := first | omega | assumption) only [↓bd_rt, ↓bd_bd, ↓bd_ite, ↓bd_jn, ↓jn_ap, ↓ite_ap, ↓bd_gI1, ↓bd_pI1, ↓bd_gR1, ↓bd_pR1, ↓bd_gM, rt_ap, ↓reduceIte, iN_div, iN_divL, iN_add, iN_mul, iN_addL, iN_Ladd, iN_mulL, iN_Lmul, iN_subL, iN_sub, iN_le_T, iN_le_F, iN_lt_T, iN_lt_F, iN_eq_F, iN_leL_T, iN_leL_F, iN_Lle_T, iN_Lle_F, iN_ltL_T, iN_ltL_F, iN_Llt_T, iN_Llt_F, iN_eqL_T, iN_eqL_F, iN_m1, m1_iN, iN_le_m1, m1_le_iN, iN_neg, iN_pos, i10, i01, i00, i11, u3_op, u3_or, u3_same, pup_eq, pup_ne, hR.n]
          exact Lz.ret ⟨rfl, rfl⟩
      | some k =>
        obtain ⟨hkn, rfl⟩ := hP
        have c1 := w.cor k hkn
        have c2 := w.cor h hh
        have hq : besO c h up (12 - j) (some k) = besL c h up ((12 - (j + 1)) + 1) k := by rw [show 12 - j = (12 - (j + 1)) + 1 by omega]; rfl
        rw [hq, besL_s] at hb
        by_cases e : c.cor k = c.cor h
        · rw [if_pos e] at hb
          simp (disch := first | omega | assumption) only [↓bd_rt, ↓bd_bd, ↓bd_ite, ↓bd_jn, ↓jn_ap, ↓ite_ap, ↓bd_gI1, ↓bd_pI1, ↓bd_gR1, ↓bd_pR1, ↓bd_gM, rt_ap, ↓reduceIte, iN_div, iN_divL, iN_add, iN_mul, iN_addL, iN_Ladd, iN_mulL, iN_Lmul, iN_subL, iN_sub, iN_le_T, iN_le_F, iN_lt_T, iN_lt_F, iN_eq_F, iN_leL_T, iN_leL_F, iN_Lle_T, iN_Lle_F, iN_ltL_T, iN_ltL_F, iN_Llt_T, iN_Llt_F, iN_eqL_T, iN_eqL_F, iN_m1, m1_iN, iN_le_m1, m1_le_iN, iN_neg, iN_pos, i10, i01, i00, i11, u3_op, u3_or, u3_same, pup_eq, pup_ne, hR.n, ↓rR24_1, hR.obj k hkn, hR.obj h hh, ↓bd_gI, hR.cor k hkn, hR.cor h hh, e, if_true]
          exact Lz.ret ⟨hb, rfl⟩
        · rw [if_neg e] at hb
          simp (disch := first | omega | assumption) only [↓bd_rt, ↓bd_bd, ↓bd_ite, ↓bd_jn, ↓jn_ap, ↓ite_ap, ↓bd_gI1, ↓bd_pI1, ↓bd_gR1, ↓bd_pR1, ↓bd_gM, rt_ap, ↓reduceIte, iN_div, iN_divL, iN_add, iN_mul, iN_addL, iN_Ladd, iN_mulL, iN_Lmul, iN_subL, iN_sub, iN_le_T, iN_le_F, iN_lt_T, iN_lt_F, iN_eq_F, iN_leL_T, iN_leL_F, iN_Lle_T, iN_Lle_F, iN_ltL_T, iN_ltL_F, iN_Llt_T, iN_Llt_F, iN_eqL_T, iN_eqL_F, iN_m1, m1_iN, iN_le_m1, m1_le_iN, iN_neg, iN_pos, i10, i01, i00, i11, u3_op, u3_or, u3_same, pup_eq, pup_ne, hR.n, ↓rR24_1, hR.obj k hkn, hR.obj h hh, ↓bd_gI, hR.cor k hkn, hR.cor h hh]
          have := ahead_n (c := c) (up := up) hkn
          exact Lz.go ⟨rfl, _, besP_n hkn, fun y hy => besN_lt hkn hy, by omega, hb⟩
    · rintro x S' ⟨rfl, k, hP, hk, ha, hb⟩ rec
      unfold p_X1_beside_L4
      cases k with
      | none =>
        have e : besS c h up = 0 := by rw [← hb]; rfl
        rw [e]
        rcases hP with rfl | rfl
        · simp only [show ((-1 : Int32) < 0) = True from eq_true (by decide), if_true, rt_ap]
          exact Rs.mk ⟨rfl, rfl⟩
        · simp (disch := first | omega | assumption) only [↓bd_rt, ↓bd_bd, ↓bd_ite, ↓bd_jn, ↓jn_ap, ↓ite_ap, ↓bd_gI1, ↓bd_pI1, ↓bd_gR1, ↓bd_pR1, ↓bd_gM, rt_ap, ↓reduceIte, iN_div, iN_divL, iN_add, iN_mul, iN_addL, iN_Ladd, iN_mulL, iN_Lmul, iN_subL, iN_sub, iN_le_T, iN_le_F, iN_lt_T, iN_lt_F, iN_eq_F, iN_leL_T, iN_leL_F, iN_Lle_T, iN_Lle_F, iN_ltL_T, iN_ltL_F, iN_Llt_T, iN_Llt_F, iN_eqL_T, iN_eqL_F, iN_m1, m1_iN, iN_le_m1, m1_le_iN, iN_neg, iN_pos, i10, i01, i00, i11, u3_op, u3_or, u3_same, pup_eq, pup_ne, hR.n]
          exact Rs.mk ⟨rfl, rfl⟩
      | some k =>
        have := hk k rfl
        unfold ahead at ha; dsimp only at ha; split at ha <;> omega
  obtain ⟨b, S', e, rfl, rfl⟩ := key
  unfold p_X1_beside
  simp (disch := first | omega | assumption) only [↓bd_rt, ↓bd_bd, ↓bd_ite, ↓bd_jn, ↓jn_ap, ↓ite_ap, ↓bd_gI1, ↓bd_pI1, ↓bd_gR1, ↓bd_pR1, ↓bd_gM, rt_ap, ↓reduceIte, iN_div, iN_divL, iN_add, iN_mul, iN_addL, iN_Ladd, iN_mulL, iN_Lmul, iN_subL, iN_sub, iN_le_T, iN_le_F, iN_lt_T, iN_lt_F, iN_eq_F, iN_leL_T, iN_leL_F, iN_Lle_T, iN_Lle_F, iN_ltL_T, iN_ltL_F, iN_Llt_T, iN_Llt_F, iN_eqL_T, iN_eqL_F, iN_m1, m1_iN, iN_le_m1, m1_le_iN, iN_neg, iN_pos, i10, i01, i00, i11, u3_op, u3_or, u3_same, pup_eq, pup_ne]
  exact e
/-- a house's number in the model: none is -1 -/
def oW (w : Nat) : Int32 := if w = 0 then -1 else iN (w - 1)
theorem oW_0 : oW 0 = -1 := rfl
theorem oW_s {k : Nat} : oW (k + 1) = iN k := rfl
theorem sp_X3_beside {c : CHo} (w : c.WF) {φ : amSh} {S : amSt} (hφ : φ.1 255 ≠ 0) (hR : RMho c S) {h : Nat} (hh : h < c.n) (up : Bool) : p_X3_beside (iN h) (by1 up) φ S = some (oW (besS c h up), S) := by
  have hn := w.hn
  have key : Rs (fun b S' => (besS c h up = 0 ∧ (b = -1 ∨ b = iN c.n) ∨ ∃ k, k < c.n ∧ b = iN k ∧ besS c h up = k + 1) ∧ S' = S) (alp (p_X3_beside_L4 (iN h) (by1 up)) amFu (iN h + by1 up) φ S) := by
    refine alp_I (fun j x S' => S' = S ∧ ∃ k, besP c k x ∧ (∀ y, k = some y → y < c.n) ∧ ahead c up k + j ≤ 12 ∧ besO c h up (12 - j) k = besS c h up) 12 (amFu_lt (by decide)) ⟨rfl, besN c up h, besP_n hh, fun y hy => besN_lt hh hy, ?_, besS_s.symm⟩ ?_ ?_
    · have := ahead_le (c := c) (up := up) (k := besN c up h) fun x hx => besN_lt hh hx
      omega
    · rintro j x S' hj ⟨rfl, k, hP, hk, ha, hb⟩ rec
      unfold p_X3_beside_L4
      cases k with
      | none =>
        have e : besS c h up = 0 := by rw [← hb]; rfl
        rcases hP with rfl | rfl
        · simp only [show ((-1 : Int32) < 0) = True from eq_true (by decide), if_true, rt_ap]
          exact Lz.ret ⟨Or.inl ⟨e, Or.inl rfl⟩, rfl⟩
        · simp (disch := first | omega | assumption) only [↓bd_rt, ↓bd_bd, ↓bd_ite, ↓bd_jn, ↓jn_ap, ↓ite_ap, ↓bd_gI1, ↓bd_pI1, ↓bd_gR1, ↓bd_pR1, ↓bd_gM, rt_ap, ↓reduceIte, iN_div, iN_divL, iN_add, iN_mul, iN_addL, iN_Ladd, iN_mulL, iN_Lmul, iN_subL, iN_sub, iN_le_T, iN_le_F, iN_lt_T, iN_lt_F, iN_eq_F, iN_leL_T, iN_leL_F, iN_Lle_T, iN_Lle_F, iN_ltL_T, iN_ltL_F, iN_Llt_T, iN_Llt_F, iN_eqL_T, iN_eqL_F, iN_m1, m1_iN, iN_le_m1, m1_le_iN, iN_neg, iN_pos, i10, i01, i00, i11, u3_op, u3_or, u3_same, pup_eq, pup_ne, hR.n]
          exact Lz.ret ⟨Or.inl ⟨e, Or.inr rfl⟩, rfl⟩
      | some k =>
        obtain ⟨hkn, rfl⟩ := hP
        have c1 := w.cor k hkn
        have c2 := w.cor h hh
        have hq : besO c h up (12 - j) (some k) = besL c h up ((12 - (j + 1)) + 1) k := by rw [show 12 - j = (12 - (j + 1)) + 1 by omega]; rfl
        rw [hq, besL_s] at hb
        by_cases e : c.cor k = c.cor h
        · rw [if_pos e] at hb
          simp (disch := first | omega | assumption) only [↓bd_rt, ↓bd_bd, ↓bd_ite, ↓bd_jn, ↓jn_ap, ↓ite_ap, ↓bd_gI1, ↓bd_pI1, ↓bd_gR1, ↓bd_pR1, ↓bd_gM, rt_ap, ↓reduceIte, iN_div, iN_divL, iN_add, iN_mul, iN_addL, iN_Ladd, iN_mulL, iN_Lmul, iN_subL, iN_sub, iN_le_T, iN_le_F, iN_lt_T, iN_lt_F, iN_eq_F, iN_leL_T, iN_leL_F, iN_Lle_T, iN_Lle_F, iN_ltL_T, iN_ltL_F, iN_Llt_T, iN_Llt_F, iN_eqL_T, iN_eqL_F, iN_m1, m1_iN, iN_le_m1, m1_le_iN, iN_neg, iN_pos, i10, i01, i00, i11, u3_op, u3_or, u3_same, pup_eq, pup_ne, hR.n, ↓rI62_1, hR.cor k hkn, hR.cor h hh, e, if_true]
          exact Lz.ret ⟨Or.inr ⟨k, hkn, rfl, hb.symm⟩, rfl⟩
        · rw [if_neg e] at hb
          simp (disch := first | omega | assumption) only [↓bd_rt, ↓bd_bd, ↓bd_ite, ↓bd_jn, ↓jn_ap, ↓ite_ap, ↓bd_gI1, ↓bd_pI1, ↓bd_gR1, ↓bd_pR1, ↓bd_gM, rt_ap, ↓reduceIte, iN_div, iN_divL, iN_add, iN_mul, iN_addL, iN_Ladd, iN_mulL, iN_Lmul, iN_subL, iN_sub, iN_le_T, iN_le_F, iN_lt_T, iN_lt_F, iN_eq_F, iN_leL_T, iN_leL_F, iN_Lle_T, iN_Lle_F, iN_ltL_T, iN_ltL_F, iN_Llt_T, iN_Llt_F, iN_eqL_T, iN_eqL_F, iN_m1, m1_iN, iN_le_m1, m1_le_iN, iN_neg, iN_pos, i10, i01, i00, i11, u3_op, u3_or, u3_same, pup_eq, pup_ne, hR.n, ↓rI62_1, hR.cor k hkn, hR.cor h hh]
          have := ahead_n (c := c) (up := up) hkn
          exact Lz.go ⟨rfl, _, besP_n hkn, fun y hy => besN_lt hkn hy, by omega, hb⟩
    · rintro x S' ⟨rfl, k, hP, hk, ha, hb⟩ rec
      unfold p_X3_beside_L4
      cases k with
      | none =>
        have e : besS c h up = 0 := by rw [← hb]; rfl
        rcases hP with rfl | rfl
        · simp only [show ((-1 : Int32) < 0) = True from eq_true (by decide), if_true, rt_ap]
          exact Rs.mk ⟨Or.inl ⟨e, Or.inl rfl⟩, rfl⟩
        · simp (disch := first | omega | assumption) only [↓bd_rt, ↓bd_bd, ↓bd_ite, ↓bd_jn, ↓jn_ap, ↓ite_ap, ↓bd_gI1, ↓bd_pI1, ↓bd_gR1, ↓bd_pR1, ↓bd_gM, rt_ap, ↓reduceIte, iN_div, iN_divL, iN_add, iN_mul, iN_addL, iN_Ladd, iN_mulL, iN_Lmul, iN_subL, iN_sub, iN_le_T, iN_le_F, iN_lt_T, iN_lt_F, iN_eq_F, iN_leL_T, iN_leL_F, iN_Lle_T, iN_Lle_F, iN_ltL_T, iN_ltL_F, iN_Llt_T, iN_Llt_F, iN_eqL_T, iN_eqL_F, iN_m1, m1_iN, iN_le_m1, m1_le_iN, iN_neg, iN_pos, i10, i01, i00, i11, u3_op, u3_or, u3_same, pup_eq, pup_ne, hR.n]
          exact Rs.mk ⟨Or.inl ⟨e, Or.inr rfl⟩, rfl⟩
      | some k =>
        have := hk k rfl
        unfold ahead at ha; dsimp only at ha; split at ha <;> omega
  obtain ⟨b, S', e, hb, rfl⟩ := key
  unfold p_X3_beside
  simp (disch := first | omega | assumption) only [↓bd_rt, ↓bd_bd, ↓bd_ite, ↓bd_jn, ↓jn_ap, ↓ite_ap, ↓bd_gI1, ↓bd_pI1, ↓bd_gR1, ↓bd_pR1, ↓bd_gM, rt_ap, ↓reduceIte, iN_div, iN_divL, iN_add, iN_mul, iN_addL, iN_Ladd, iN_mulL, iN_Lmul, iN_subL, iN_sub, iN_le_T, iN_le_F, iN_lt_T, iN_lt_F, iN_eq_F, iN_leL_T, iN_leL_F, iN_Lle_T, iN_Lle_F, iN_ltL_T, iN_ltL_F, iN_Llt_T, iN_Llt_F, iN_eqL_T, iN_eqL_F, iN_m1, m1_iN, iN_le_m1, m1_le_iN, iN_neg, iN_pos, i10, i01, i00, i11, u3_op, u3_or, u3_same, pup_eq, pup_ne, ↓bd_of e]
  rcases hb with ⟨h0, rfl | rfl⟩ | ⟨k, hk, rfl, h1⟩
  · rw [h0]; simp only [show ((-1 : Int32) < 0) = True from eq_true (by decide), if_true]; rfl
  · rw [h0]; simp (disch := first | omega | assumption) only [↓bd_rt, ↓bd_bd, ↓bd_ite, ↓bd_jn, ↓jn_ap, ↓ite_ap, ↓bd_gI1, ↓bd_pI1, ↓bd_gR1, ↓bd_pR1, ↓bd_gM, rt_ap, ↓reduceIte, iN_div, iN_divL, iN_add, iN_mul, iN_addL, iN_Ladd, iN_mulL, iN_Lmul, iN_subL, iN_sub, iN_le_T, iN_le_F, iN_lt_T, iN_lt_F, iN_eq_F, iN_leL_T, iN_leL_F, iN_Lle_T, iN_Lle_F, iN_ltL_T, iN_ltL_F, iN_Llt_T, iN_Llt_F, iN_eqL_T, iN_eqL_F, iN_m1, m1_iN, iN_le_m1, m1_le_iN, iN_neg, iN_pos, i10, i01, i00, i11, u3_op, u3_or, u3_same, pup_eq, pup_ne, hR.n]; rfl
  · rw [h1]; simp (disch := first | omega | assumption) only [↓bd_rt, ↓bd_bd, ↓bd_ite, ↓bd_jn, ↓jn_ap, ↓ite_ap, ↓bd_gI1, ↓bd_pI1, ↓bd_gR1, ↓bd_pR1, ↓bd_gM, rt_ap, ↓reduceIte, iN_div, iN_divL, iN_add, iN_mul, iN_addL, iN_Ladd, iN_mulL, iN_Lmul, iN_subL, iN_sub, iN_le_T, iN_le_F, iN_lt_T, iN_lt_F, iN_eq_F, iN_leL_T, iN_leL_F, iN_Lle_T, iN_Lle_F, iN_ltL_T, iN_ltL_F, iN_Llt_T, iN_Llt_F, iN_eqL_T, iN_eqL_F, iN_m1, m1_iN, iN_le_m1, m1_le_iN, iN_neg, iN_pos, i10, i01, i00, i11, u3_op, u3_or, u3_same, pup_eq, pup_ne, hR.n]; rfl
