/-! PURE: streets, the programs -/
def RMst (c : CSt) (S : amSt) : Prop := (S.1 1 1 9 = iN c.n) ∧ (∀ s, s < c.n → S.1 55 1 s = iN (c.one s)) ∧ (∀ s, s < c.n → S.1 56 1 s = iN (c.oth s)) ∧ (∀ s, s < c.n → S.1 57 1 s = iN (c.len s)) ∧ (∀ k, k < 4 * c.n → S.1 58 1 k = iN (c.jam k)) ∧ (∀ s, s < 40 → S.1 60 1 s = c.cl s) ∧ (∀ a b, a < 20 → b < 20 → S.1 59 1 (20 * a + b) = iN (c.d a b))
theorem RMst.n {c : CSt} {S : amSt} (h : RMst c S) : S.1 1 1 9 = iN c.n := And.left h
theorem RMst.one {c : CSt} {S : amSt} (h : RMst c S) : ∀ s, s < c.n → S.1 55 1 s = iN (c.one s) := And.left (And.right h)
theorem RMst.oth {c : CSt} {S : amSt} (h : RMst c S) : ∀ s, s < c.n → S.1 56 1 s = iN (c.oth s) := And.left (And.right (And.right h))
theorem RMst.len {c : CSt} {S : amSt} (h : RMst c S) : ∀ s, s < c.n → S.1 57 1 s = iN (c.len s) := And.left (And.right (And.right (And.right h)))
theorem RMst.jam {c : CSt} {S : amSt} (h : RMst c S) : ∀ k, k < 4 * c.n → S.1 58 1 k = iN (c.jam k) := And.left (And.right (And.right (And.right (And.right h))))
theorem RMst.cl {c : CSt} {S : amSt} (h : RMst c S) : ∀ s, s < 40 → S.1 60 1 s = c.cl s := And.left (And.right (And.right (And.right (And.right (And.right h)))))
theorem RMst.d {c : CSt} {S : amSt} (h : RMst c S) : ∀ a b, a < 20 → b < 20 → S.1 59 1 (20 * a + b) = iN (c.d a b) := (And.right (And.right (And.right (And.right (And.right (And.right h))))))
theorem RMst.mk {c : CSt} {S : amSt} (h_n : S.1 1 1 9 = iN c.n) (h_one : ∀ s, s < c.n → S.1 55 1 s = iN (c.one s)) (h_oth : ∀ s, s < c.n → S.1 56 1 s = iN (c.oth s)) (h_len : ∀ s, s < c.n → S.1 57 1 s = iN (c.len s)) (h_jam : ∀ k, k < 4 * c.n → S.1 58 1 k = iN (c.jam k)) (h_cl : ∀ s, s < 40 → S.1 60 1 s = c.cl s) (h_d : ∀ a b, a < 20 → b < 20 → S.1 59 1 (20 * a + b) = iN (c.d a b)) : RMst c S := And.intro h_n (And.intro h_one (And.intro h_oth (And.intro h_len (And.intro h_jam (And.intro h_cl (h_d))))))
def RCst (c : CSt) (φ : amSh) (S : amSt) : Prop := (S.1 0 1 2 = iN c.n) ∧ (∀ s, s < c.n → S.2.2 20 1 s = s + 1) ∧ (∀ s, s < c.n → S.1 2 (s + 1) 0 = iN (c.one s)) ∧ (∀ s, s < c.n → S.1 2 (s + 1) 1 = iN (c.oth s)) ∧ (∀ s, s < c.n → S.1 2 (s + 1) 2 = iN (c.len s)) ∧ (∀ s, s < c.n → S.1 2 (s + 1) 4 = c.cl s) ∧ (∀ s p, s < c.n → p < 4 → S.1 142 (s + 1) p = iN (c.jam (4 * s + p))) ∧ (∀ s, s < c.n → 0 < φ.2.1 2 (s + 1)) ∧ (φ.1 2 = c.n) ∧ (φ.1 142 = c.n)
theorem RCst.n {c : CSt} {φ : amSh} {S : amSt} (h : RCst c φ S) : S.1 0 1 2 = iN c.n := And.left h
theorem RCst.obj {c : CSt} {φ : amSh} {S : amSt} (h : RCst c φ S) : ∀ s, s < c.n → S.2.2 20 1 s = s + 1 := And.left (And.right h)
theorem RCst.one {c : CSt} {φ : amSh} {S : amSt} (h : RCst c φ S) : ∀ s, s < c.n → S.1 2 (s + 1) 0 = iN (c.one s) := And.left (And.right (And.right h))
theorem RCst.oth {c : CSt} {φ : amSh} {S : amSt} (h : RCst c φ S) : ∀ s, s < c.n → S.1 2 (s + 1) 1 = iN (c.oth s) := And.left (And.right (And.right (And.right h)))
theorem RCst.len {c : CSt} {φ : amSh} {S : amSt} (h : RCst c φ S) : ∀ s, s < c.n → S.1 2 (s + 1) 2 = iN (c.len s) := And.left (And.right (And.right (And.right (And.right h))))
theorem RCst.cl {c : CSt} {φ : amSh} {S : amSt} (h : RCst c φ S) : ∀ s, s < c.n → S.1 2 (s + 1) 4 = c.cl s := And.left (And.right (And.right (And.right (And.right (And.right h)))))
theorem RCst.jam {c : CSt} {φ : amSh} {S : amSt} (h : RCst c φ S) : ∀ s p, s < c.n → p < 4 → S.1 142 (s + 1) p = iN (c.jam (4 * s + p)) := And.left (And.right (And.right (And.right (And.right (And.right (And.right h))))))
theorem RCst.stg {c : CSt} {φ : amSh} {S : amSt} (h : RCst c φ S) : ∀ s, s < c.n → 0 < φ.2.1 2 (s + 1) := And.left (And.right (And.right (And.right (And.right (And.right (And.right (And.right h)))))))
theorem RCst.cnt {c : CSt} {φ : amSh} {S : amSt} (h : RCst c φ S) : φ.1 2 = c.n := And.left (And.right (And.right (And.right (And.right (And.right (And.right (And.right (And.right h))))))))
theorem RCst.cnt2 {c : CSt} {φ : amSh} {S : amSt} (h : RCst c φ S) : φ.1 142 = c.n := (And.right (And.right (And.right (And.right (And.right (And.right (And.right (And.right (And.right h)))))))))
theorem RCst.mk {c : CSt} {φ : amSh} {S : amSt} (h_n : S.1 0 1 2 = iN c.n) (h_obj : ∀ s, s < c.n → S.2.2 20 1 s = s + 1) (h_one : ∀ s, s < c.n → S.1 2 (s + 1) 0 = iN (c.one s)) (h_oth : ∀ s, s < c.n → S.1 2 (s + 1) 1 = iN (c.oth s)) (h_len : ∀ s, s < c.n → S.1 2 (s + 1) 2 = iN (c.len s)) (h_cl : ∀ s, s < c.n → S.1 2 (s + 1) 4 = c.cl s) (h_jam : ∀ s p, s < c.n → p < 4 → S.1 142 (s + 1) p = iN (c.jam (4 * s + p))) (h_stg : ∀ s, s < c.n → 0 < φ.2.1 2 (s + 1)) (h_cnt : φ.1 2 = c.n) (h_cnt2 : φ.1 142 = c.n) : RCst c φ S := And.intro h_n (And.intro h_obj (And.intro h_one (And.intro h_oth (And.intro h_len (And.intro h_cl (And.intro h_jam (And.intro h_stg (And.intro h_cnt (h_cnt2)))))))))
/-- ranges of arguments -/
abbrev out (a lo hi : Int32) : Prop := a < lo ∨ hi < a
theorem not_out {a : Int32} {lo hi : Nat} (h : ¬ out a (OfNat.ofNat lo) (OfNat.ofNat hi)) (h1 : lo < 2147483648) (h2 : hi < 2147483648) : ∃ n, a = iN n ∧ lo ≤ n ∧ n ≤ hi := by
  unfold out at h
  have hlo : ¬ a < iN lo := fun z => h (Or.inl z)
  have hhi : ¬ iN hi < a := fun z => h (Or.inr z)
  have ha := Int32.toInt_lt a
  · have h0 : ¬ a < 0 := by
      rw [Int32.lt_iff_toInt_lt] at hlo ⊢
      rw [iN_toInt h1] at hlo
      have : (0 : Int32).toInt = 0 := rfl
      omega
    obtain ⟨n, hn, rfl⟩ := iN_of h0
    rw [iN_lt hn h1] at hlo
    rw [iN_lt h2 hn] at hhi
    exact ⟨n, rfl, by omega, by omega⟩
theorem sp_X1_in {a lo hi : Int32} {φ : amSh} {S : amSt} : p_X1_in a lo hi φ S = some (if out a lo hi then 0 else 1, S) := by
  unfold p_X1_in
  by_cases h1 : a < lo <;> by_cases h2 : hi < a <;> simp [out, h1, h2, jn_ap, ite_ap, rt_ap]
theorem sp_X3_isIn {a lo hi : Int32} {φ : amSh} {S : amSt} : p_X3_isIn a lo hi φ S = some (if out a lo hi then 0 else 1, S) := by
  unfold p_X3_isIn
  by_cases h1 : a < lo <;> by_cases h2 : hi < a <;> simp [out, h1, h2, jn_ap, ite_ap, rt_ap]
def b01 (b : Bool) : Int32 := if b then 1 else 0
theorem b01_f : b01 false = 0 := rfl
theorem b01_t : b01 true = 1 := rfl
def mins (c : CSt) (s tk slow : Nat) : Nat := (c.len s * c.jam (4 * s + tk / 360 % 4) * slow + 9999) / 10000
def wayS (c : CSt) (t slow k s : Nat) (th : Nat → Nat → Bool) : Nat → Nat → Bool :=
  if c.cl s ≠ 0 then th else if 600 < k + mins c s (t + k) slow then th else
    fun k' x => th k' x || (decide (k' = k + mins c s (t + k) slow) && ((th k (c.one s) && decide (x = c.oth s)) || (th k (c.oth s) && decide (x = c.one s))))
def comeL (c : CSt) (to t slow : Nat) : Nat → Nat → (Nat → Nat → Bool) → Option Nat
  | 0, _, _ => none
  | d + 1, k, th => if th k to then some (t + k) else comeL c to t slow d (k + 1) (itn (wayS c t slow k) th c.n)
def comeS (c : CSt) (fr to t slow : Nat) : Option Nat := comeL c to t slow 601 0 (fun k x => decide (k = 0) && decide (x = fr))
def oN : Option Nat → Int32
  | none => -1
  | some n => iN n
def TC (S : amSt) (th : Nat → Nat → Bool) : Prop := ∀ k x, k ≤ 600 → x < 20 → S.1 21 (k + 1) x = b01 (th k x)
def TM (S : amSt) (th : Nat → Nat → Bool) : Prop := ∀ k x, k ≤ 600 → x < 20 → S.1 61 1 (20 * k + x) = b01 (th k x)
theorem mins_pos {c : CSt} (h : c.WF) {s tk slow : Nat} (hs : s < c.n) (h5 : 50 ≤ slow) : 1 ≤ mins c s tk slow := by
  have h1 := (h.len s hs).1
  have h2 := (h.jam s (tk / 360 % 4) hs (Nat.mod_lt _ (by decide))).1
  have h3 : 1 * 100 * 50 ≤ c.len s * c.jam (4 * s + tk / 360 % 4) * slow := Nat.mul_le_mul (Nat.mul_le_mul h1 h2) h5
  unfold mins
  omega
theorem mins_lt {c : CSt} (h : c.WF) {s tk slow : Nat} (hs : s < c.n) (h3 : slow ≤ 300) : c.len s * c.jam (4 * s + tk / 360 % 4) * slow ≤ 2400000 := by
  have h1 := (h.len s hs).2
  have h2 := (h.jam s (tk / 360 % 4) hs (Nat.mod_lt _ (by decide))).2
  exact Nat.mul_le_mul (Nat.mul_le_mul h1 h2) h3
theorem sp_X1_partOf {t : Nat} (ht : t < 2147483648) {φ : amSh} {S : amSt} : p_X1_partOf (iN t) φ S = some (iN (t / 360 % 4), S) := by
  unfold p_X1_partOf
  simp only [rt_ap]
  rw [iN_divL ht (by decide), show (4 : Int32) = iN 4 from rfl, iN_mod (by omega) (by decide)]
theorem sp_X3_partOf {t : Nat} (ht : t < 2147483648) {φ : amSh} {S : amSt} : p_X3_partOf (iN t) φ S = some (iN (t / 360 % 4), S) := sp_X1_partOf ht
theorem sp_X4_minutes {c : CSt} (h : c.WF) {φ : amSh} {S : amSt} (hR : RCst c φ S) {s tk slow : Nat} (hs : s < c.n) (ht : tk < 100000) (h3 : slow ≤ 300) : p_X4_minutes (s + 1) (iN tk) (iN slow) φ S = some (iN (mins c s tk slow), S) := by
  have := hR.stg s hs
  have hm := mins_lt h (tk := tk) hs h3
  unfold p_X4_minutes
  rw [bd_gI (by omega), bd_gC (by omega) this, bd_of (sp_X1_partOf (by omega)), rI142 (by omega) (Nat.mod_lt _ (by decide)), rt_ap, hR.len s hs, hR.jam s _ hs (Nat.mod_lt _ (by decide))]
  rw [iN_mul, iN_mul, iN_addL, iN_divL (by omega) (by decide)]
  rfl
theorem sp_X1_pass {c : CSt} (h : c.WF) {φ : amSh} {S : amSt} (hφ : φ.1 255 ≠ 0) (hR : RCst c φ S) {th : Nat → Nat → Bool} (hT : TC S th) {k s t slow : Nat} (hs : s < c.n) (hk : k ≤ 600) (ht : t ≤ 30000) (h5 : 50 ≤ slow) (h3 : slow ≤ 300) (hc : c.cl s = 0) :
    Rs (fun _ S' => TC S' (wayS c t slow k s th)) (p_X1_pass (s + 1) (iN k) (iN t) (iN slow) φ S) := by
  have h1 := h.one s hs
  have h2 := h.oth s hs
  have hm := mins_pos h (tk := t + k) hs h5
  have hl := mins_lt h (tk := t + k) hs h3
  have hml : mins c s (t + k) slow ≤ 1000 := by unfold mins; omega
  have hmin := sp_X4_minutes h hR hs (tk := t + k) (by omega) h3
  have e1 := hT k _ hk h1
  have e2 := hT k _ hk h2
  unfold p_X1_pass
  simp only [wayS, hc, ne_eq, not_true_eq_false, if_false]
  by_cases h6 : 600 < k + mins c s (t + k) slow
  · rw [if_pos h6]
    cases q1 : th k (c.one s) <;> cases q2 : th k (c.oth s) <;> simp only [q1, q2, b01_f, b01_t] at e1 e2 <;> simp (disch := first | omega | assumption) only [↓bd_rt, ↓bd_bd, ↓bd_ite, ↓bd_jn, ↓jn_ap, ↓ite_ap, ↓bd_gI1, ↓bd_pI1, ↓bd_gR1, ↓bd_pR1, ↓bd_gM, rt_ap, ↓reduceIte, iN_div, iN_divL, iN_add, iN_mul, iN_addL, iN_Ladd, iN_mulL, iN_Lmul, iN_subL, iN_sub, iN_le_T, iN_le_F, iN_lt_T, iN_lt_F, iN_eq_F, iN_leL_T, iN_leL_F, iN_Lle_T, iN_Lle_F, iN_ltL_T, iN_ltL_F, iN_Llt_T, iN_Llt_F, iN_eqL_T, iN_eqL_F, iN_m1, m1_iN, iN_le_m1, m1_le_iN, iN_neg, iN_pos, i10, i01, i00, i11, u3_op, u3_or, u3_same, pup_eq, pup_ne, ↓rG22_1, ↓bd_gI, hR.one s hs, hR.oth s hs, ↓rI21, e1, e2, ↓bd_nn, ↓bd_of hmin, ↓wI21] <;> exact Rs.mk hT
  · rw [if_neg h6]
    have hne : ¬ k + mins c s (t + k) slow = k := by omega
    cases q1 : th k (c.one s) <;> cases q2 : th k (c.oth s) <;> simp only [q1, q2, b01_f, b01_t] at e1 e2 <;> simp (disch := first | omega | assumption) only [↓bd_rt, ↓bd_bd, ↓bd_ite, ↓bd_jn, ↓jn_ap, ↓ite_ap, ↓bd_gI1, ↓bd_pI1, ↓bd_gR1, ↓bd_pR1, ↓bd_gM, rt_ap, ↓reduceIte, iN_div, iN_divL, iN_add, iN_mul, iN_addL, iN_Ladd, iN_mulL, iN_Lmul, iN_subL, iN_sub, iN_le_T, iN_le_F, iN_lt_T, iN_lt_F, iN_eq_F, iN_leL_T, iN_leL_F, iN_Lle_T, iN_Lle_F, iN_ltL_T, iN_ltL_F, iN_Llt_T, iN_Llt_F, iN_eqL_T, iN_eqL_F, iN_m1, m1_iN, iN_le_m1, m1_le_iN, iN_neg, iN_pos, i10, i01, i00, i11, u3_op, u3_or, u3_same, pup_eq, pup_ne, ↓rG22_1, ↓bd_gI, hR.one s hs, hR.oth s hs, ↓rI21, e1, e2, ↓bd_nn, ↓bd_of hmin, ↓wI21]
    · refine Rs.mk fun k' x hk' hx => ?_
      rw [hT k' x hk' hx]
      simp
    all_goals
      refine Rs.mk fun k' x hk' hx => ?_
      have e := hT k' x hk' hx
      by_cases a1 : k' = k + mins c s (t + k) slow <;> by_cases a2 : x = c.one s <;> by_cases a3 : x = c.oth s <;> simp [u3, a1, a2, a3, b01, e] <;> simp_all [b01]
def KRCst : List Nat := [1002, 20, 3000, 3001, 3002, 3004, 142]
def KRMst : List Nat := [2009, 55, 56, 57, 58, 59, 60]
theorem RCst.same {c : CSt} {φ φ1 : amSh} {S S1 : amSt} (h : RCst c φ S) {L : List Nat} (hf : FrS L S S1) (hd : ∀ x ∈ KRCst, x ∉ L) (e1 : φ1.1 2 = φ.1 2) (e2 : φ1.1 142 = φ.1 142) (e3 : ∀ r, φ.2.1 2 r ≤ φ1.2.1 2 r) : RCst c φ1 S1 :=
  RCst.mk
    ((hf.i 0 1 2 (hd 1002 (by decide))).trans h.n)
    (fun s hs => (hf.r 20 1 s (hd 20 (by decide))).trans (h.obj s hs))
    (fun s hs => (hf.i 2 (s + 1) 0 (hd 3000 (by decide))).trans (h.one s hs))
    (fun s hs => (hf.i 2 (s + 1) 1 (hd 3001 (by decide))).trans (h.oth s hs))
    (fun s hs => (hf.i 2 (s + 1) 2 (hd 3002 (by decide))).trans (h.len s hs))
    (fun s hs => (hf.i 2 (s + 1) 4 (hd 3004 (by decide))).trans (h.cl s hs))
    (fun s p hs hp => (hf.i 142 (s + 1) p (hd 142 (by decide))).trans (h.jam s p hs hp))
    (fun s hs => Nat.lt_of_lt_of_le (h.stg s hs) (e3 _))
    (e1.trans h.cnt)
    (e2.trans h.cnt2)
theorem RCst.fr {c : CSt} {φ : amSh} {S S1 : amSt} (h : RCst c φ S) {L : List Nat} (hf : FrS L S S1) (hd : ∀ x ∈ KRCst, x ∉ L) : RCst c φ S1 := h.same hf hd rfl rfl fun _ => Nat.le_refl _
theorem RMst.fr {c : CSt} {S S1 : amSt} (h : RMst c S) {L : List Nat} (hf : FrS L S S1) (hd : ∀ x ∈ KRMst, x ∉ L) : RMst c S1 :=
  RMst.mk
    ((hf.i 1 1 9 (hd 2009 (by decide))).trans h.n)
    (fun s hs => (hf.i 55 1 s (hd 55 (by decide))).trans (h.one s hs))
    (fun s hs => (hf.i 56 1 s (hd 56 (by decide))).trans (h.oth s hs))
    (fun s hs => (hf.i 57 1 s (hd 57 (by decide))).trans (h.len s hs))
    (fun k hk => (hf.i 58 1 k (hd 58 (by decide))).trans (h.jam k hk))
    (fun s hs => (hf.i 60 1 s (hd 60 (by decide))).trans (h.cl s hs))
    (fun a b ha hb => (hf.i 59 1 _ (hd 59 (by decide))).trans (h.d a b ha hb))
theorem sp_X1_comeOn_L80 {c : CSt} (h : c.WF) {φ : amSh} {S : amSt} (hφ : φ.1 255 ≠ 0) (hR : RCst c φ S) {th : Nat → Nat → Bool} (hT : TC S th) {k t slow : Nat} (hk : k ≤ 600) (ht : t ≤ 30000) (h5 : 50 ≤ slow) (h3 : slow ≤ 300) :
    Rs (fun _ S' => RCst c φ S' ∧ TC S' (itn (wayS c t slow k) th c.n)) (alp (p_X1_comeOn_L80 (iN t) (iN slow) (iN k)) amFu 0 φ S) := by
  have hn := h.hn
  refine alp_I (fun s x S => x = iN s ∧ RCst c φ S ∧ TC S (itn (wayS c t slow k) th s)) c.n (amFu_lt (by omega)) ⟨rfl, hR, hT⟩ ?_ ?_
  · rintro s x S hs ⟨rfl, hR, hT⟩ rec
    unfold p_X1_comeOn_L80
    simp (disch := first | omega | assumption) only [↓bd_rt, ↓bd_bd, ↓bd_ite, ↓bd_jn, ↓jn_ap, ↓ite_ap, ↓bd_gI1, ↓bd_pI1, ↓bd_gR1, ↓bd_pR1, ↓bd_gM, rt_ap, ↓reduceIte, iN_div, iN_divL, iN_add, iN_mul, iN_addL, iN_Ladd, iN_mulL, iN_Lmul, iN_subL, iN_sub, iN_le_T, iN_le_F, iN_lt_T, iN_lt_F, iN_eq_F, iN_leL_T, iN_leL_F, iN_Lle_T, iN_Lle_F, iN_ltL_T, iN_ltL_F, iN_Llt_T, iN_Llt_F, iN_eqL_T, iN_eqL_F, iN_m1, m1_iN, iN_le_m1, m1_le_iN, iN_neg, iN_pos, i10, i01, i00, i11, u3_op, u3_or, u3_same, pup_eq, pup_ne, hR.n, ↓rR20_1, hR.obj s hs, ↓bd_gI, hR.cl s hs]
    by_cases hc : c.cl s = 0
    · rw [if_pos hc]
      refine bdRF (fr_p_X1_pass _ _ _ _) (sp_X1_pass h hφ hR hT hs hk ht h5 h3 hc) fun _ S1 hT1 hF => ?_
      refine Lz.go ⟨rfl, hR.fr hF (by decide), hT1⟩
    · rw [if_neg hc]
      refine Lz.go ⟨rfl, hR, ?_⟩
      show TC S (wayS c t slow k s (itn (wayS c t slow k) th s))
      unfold wayS
      rw [if_pos hc]
      exact hT
  · rintro x S ⟨rfl, hR, hT⟩ rec
    unfold p_X1_comeOn_L80
    simp (disch := first | omega | assumption) only [↓bd_rt, ↓bd_bd, ↓bd_ite, ↓bd_jn, ↓jn_ap, ↓ite_ap, ↓bd_gI1, ↓bd_pI1, ↓bd_gR1, ↓bd_pR1, ↓bd_gM, rt_ap, ↓reduceIte, iN_div, iN_divL, iN_add, iN_mul, iN_addL, iN_Ladd, iN_mulL, iN_Lmul, iN_subL, iN_sub, iN_le_T, iN_le_F, iN_lt_T, iN_lt_F, iN_eq_F, iN_leL_T, iN_leL_F, iN_Lle_T, iN_Lle_F, iN_ltL_T, iN_ltL_F, iN_Llt_T, iN_Llt_F, iN_eqL_T, iN_eqL_F, iN_m1, m1_iN, iN_le_m1, m1_le_iN, iN_neg, iN_pos, i10, i01, i00, i11, u3_op, u3_or, u3_same, pup_eq, pup_ne, hR.n]
    exact Rs.mk ⟨hR, hT⟩
theorem sp_J3_fill {r : Nat} (hr : r ≠ 0) {φ : amSh} {S : amSt} : Rs (fun _ S' => (∀ x, x < 20 → S'.1 21 r x = 0) ∧ ∀ r' x, r' ≠ r → S'.1 21 r' x = S.1 21 r' x) (p_J3_fill r 0 φ S) := by
  unfold p_J3_fill
  simp (disch := first | omega | assumption) only [↓bd_rt, ↓bd_bd, ↓bd_ite, ↓bd_jn, ↓jn_ap, ↓ite_ap, ↓bd_gI1, ↓bd_pI1, ↓bd_gR1, ↓bd_pR1, ↓bd_gM, rt_ap, ↓reduceIte, iN_div, iN_divL, iN_add, iN_mul, iN_addL, iN_Ladd, iN_mulL, iN_Lmul, iN_subL, iN_sub, iN_le_T, iN_le_F, iN_lt_T, iN_lt_F, iN_eq_F, iN_leL_T, iN_leL_F, iN_Lle_T, iN_Lle_F, iN_ltL_T, iN_ltL_F, iN_Llt_T, iN_Llt_F, iN_eqL_T, iN_eqL_F, iN_m1, m1_iN, iN_le_m1, m1_le_iN, iN_neg, iN_pos, i10, i01, i00, i11, u3_op, u3_or, u3_same, pup_eq, pup_ne, ↓bd_nn]
  refine bdR (Q := fun _ S' => (∀ x, x < 20 → S'.1 21 r x = 0) ∧ ∀ r' x, r' ≠ r → S'.1 21 r' x = S.1 21 r' x) ?_ fun _ S1 h1 => ?_
  · refine alp_I (fun k x S' => x = iN k ∧ (∀ x, x < k → S'.1 21 r x = 0) ∧ ∀ r' x, r' ≠ r → S'.1 21 r' x = S.1 21 r' x) 20 (amFu_lt (by decide)) ⟨rfl, fun x hx => by omega, fun _ _ _ => rfl⟩ ?_ ?_
    · rintro k x S1 hk ⟨rfl, h1, h2⟩ rec
      unfold p_J3_fill_L5
      simp (disch := first | omega | assumption) only [↓bd_rt, ↓bd_bd, ↓bd_ite, ↓bd_jn, ↓jn_ap, ↓ite_ap, ↓bd_gI1, ↓bd_pI1, ↓bd_gR1, ↓bd_pR1, ↓bd_gM, rt_ap, ↓reduceIte, iN_div, iN_divL, iN_add, iN_mul, iN_addL, iN_Ladd, iN_mulL, iN_Lmul, iN_subL, iN_sub, iN_le_T, iN_le_F, iN_lt_T, iN_lt_F, iN_eq_F, iN_leL_T, iN_leL_F, iN_Lle_T, iN_Lle_F, iN_ltL_T, iN_ltL_F, iN_Llt_T, iN_Llt_F, iN_eqL_T, iN_eqL_F, iN_m1, m1_iN, iN_le_m1, m1_le_iN, iN_neg, iN_pos, i10, i01, i00, i11, u3_op, u3_or, u3_same, pup_eq, pup_ne, ↓bd_gd (show (0 : Int32) = 0 ∨ (0 : Int32) = 1 from Or.inl rfl), ↓wI21]
      refine Lz.go ⟨rfl, fun x hx => ?_, fun r' x hr' => ?_⟩
      · by_cases e : x = k
        · simp (disch := first | omega | assumption) only [↓bd_rt, ↓bd_bd, ↓bd_ite, ↓bd_jn, ↓jn_ap, ↓ite_ap, ↓bd_gI1, ↓bd_pI1, ↓bd_gR1, ↓bd_pR1, ↓bd_gM, rt_ap, ↓reduceIte, iN_div, iN_divL, iN_add, iN_mul, iN_addL, iN_Ladd, iN_mulL, iN_Lmul, iN_subL, iN_sub, iN_le_T, iN_le_F, iN_lt_T, iN_lt_F, iN_eq_F, iN_leL_T, iN_leL_F, iN_Lle_T, iN_Lle_F, iN_ltL_T, iN_ltL_F, iN_Llt_T, iN_Llt_F, iN_eqL_T, iN_eqL_F, iN_m1, m1_iN, iN_le_m1, m1_le_iN, iN_neg, iN_pos, i10, i01, i00, i11, u3_op, u3_or, u3_same, pup_eq, pup_ne, e]
        · simp (disch := first | omega | assumption) only [↓bd_rt, ↓bd_bd, ↓bd_ite, ↓bd_jn, ↓jn_ap, ↓ite_ap, ↓bd_gI1, ↓bd_pI1, ↓bd_gR1, ↓bd_pR1, ↓bd_gM, rt_ap, ↓reduceIte, iN_div, iN_divL, iN_add, iN_mul, iN_addL, iN_Ladd, iN_mulL, iN_Lmul, iN_subL, iN_sub, iN_le_T, iN_le_F, iN_lt_T, iN_lt_F, iN_eq_F, iN_leL_T, iN_leL_F, iN_Lle_T, iN_Lle_F, iN_ltL_T, iN_ltL_F, iN_Llt_T, iN_Llt_F, iN_eqL_T, iN_eqL_F, iN_m1, m1_iN, iN_le_m1, m1_le_iN, iN_neg, iN_pos, i10, i01, i00, i11, u3_op, u3_or, u3_same, pup_eq, pup_ne]; exact h1 x (by omega)
      · simp (disch := first | omega | assumption) only [↓bd_rt, ↓bd_bd, ↓bd_ite, ↓bd_jn, ↓jn_ap, ↓ite_ap, ↓bd_gI1, ↓bd_pI1, ↓bd_gR1, ↓bd_pR1, ↓bd_gM, rt_ap, ↓reduceIte, iN_div, iN_divL, iN_add, iN_mul, iN_addL, iN_Ladd, iN_mulL, iN_Lmul, iN_subL, iN_sub, iN_le_T, iN_le_F, iN_lt_T, iN_lt_F, iN_eq_F, iN_leL_T, iN_leL_F, iN_Lle_T, iN_Lle_F, iN_ltL_T, iN_ltL_F, iN_Llt_T, iN_Llt_F, iN_eqL_T, iN_eqL_F, iN_m1, m1_iN, iN_le_m1, m1_le_iN, iN_neg, iN_pos, i10, i01, i00, i11, u3_op, u3_or, u3_same, pup_eq, pup_ne]; exact h2 r' x hr'
    · rintro x S1 ⟨rfl, h1, h2⟩ rec
      unfold p_J3_fill_L5
      simp (disch := first | omega | assumption) only [↓bd_rt, ↓bd_bd, ↓bd_ite, ↓bd_jn, ↓jn_ap, ↓ite_ap, ↓bd_gI1, ↓bd_pI1, ↓bd_gR1, ↓bd_pR1, ↓bd_gM, rt_ap, ↓reduceIte, iN_div, iN_divL, iN_add, iN_mul, iN_addL, iN_Ladd, iN_mulL, iN_Lmul, iN_subL, iN_sub, iN_le_T, iN_le_F, iN_lt_T, iN_lt_F, iN_eq_F, iN_leL_T, iN_leL_F, iN_Lle_T, iN_Lle_F, iN_ltL_T, iN_ltL_F, iN_Llt_T, iN_Llt_F, iN_eqL_T, iN_eqL_F, iN_m1, m1_iN, iN_le_m1, m1_le_iN, iN_neg, iN_pos, i10, i01, i00, i11, u3_op, u3_or, u3_same, pup_eq, pup_ne]
      exact Rs.mk ⟨h1, h2⟩
  · simp (disch := first | omega | assumption) only [↓bd_rt, ↓bd_bd, ↓bd_ite, ↓bd_jn, ↓jn_ap, ↓ite_ap, ↓bd_gI1, ↓bd_pI1, ↓bd_gR1, ↓bd_pR1, ↓bd_gM, rt_ap, ↓reduceIte, iN_div, iN_divL, iN_add, iN_mul, iN_addL, iN_Ladd, iN_mulL, iN_Lmul, iN_subL, iN_sub, iN_le_T, iN_le_F, iN_lt_T, iN_lt_F, iN_eq_F, iN_leL_T, iN_leL_F, iN_Lle_T, iN_Lle_F, iN_ltL_T, iN_ltL_F, iN_Llt_T, iN_Llt_F, iN_eqL_T, iN_eqL_F, iN_m1, m1_iN, iN_le_m1, m1_le_iN, iN_neg, iN_pos, i10, i01, i00, i11, u3_op, u3_or, u3_same, pup_eq, pup_ne]
    exact Rs.mk h1
theorem sp_X1_comeOn_L14 {φ : amSh} {S : amSt} : Rs (fun _ S' => ∀ k x, k ≤ 600 → x < 20 → S'.1 21 (k + 1) x = 0) (alp p_X1_comeOn_L14 amFu 0 φ S) := by
  refine alp_I (fun k x S' => x = iN k ∧ ∀ k' x, k' < k → x < 20 → S'.1 21 (k' + 1) x = 0) 601 (amFu_lt (by decide)) ⟨rfl, fun k' x hx => by omega⟩ ?_ ?_
  · rintro k x S1 hk ⟨rfl, h1⟩ rec
    unfold p_X1_comeOn_L14
    simp (disch := first | omega | assumption) only [↓bd_rt, ↓bd_bd, ↓bd_ite, ↓bd_jn, ↓jn_ap, ↓ite_ap, ↓bd_gI1, ↓bd_pI1, ↓bd_gR1, ↓bd_pR1, ↓bd_gM, rt_ap, ↓reduceIte, iN_div, iN_divL, iN_add, iN_mul, iN_addL, iN_Ladd, iN_mulL, iN_Lmul, iN_subL, iN_sub, iN_le_T, iN_le_F, iN_lt_T, iN_lt_F, iN_eq_F, iN_leL_T, iN_leL_F, iN_Lle_T, iN_Lle_F, iN_ltL_T, iN_ltL_F, iN_Llt_T, iN_Llt_F, iN_eqL_T, iN_eqL_F, iN_m1, m1_iN, iN_le_m1, m1_le_iN, iN_neg, iN_pos, i10, i01, i00, i11, u3_op, u3_or, u3_same, pup_eq, pup_ne, ↓rG22_1]
    refine bdR (sp_J3_fill (by omega)) fun _ S2 h2 => ?_
    refine Lz.go ⟨rfl, fun k' x hk' hx => ?_⟩
    by_cases e : k' = k
    · subst e; exact h2.1 x hx
    · rw [h2.2 _ _ (by omega)]; exact h1 k' x (by omega) hx
  · rintro x S1 ⟨rfl, h1⟩ rec
    unfold p_X1_comeOn_L14
    simp (disch := first | omega | assumption) only [↓bd_rt, ↓bd_bd, ↓bd_ite, ↓bd_jn, ↓jn_ap, ↓ite_ap, ↓bd_gI1, ↓bd_pI1, ↓bd_gR1, ↓bd_pR1, ↓bd_gM, rt_ap, ↓reduceIte, iN_div, iN_divL, iN_add, iN_mul, iN_addL, iN_Ladd, iN_mulL, iN_Lmul, iN_subL, iN_sub, iN_le_T, iN_le_F, iN_lt_T, iN_lt_F, iN_eq_F, iN_leL_T, iN_leL_F, iN_Lle_T, iN_Lle_F, iN_ltL_T, iN_ltL_F, iN_Llt_T, iN_Llt_F, iN_eqL_T, iN_eqL_F, iN_m1, m1_iN, iN_le_m1, m1_le_iN, iN_neg, iN_pos, i10, i01, i00, i11, u3_op, u3_or, u3_same, pup_eq, pup_ne]
    exact Rs.mk fun k x hk hx => h1 k x (by omega) hx
theorem sp_X1_comeOn {c : CSt} (h : c.WF) {φ : amSh} {S : amSt} (hφ : φ.1 255 ≠ 0) (hR : RCst c φ S) {fr to t slow : Nat} (hfr : fr < 20) (hto : to < 20) (ht : t ≤ 30000) (h5 : 50 ≤ slow) (h3 : slow ≤ 300) :
    Rs (fun b S' => b = oN (comeS c fr to t slow) ∧ FrS [21] S S') (p_X1_comeOn (iN fr) (iN to) (iN t) (iN slow) φ S) := by
  refine Rs.fr (Q := fun b _ => b = oN (comeS c fr to t slow)) (fr_p_X1_comeOn _ _ _ _) ?_
  unfold p_X1_comeOn
  simp (disch := first | omega | assumption) only [↓bd_rt, ↓bd_bd, ↓bd_ite, ↓bd_jn, ↓jn_ap, ↓ite_ap, ↓bd_gI1, ↓bd_pI1, ↓bd_gR1, ↓bd_pR1, ↓bd_gM, rt_ap, ↓reduceIte, iN_div, iN_divL, iN_add, iN_mul, iN_addL, iN_Ladd, iN_mulL, iN_Lmul, iN_subL, iN_sub, iN_le_T, iN_le_F, iN_lt_T, iN_lt_F, iN_eq_F, iN_leL_T, iN_leL_F, iN_Lle_T, iN_Lle_F, iN_ltL_T, iN_ltL_F, iN_Llt_T, iN_Llt_F, iN_eqL_T, iN_eqL_F, iN_m1, m1_iN, iN_le_m1, m1_le_iN, iN_neg, iN_pos, i10, i01, i00, i11, u3_op, u3_or, u3_same, pup_eq, pup_ne]
  refine bdRF (L := [21]) (Fr.halp (fun rec hrec x => fr_p_X1_comeOn_L14 (by decide) hrec x) _ _) sp_X1_comeOn_L14 fun _ S1 h1 hF => ?_
  simp (disch := first | omega | assumption) only [↓bd_rt, ↓bd_bd, ↓bd_ite, ↓bd_jn, ↓jn_ap, ↓ite_ap, ↓bd_gI1, ↓bd_pI1, ↓bd_gR1, ↓bd_pR1, ↓bd_gM, rt_ap, ↓reduceIte, iN_div, iN_divL, iN_add, iN_mul, iN_addL, iN_Ladd, iN_mulL, iN_Lmul, iN_subL, iN_sub, iN_le_T, iN_le_F, iN_lt_T, iN_lt_F, iN_eq_F, iN_leL_T, iN_leL_F, iN_Lle_T, iN_Lle_F, iN_ltL_T, iN_ltL_F, iN_Llt_T, iN_Llt_F, iN_eqL_T, iN_eqL_F, iN_m1, m1_iN, iN_le_m1, m1_le_iN, iN_neg, iN_pos, i10, i01, i00, i11, u3_op, u3_or, u3_same, pup_eq, pup_ne, show (0 : Int32) = iN 0 from rfl, ↓rG22_1, ↓wI21]
  refine alp_I (fun k x S' => x = iN k ∧ RCst c φ S' ∧ ∃ th, TC S' th ∧ comeL c to t slow (601 - k) k th = comeS c fr to t slow) 601 (amFu_lt (by decide)) ⟨rfl, ?_, fun k x => decide (k = 0) && decide (x = fr), ?_, rfl⟩ ?_ ?_
  · refine (hR.fr hF (by decide)).fr (L := [21]) ?_ (by decide)
    intro p r j hk
    refine sm_u3 fun z => hk ?_
    rw [← z]; exact kyA (by decide) (by decide) (by decide) _
  · intro k x hk hx
    simp (disch := first | omega | assumption) only [↓bd_rt, ↓bd_bd, ↓bd_ite, ↓bd_jn, ↓jn_ap, ↓ite_ap, ↓bd_gI1, ↓bd_pI1, ↓bd_gR1, ↓bd_pR1, ↓bd_gM, rt_ap, ↓reduceIte, iN_div, iN_divL, iN_add, iN_mul, iN_addL, iN_Ladd, iN_mulL, iN_Lmul, iN_subL, iN_sub, iN_le_T, iN_le_F, iN_lt_T, iN_lt_F, iN_eq_F, iN_leL_T, iN_leL_F, iN_Lle_T, iN_Lle_F, iN_ltL_T, iN_ltL_F, iN_Llt_T, iN_Llt_F, iN_eqL_T, iN_eqL_F, iN_m1, m1_iN, iN_le_m1, m1_le_iN, iN_neg, iN_pos, i10, i01, i00, i11, u3_op, u3_or, u3_same, pup_eq, pup_ne]
    by_cases e1 : k = 0
    · subst e1
      by_cases e2 : x = fr
      · subst e2; simp (disch := first | omega | assumption) only [↓bd_rt, ↓bd_bd, ↓bd_ite, ↓bd_jn, ↓jn_ap, ↓ite_ap, ↓bd_gI1, ↓bd_pI1, ↓bd_gR1, ↓bd_pR1, ↓bd_gM, rt_ap, ↓reduceIte, iN_div, iN_divL, iN_add, iN_mul, iN_addL, iN_Ladd, iN_mulL, iN_Lmul, iN_subL, iN_sub, iN_le_T, iN_le_F, iN_lt_T, iN_lt_F, iN_eq_F, iN_leL_T, iN_leL_F, iN_Lle_T, iN_Lle_F, iN_ltL_T, iN_ltL_F, iN_Llt_T, iN_Llt_F, iN_eqL_T, iN_eqL_F, iN_m1, m1_iN, iN_le_m1, m1_le_iN, iN_neg, iN_pos, i10, i01, i00, i11, u3_op, u3_or, u3_same, pup_eq, pup_ne]; simp [b01]
      · simp (disch := first | omega | assumption) only [↓bd_rt, ↓bd_bd, ↓bd_ite, ↓bd_jn, ↓jn_ap, ↓ite_ap, ↓bd_gI1, ↓bd_pI1, ↓bd_gR1, ↓bd_pR1, ↓bd_gM, rt_ap, ↓reduceIte, iN_div, iN_divL, iN_add, iN_mul, iN_addL, iN_Ladd, iN_mulL, iN_Lmul, iN_subL, iN_sub, iN_le_T, iN_le_F, iN_lt_T, iN_lt_F, iN_eq_F, iN_leL_T, iN_leL_F, iN_Lle_T, iN_Lle_F, iN_ltL_T, iN_ltL_F, iN_Llt_T, iN_Llt_F, iN_eqL_T, iN_eqL_F, iN_m1, m1_iN, iN_le_m1, m1_le_iN, iN_neg, iN_pos, i10, i01, i00, i11, u3_op, u3_or, u3_same, pup_eq, pup_ne, h1 0 x (by omega) hx]; simp [b01, e2]
    · simp (disch := first | omega | assumption) only [↓bd_rt, ↓bd_bd, ↓bd_ite, ↓bd_jn, ↓jn_ap, ↓ite_ap, ↓bd_gI1, ↓bd_pI1, ↓bd_gR1, ↓bd_pR1, ↓bd_gM, rt_ap, ↓reduceIte, iN_div, iN_divL, iN_add, iN_mul, iN_addL, iN_Ladd, iN_mulL, iN_Lmul, iN_subL, iN_sub, iN_le_T, iN_le_F, iN_lt_T, iN_lt_F, iN_eq_F, iN_leL_T, iN_leL_F, iN_Lle_T, iN_Lle_F, iN_ltL_T, iN_ltL_F, iN_Llt_T, iN_Llt_F, iN_eqL_T, iN_eqL_F, iN_m1, m1_iN, iN_le_m1, m1_le_iN, iN_neg, iN_pos, i10, i01, i00, i11, u3_op, u3_or, u3_same, pup_eq, pup_ne, h1 k x hk hx]; simp [b01, e1]
  · rintro k x S2 hk ⟨rfl, hR2, th, hT, hc⟩ rec
    unfold p_X1_comeOn_L52
    have e1 := hT k to (by omega) hto
    rw [show 601 - k = (601 - (k + 1)) + 1 by omega] at hc
    unfold comeL at hc
    cases q : th k to <;> simp only [q, b01_f, b01_t] at e1 hc
    · simp (disch := first | omega | assumption) only [↓bd_rt, ↓bd_bd, ↓bd_ite, ↓bd_jn, ↓jn_ap, ↓ite_ap, ↓bd_gI1, ↓bd_pI1, ↓bd_gR1, ↓bd_pR1, ↓bd_gM, rt_ap, ↓reduceIte, iN_div, iN_divL, iN_add, iN_mul, iN_addL, iN_Ladd, iN_mulL, iN_Lmul, iN_subL, iN_sub, iN_le_T, iN_le_F, iN_lt_T, iN_lt_F, iN_eq_F, iN_leL_T, iN_leL_F, iN_Lle_T, iN_Lle_F, iN_ltL_T, iN_ltL_F, iN_Llt_T, iN_Llt_F, iN_eqL_T, iN_eqL_F, iN_m1, m1_iN, iN_le_m1, m1_le_iN, iN_neg, iN_pos, i10, i01, i00, i11, u3_op, u3_or, u3_same, pup_eq, pup_ne, ↓rG22_1, ↓rI21, e1]
      refine bdR (sp_X1_comeOn_L80 h hφ hR2 hT (by omega) ht h5 h3) fun _ S3 h3' => ?_
      exact Lz.go ⟨rfl, h3'.1, _, h3'.2, hc⟩
    · simp (disch := first | omega | assumption) only [↓bd_rt, ↓bd_bd, ↓bd_ite, ↓bd_jn, ↓jn_ap, ↓ite_ap, ↓bd_gI1, ↓bd_pI1, ↓bd_gR1, ↓bd_pR1, ↓bd_gM, rt_ap, ↓reduceIte, iN_div, iN_divL, iN_add, iN_mul, iN_addL, iN_Ladd, iN_mulL, iN_Lmul, iN_subL, iN_sub, iN_le_T, iN_le_F, iN_lt_T, iN_lt_F, iN_eq_F, iN_leL_T, iN_leL_F, iN_Lle_T, iN_Lle_F, iN_ltL_T, iN_ltL_F, iN_Llt_T, iN_Llt_F, iN_eqL_T, iN_eqL_F, iN_m1, m1_iN, iN_le_m1, m1_le_iN, iN_neg, iN_pos, i10, i01, i00, i11, u3_op, u3_or, u3_same, pup_eq, pup_ne, ↓rG22_1, ↓rI21, e1]
      refine Lz.ret ?_
      rw [← hc]; rfl
  · rintro x S2 ⟨rfl, hR2, th, hT, hc⟩ rec
    unfold p_X1_comeOn_L52
    simp (disch := first | omega | assumption) only [↓bd_rt, ↓bd_bd, ↓bd_ite, ↓bd_jn, ↓jn_ap, ↓ite_ap, ↓bd_gI1, ↓bd_pI1, ↓bd_gR1, ↓bd_pR1, ↓bd_gM, rt_ap, ↓reduceIte, iN_div, iN_divL, iN_add, iN_mul, iN_addL, iN_Ladd, iN_mulL, iN_Lmul, iN_subL, iN_sub, iN_le_T, iN_le_F, iN_lt_T, iN_lt_F, iN_eq_F, iN_leL_T, iN_leL_F, iN_Lle_T, iN_Lle_F, iN_ltL_T, iN_ltL_F, iN_Llt_T, iN_Llt_F, iN_eqL_T, iN_eqL_F, iN_m1, m1_iN, iN_le_m1, m1_le_iN, iN_neg, iN_pos, i10, i01, i00, i11, u3_op, u3_or, u3_same, pup_eq, pup_ne]
    refine Rs.mk ?_
    rw [← hc]; rfl
theorem sp_X3_comeBy_L75 {c : CSt} (h : c.WF) {φ : amSh} {S : amSt} (hR : RMst c S) {th : Nat → Nat → Bool} (hT : TM S th) {k t slow : Nat} (hk : k ≤ 600) (ht : t ≤ 30000) (h5 : 50 ≤ slow) (h3 : slow ≤ 300) :
    Rs (fun _ S' => RMst c S' ∧ TM S' (itn (wayS c t slow k) th c.n)) (alp (p_X3_comeBy_L75 (iN slow) (iN k) (iN ((t + k) / 360 % 4))) amFu 0 φ S) := by
  have hn := h.hn
  refine alp_I (fun s x S => x = iN s ∧ RMst c S ∧ TM S (itn (wayS c t slow k) th s)) c.n (amFu_lt (by omega)) ⟨rfl, hR, hT⟩ ?_ ?_
  · rintro s x S hs ⟨rfl, hR, hT⟩ rec
    have h1 := h.one s hs
    have h2 := h.oth s hs
    have hm := mins_pos h (tk := t + k) hs h5
    have hl := mins_lt h (tk := t + k) hs h3
    have hml : mins c s (t + k) slow ≤ 1000 := by unfold mins; omega
    have hp : (t + k) / 360 % 4 < 4 := Nat.mod_lt _ (by decide)
    have e1 := hT k _ hk h1
    have e2 := hT k _ hk h2
    have hF : ∀ {S1 : amSt}, FrS [61] S S1 → RMst c S1 := fun hf => hR.fr hf (by decide)
    have em : (c.len s * c.jam (4 * s + (t + k) / 360 % 4) * slow + 9999) / 10000 = mins c s (t + k) slow := rfl
    generalize hth : itn (wayS c t slow k) th s = th1 at *
    have hstep : itn (wayS c t slow k) th (s + 1) = wayS c t slow k s th1 := by rw [← hth]; rfl
    rw [hstep]
    unfold p_X3_comeBy_L75
    by_cases hc : c.cl s = 0
    · have hw : wayS c t slow k s th1 = if 600 < k + mins c s (t + k) slow then th1 else
          fun k' x => th1 k' x || (decide (k' = k + mins c s (t + k) slow) && ((th1 k (c.one s) && decide (x = c.oth s)) || (th1 k (c.oth s) && decide (x = c.one s)))) := by unfold wayS; rw [if_neg (by simp [hc])]
      rw [hw]
      by_cases h6 : 600 < k + mins c s (t + k) slow
      · rw [if_pos h6]
        cases q1 : th1 k (c.one s) <;> cases q2 : th1 k (c.oth s) <;> simp only [q1, q2, b01_f, b01_t] at e1 e2 <;> simp (disch := first | omega | assumption) only [↓bd_rt, ↓bd_bd, ↓bd_ite, ↓bd_jn, ↓jn_ap, ↓ite_ap, ↓bd_gI1, ↓bd_pI1, ↓bd_gR1, ↓bd_pR1, ↓bd_gM, rt_ap, ↓reduceIte, iN_div, iN_divL, iN_add, iN_mul, iN_addL, iN_Ladd, iN_mulL, iN_Lmul, iN_subL, iN_sub, iN_le_T, iN_le_F, iN_lt_T, iN_lt_F, iN_eq_F, iN_leL_T, iN_leL_F, iN_Lle_T, iN_Lle_F, iN_ltL_T, iN_ltL_F, iN_Llt_T, iN_Llt_F, iN_eqL_T, iN_eqL_F, iN_m1, m1_iN, iN_le_m1, m1_le_iN, iN_neg, iN_pos, i10, i01, i00, i11, u3_op, u3_or, u3_same, pup_eq, pup_ne, hR.n, ↓rI55_1, ↓rI56_1, ↓rI57_1, ↓rI58_1, ↓rI60_1, ↓rI61_1, hR.one s hs, hR.oth s hs, hR.len s hs, hR.jam _ (show 4 * s + (t + k) / 360 % 4 < 4 * c.n by omega), hR.cl s (by omega), hc, e1, e2, em] <;> exact Lz.go ⟨rfl, hR, hT⟩
      · rw [if_neg h6]
        have hne : ¬ k + mins c s (t + k) slow = k := by omega
        cases q1 : th1 k (c.one s) <;> cases q2 : th1 k (c.oth s) <;> simp only [q1, q2, b01_f, b01_t] at e1 e2 <;> simp (disch := first | omega | assumption) only [↓bd_rt, ↓bd_bd, ↓bd_ite, ↓bd_jn, ↓jn_ap, ↓ite_ap, ↓bd_gI1, ↓bd_pI1, ↓bd_gR1, ↓bd_pR1, ↓bd_gM, rt_ap, ↓reduceIte, iN_div, iN_divL, iN_add, iN_mul, iN_addL, iN_Ladd, iN_mulL, iN_Lmul, iN_subL, iN_sub, iN_le_T, iN_le_F, iN_lt_T, iN_lt_F, iN_eq_F, iN_leL_T, iN_leL_F, iN_Lle_T, iN_Lle_F, iN_ltL_T, iN_ltL_F, iN_Llt_T, iN_Llt_F, iN_eqL_T, iN_eqL_F, iN_m1, m1_iN, iN_le_m1, m1_le_iN, iN_neg, iN_pos, i10, i01, i00, i11, u3_op, u3_or, u3_same, pup_eq, pup_ne, hR.n, ↓rI55_1, ↓rI56_1, ↓rI57_1, ↓rI58_1, ↓rI60_1, ↓rI61_1, ↓wI61_1, hR.one s hs, hR.oth s hs, hR.len s hs, hR.jam _ (show 4 * s + (t + k) / 360 % 4 < 4 * c.n by omega), hR.cl s (by omega), hc, e1, e2, em]
        all_goals
          refine Lz.go ⟨rfl, hF ?_, fun k' x hk' hx => ?_⟩
          · intro p r j hkk
            by_cases hp61 : p = 61
            · subst hp61; exact absurd (kyA (L := [61]) (by decide) (by decide) (by decide) j) hkk
            · refine ⟨?_, rfl, rfl⟩
              first | rfl | (dsimp only; simp only [u3_op hp61])
          have e := hT k' x hk' hx
          have z1 : (20 * k' + x = 20 * (k + mins c s (t + k) slow) + c.one s) = (k' = k + mins c s (t + k) slow ∧ x = c.one s) := by apply propext; omega
          have z2 : (20 * k' + x = 20 * (k + mins c s (t + k) slow) + c.oth s) = (k' = k + mins c s (t + k) slow ∧ x = c.oth s) := by apply propext; omega
          by_cases a1 : k' = k + mins c s (t + k) slow <;> by_cases a2 : x = c.one s <;> by_cases a3 : x = c.oth s <;> simp [u3, z1, z2, a1, a2, a3, b01, e] <;> simp_all [b01]
    · have hw : wayS c t slow k s th1 = th1 := by unfold wayS; rw [if_pos hc]
      rw [hw]
      simp (disch := first | omega | assumption) only [↓bd_rt, ↓bd_bd, ↓bd_ite, ↓bd_jn, ↓jn_ap, ↓ite_ap, ↓bd_gI1, ↓bd_pI1, ↓bd_gR1, ↓bd_pR1, ↓bd_gM, rt_ap, ↓reduceIte, iN_div, iN_divL, iN_add, iN_mul, iN_addL, iN_Ladd, iN_mulL, iN_Lmul, iN_subL, iN_sub, iN_le_T, iN_le_F, iN_lt_T, iN_lt_F, iN_eq_F, iN_leL_T, iN_leL_F, iN_Lle_T, iN_Lle_F, iN_ltL_T, iN_ltL_F, iN_Llt_T, iN_Llt_F, iN_eqL_T, iN_eqL_F, iN_m1, m1_iN, iN_le_m1, m1_le_iN, iN_neg, iN_pos, i10, i01, i00, i11, u3_op, u3_or, u3_same, pup_eq, pup_ne, hR.n, ↓rI55_1, ↓rI56_1, ↓rI57_1, ↓rI58_1, ↓rI60_1, ↓rI61_1, hR.one s hs, hR.oth s hs, hR.cl s (by omega), hc, e1, e2]
      exact Lz.go ⟨rfl, hR, hT⟩
  · rintro x S ⟨rfl, hR, hT⟩ rec
    unfold p_X3_comeBy_L75
    simp (disch := first | omega | assumption) only [↓bd_rt, ↓bd_bd, ↓bd_ite, ↓bd_jn, ↓jn_ap, ↓ite_ap, ↓bd_gI1, ↓bd_pI1, ↓bd_gR1, ↓bd_pR1, ↓bd_gM, rt_ap, ↓reduceIte, iN_div, iN_divL, iN_add, iN_mul, iN_addL, iN_Ladd, iN_mulL, iN_Lmul, iN_subL, iN_sub, iN_le_T, iN_le_F, iN_lt_T, iN_lt_F, iN_eq_F, iN_leL_T, iN_leL_F, iN_Lle_T, iN_Lle_F, iN_ltL_T, iN_ltL_F, iN_Llt_T, iN_Llt_F, iN_eqL_T, iN_eqL_F, iN_m1, m1_iN, iN_le_m1, m1_le_iN, iN_neg, iN_pos, i10, i01, i00, i11, u3_op, u3_or, u3_same, pup_eq, pup_ne, hR.n]
    exact Rs.mk ⟨hR, hT⟩
theorem sp_X3_comeBy_L3 {φ : amSh} {S : amSt} : Rs (fun _ S' => ∀ k, k < 12020 → S'.1 61 1 k = 0) (alp p_X3_comeBy_L3 amFu 0 φ S) := by
  refine alp_I (fun k x S' => x = iN k ∧ ∀ k', k' < k → S'.1 61 1 k' = 0) 12020 (amFu_lt (by decide)) ⟨rfl, fun k' hx => by omega⟩ ?_ ?_
  · rintro k x S1 hk ⟨rfl, h1⟩ rec
    unfold p_X3_comeBy_L3
    simp (disch := first | omega | assumption) only [↓bd_rt, ↓bd_bd, ↓bd_ite, ↓bd_jn, ↓jn_ap, ↓ite_ap, ↓bd_gI1, ↓bd_pI1, ↓bd_gR1, ↓bd_pR1, ↓bd_gM, rt_ap, ↓reduceIte, iN_div, iN_divL, iN_add, iN_mul, iN_addL, iN_Ladd, iN_mulL, iN_Lmul, iN_subL, iN_sub, iN_le_T, iN_le_F, iN_lt_T, iN_lt_F, iN_eq_F, iN_leL_T, iN_leL_F, iN_Lle_T, iN_Lle_F, iN_ltL_T, iN_ltL_F, iN_Llt_T, iN_Llt_F, iN_eqL_T, iN_eqL_F, iN_m1, m1_iN, iN_le_m1, m1_le_iN, iN_neg, iN_pos, i10, i01, i00, i11, u3_op, u3_or, u3_same, pup_eq, pup_ne, ↓wI61_1]
    refine Lz.go ⟨rfl, fun k' hk' => ?_⟩
    by_cases e : k' = k
    · simp (disch := first | omega | assumption) only [↓bd_rt, ↓bd_bd, ↓bd_ite, ↓bd_jn, ↓jn_ap, ↓ite_ap, ↓bd_gI1, ↓bd_pI1, ↓bd_gR1, ↓bd_pR1, ↓bd_gM, rt_ap, ↓reduceIte, iN_div, iN_divL, iN_add, iN_mul, iN_addL, iN_Ladd, iN_mulL, iN_Lmul, iN_subL, iN_sub, iN_le_T, iN_le_F, iN_lt_T, iN_lt_F, iN_eq_F, iN_leL_T, iN_leL_F, iN_Lle_T, iN_Lle_F, iN_ltL_T, iN_ltL_F, iN_Llt_T, iN_Llt_F, iN_eqL_T, iN_eqL_F, iN_m1, m1_iN, iN_le_m1, m1_le_iN, iN_neg, iN_pos, i10, i01, i00, i11, u3_op, u3_or, u3_same, pup_eq, pup_ne, e]
    · simp (disch := first | omega | assumption) only [↓bd_rt, ↓bd_bd, ↓bd_ite, ↓bd_jn, ↓jn_ap, ↓ite_ap, ↓bd_gI1, ↓bd_pI1, ↓bd_gR1, ↓bd_pR1, ↓bd_gM, rt_ap, ↓reduceIte, iN_div, iN_divL, iN_add, iN_mul, iN_addL, iN_Ladd, iN_mulL, iN_Lmul, iN_subL, iN_sub, iN_le_T, iN_le_F, iN_lt_T, iN_lt_F, iN_eq_F, iN_leL_T, iN_leL_F, iN_Lle_T, iN_Lle_F, iN_ltL_T, iN_ltL_F, iN_Llt_T, iN_Llt_F, iN_eqL_T, iN_eqL_F, iN_m1, m1_iN, iN_le_m1, m1_le_iN, iN_neg, iN_pos, i10, i01, i00, i11, u3_op, u3_or, u3_same, pup_eq, pup_ne]; exact h1 k' (by omega)
  · rintro x S1 ⟨rfl, h1⟩ rec
    unfold p_X3_comeBy_L3
    simp (disch := first | omega | assumption) only [↓bd_rt, ↓bd_bd, ↓bd_ite, ↓bd_jn, ↓jn_ap, ↓ite_ap, ↓bd_gI1, ↓bd_pI1, ↓bd_gR1, ↓bd_pR1, ↓bd_gM, rt_ap, ↓reduceIte, iN_div, iN_divL, iN_add, iN_mul, iN_addL, iN_Ladd, iN_mulL, iN_Lmul, iN_subL, iN_sub, iN_le_T, iN_le_F, iN_lt_T, iN_lt_F, iN_eq_F, iN_leL_T, iN_leL_F, iN_Lle_T, iN_Lle_F, iN_ltL_T, iN_ltL_F, iN_Llt_T, iN_Llt_F, iN_eqL_T, iN_eqL_F, iN_m1, m1_iN, iN_le_m1, m1_le_iN, iN_neg, iN_pos, i10, i01, i00, i11, u3_op, u3_or, u3_same, pup_eq, pup_ne]
    exact Rs.mk h1
theorem sp_X3_comeBy {c : CSt} (h : c.WF) {φ : amSh} {S : amSt} (hφ : φ.1 255 ≠ 0) (hR : RMst c S) {fr to t slow : Nat} (hfr : fr < 20) (hto : to < 20) (ht : t ≤ 30000) (h5 : 50 ≤ slow) (h3 : slow ≤ 300) :
    Rs (fun b S' => b = oN (comeS c fr to t slow) ∧ FrS [61] S S') (p_X3_comeBy (iN fr) (iN to) (iN t) (iN slow) φ S) := by
  refine Rs.fr (Q := fun b _ => b = oN (comeS c fr to t slow)) (fr_p_X3_comeBy _ _ _ _) ?_
  unfold p_X3_comeBy
  simp (disch := first | omega | assumption) only [↓bd_rt, ↓bd_bd, ↓bd_ite, ↓bd_jn, ↓jn_ap, ↓ite_ap, ↓bd_gI1, ↓bd_pI1, ↓bd_gR1, ↓bd_pR1, ↓bd_gM, rt_ap, ↓reduceIte, iN_div, iN_divL, iN_add, iN_mul, iN_addL, iN_Ladd, iN_mulL, iN_Lmul, iN_subL, iN_sub, iN_le_T, iN_le_F, iN_lt_T, iN_lt_F, iN_eq_F, iN_leL_T, iN_leL_F, iN_Lle_T, iN_Lle_F, iN_ltL_T, iN_ltL_F, iN_Llt_T, iN_Llt_F, iN_eqL_T, iN_eqL_F, iN_m1, m1_iN, iN_le_m1, m1_le_iN, iN_neg, iN_pos, i10, i01, i00, i11, u3_op, u3_or, u3_same, pup_eq, pup_ne]
  refine bdRF (L := [61]) (Fr.halp (fun rec hrec x => fr_p_X3_comeBy_L3 (by decide) hrec x) _ _) sp_X3_comeBy_L3 fun _ S1 h1 hF => ?_
  simp (disch := first | omega | assumption) only [↓bd_rt, ↓bd_bd, ↓bd_ite, ↓bd_jn, ↓jn_ap, ↓ite_ap, ↓bd_gI1, ↓bd_pI1, ↓bd_gR1, ↓bd_pR1, ↓bd_gM, rt_ap, ↓reduceIte, iN_div, iN_divL, iN_add, iN_mul, iN_addL, iN_Ladd, iN_mulL, iN_Lmul, iN_subL, iN_sub, iN_le_T, iN_le_F, iN_lt_T, iN_lt_F, iN_eq_F, iN_leL_T, iN_leL_F, iN_Lle_T, iN_Lle_F, iN_ltL_T, iN_ltL_F, iN_Llt_T, iN_Llt_F, iN_eqL_T, iN_eqL_F, iN_m1, m1_iN, iN_le_m1, m1_le_iN, iN_neg, iN_pos, i10, i01, i00, i11, u3_op, u3_or, u3_same, pup_eq, pup_ne, ↓wI61_1]
  refine alp_I (fun k x S' => x = iN k ∧ RMst c S' ∧ ∃ th, TM S' th ∧ comeL c to t slow (601 - k) k th = comeS c fr to t slow) 601 (amFu_lt (by decide)) ⟨rfl, ?_, fun k x => decide (k = 0) && decide (x = fr), ?_, rfl⟩ ?_ ?_
  · refine (hR.fr hF (by decide)).fr (L := [61]) ?_ (by decide)
    intro p r j hk
    refine sm_u3 fun z => hk ?_
    rw [← z]; exact kyA (by decide) (by decide) (by decide) _
  · intro k x hk hx
    simp (disch := first | omega | assumption) only [↓bd_rt, ↓bd_bd, ↓bd_ite, ↓bd_jn, ↓jn_ap, ↓ite_ap, ↓bd_gI1, ↓bd_pI1, ↓bd_gR1, ↓bd_pR1, ↓bd_gM, rt_ap, ↓reduceIte, iN_div, iN_divL, iN_add, iN_mul, iN_addL, iN_Ladd, iN_mulL, iN_Lmul, iN_subL, iN_sub, iN_le_T, iN_le_F, iN_lt_T, iN_lt_F, iN_eq_F, iN_leL_T, iN_leL_F, iN_Lle_T, iN_Lle_F, iN_ltL_T, iN_ltL_F, iN_Llt_T, iN_Llt_F, iN_eqL_T, iN_eqL_F, iN_m1, m1_iN, iN_le_m1, m1_le_iN, iN_neg, iN_pos, i10, i01, i00, i11, u3_op, u3_or, u3_same, pup_eq, pup_ne]
    by_cases e1 : 20 * k + x = fr
    · have : k = 0 ∧ x = fr := by omega
      obtain ⟨rfl, rfl⟩ := this
      rw [e1]; simp (disch := first | omega | assumption) only [↓bd_rt, ↓bd_bd, ↓bd_ite, ↓bd_jn, ↓jn_ap, ↓ite_ap, ↓bd_gI1, ↓bd_pI1, ↓bd_gR1, ↓bd_pR1, ↓bd_gM, rt_ap, ↓reduceIte, iN_div, iN_divL, iN_add, iN_mul, iN_addL, iN_Ladd, iN_mulL, iN_Lmul, iN_subL, iN_sub, iN_le_T, iN_le_F, iN_lt_T, iN_lt_F, iN_eq_F, iN_leL_T, iN_leL_F, iN_Lle_T, iN_Lle_F, iN_ltL_T, iN_ltL_F, iN_Llt_T, iN_Llt_F, iN_eqL_T, iN_eqL_F, iN_m1, m1_iN, iN_le_m1, m1_le_iN, iN_neg, iN_pos, i10, i01, i00, i11, u3_op, u3_or, u3_same, pup_eq, pup_ne]; simp [b01]
    · simp (disch := first | omega | assumption) only [↓bd_rt, ↓bd_bd, ↓bd_ite, ↓bd_jn, ↓jn_ap, ↓ite_ap, ↓bd_gI1, ↓bd_pI1, ↓bd_gR1, ↓bd_pR1, ↓bd_gM, rt_ap, ↓reduceIte, iN_div, iN_divL, iN_add, iN_mul, iN_addL, iN_Ladd, iN_mulL, iN_Lmul, iN_subL, iN_sub, iN_le_T, iN_le_F, iN_lt_T, iN_lt_F, iN_eq_F, iN_leL_T, iN_leL_F, iN_Lle_T, iN_Lle_F, iN_ltL_T, iN_ltL_F, iN_Llt_T, iN_Llt_F, iN_eqL_T, iN_eqL_F, iN_m1, m1_iN, iN_le_m1, m1_le_iN, iN_neg, iN_pos, i10, i01, i00, i11, u3_op, u3_or, u3_same, pup_eq, pup_ne, h1 (20 * k + x) (by omega)]
      have : ¬ (k = 0 ∧ x = fr) := by omega
      by_cases k0 : k = 0 <;> by_cases x0 : x = fr <;> simp_all [b01]
  · rintro k x S2 hk ⟨rfl, hR2, th, hT, hc⟩ rec
    unfold p_X3_comeBy_L35
    have e1 := hT k to (by omega) hto
    rw [show 601 - k = (601 - (k + 1)) + 1 by omega] at hc
    unfold comeL at hc
    cases q : th k to <;> simp only [q, b01_f, b01_t] at e1 hc
    · simp (disch := first | omega | assumption) only [↓bd_rt, ↓bd_bd, ↓bd_ite, ↓bd_jn, ↓jn_ap, ↓ite_ap, ↓bd_gI1, ↓bd_pI1, ↓bd_gR1, ↓bd_pR1, ↓bd_gM, rt_ap, ↓reduceIte, iN_div, iN_divL, iN_add, iN_mul, iN_addL, iN_Ladd, iN_mulL, iN_Lmul, iN_subL, iN_sub, iN_le_T, iN_le_F, iN_lt_T, iN_lt_F, iN_eq_F, iN_leL_T, iN_leL_F, iN_Lle_T, iN_Lle_F, iN_ltL_T, iN_ltL_F, iN_Llt_T, iN_Llt_F, iN_eqL_T, iN_eqL_F, iN_m1, m1_iN, iN_le_m1, m1_le_iN, iN_neg, iN_pos, i10, i01, i00, i11, u3_op, u3_or, u3_same, pup_eq, pup_ne, ↓rI61_1, e1, ↓bd_of (sp_X3_partOf (t := t + k) (by omega))]
      refine bdR (sp_X3_comeBy_L75 h hR2 hT (by omega) ht h5 h3) fun _ S3 h3' => ?_
      exact Lz.go ⟨rfl, h3'.1, _, h3'.2, hc⟩
    · simp (disch := first | omega | assumption) only [↓bd_rt, ↓bd_bd, ↓bd_ite, ↓bd_jn, ↓jn_ap, ↓ite_ap, ↓bd_gI1, ↓bd_pI1, ↓bd_gR1, ↓bd_pR1, ↓bd_gM, rt_ap, ↓reduceIte, iN_div, iN_divL, iN_add, iN_mul, iN_addL, iN_Ladd, iN_mulL, iN_Lmul, iN_subL, iN_sub, iN_le_T, iN_le_F, iN_lt_T, iN_lt_F, iN_eq_F, iN_leL_T, iN_leL_F, iN_Lle_T, iN_Lle_F, iN_ltL_T, iN_ltL_F, iN_Llt_T, iN_Llt_F, iN_eqL_T, iN_eqL_F, iN_m1, m1_iN, iN_le_m1, m1_le_iN, iN_neg, iN_pos, i10, i01, i00, i11, u3_op, u3_or, u3_same, pup_eq, pup_ne, ↓rI61_1, e1]
      refine Lz.ret ?_
      rw [← hc]; rfl
  · rintro x S2 ⟨rfl, hR2, th, hT, hc⟩ rec
    unfold p_X3_comeBy_L35
    simp (disch := first | omega | assumption) only [↓bd_rt, ↓bd_bd, ↓bd_ite, ↓bd_jn, ↓jn_ap, ↓ite_ap, ↓bd_gI1, ↓bd_pI1, ↓bd_gR1, ↓bd_pR1, ↓bd_gM, rt_ap, ↓reduceIte, iN_div, iN_divL, iN_add, iN_mul, iN_addL, iN_Ladd, iN_mulL, iN_Lmul, iN_subL, iN_sub, iN_le_T, iN_le_F, iN_lt_T, iN_lt_F, iN_eq_F, iN_leL_T, iN_leL_F, iN_Lle_T, iN_Lle_F, iN_ltL_T, iN_ltL_F, iN_Llt_T, iN_Llt_F, iN_eqL_T, iN_eqL_F, iN_m1, m1_iN, iN_le_m1, m1_le_iN, iN_neg, iN_pos, i10, i01, i00, i11, u3_op, u3_or, u3_same, pup_eq, pup_ne]
    refine Rs.mk ?_
    rw [← hc]; rfl
