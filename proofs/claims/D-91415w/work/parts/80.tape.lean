/-! PURE: the tape -/
abbrev CTp : Type := (Nat) × (Nat → Int32)
def CTp.mk (n : Nat) (b : Nat → Int32) : CTp := (n, b)
def CTp.n (c : CTp) : Nat := c.1
def CTp.b (c : CTp) : Nat → Int32 := c.2
def CTp.s_n (c : CTp) (v : Nat) : CTp := CTp.mk v c.b
def CTp.s_b (c : CTp) (v : Nat → Int32) : CTp := CTp.mk c.n v
def RMtp (c : CTp) (S : amSt) : Prop := (S.1 1 1 70 = iN c.n) ∧ (∀ k, k < c.n → S.1 107 1 k = c.b k)
theorem RMtp.n {c : CTp} {S : amSt} (hx_ : RMtp c S) : S.1 1 1 70 = iN c.n := And.left hx_
theorem RMtp.b {c : CTp} {S : amSt} (hx_ : RMtp c S) : ∀ k, k < c.n → S.1 107 1 k = c.b k := (And.right hx_)
theorem RMtp.mk {c : CTp} {S : amSt} (h_n : S.1 1 1 70 = iN c.n) (h_b : ∀ k, k < c.n → S.1 107 1 k = c.b k) : RMtp c S := And.intro h_n (h_b)
def KRMtp : List Nat := [2070, 100001]
theorem RMtp.fr {c : CTp} {S : amSt} {S1 : amSt} (hx_ : RMtp c S) {L : List Nat} (hf : FrS L S S1) (hd : ∀ x ∈ KRMtp, x ∉ L) : RMtp c S1 :=
  RMtp.mk
    ((hf.i 1 1 70 (hd 2070 (by decide))).trans (hx_.n ))
    (fun k h0_ => (hf.i 107 1 k (hd 100001 (by decide))).trans (hx_.b k h0_))
def RCtp (c : CTp) (S : amSt) : Prop := (S.1 0 1 17 = iN c.n) ∧ (∀ k, k < c.n → S.1 30 1 k = c.b k)
theorem RCtp.n {c : CTp} {S : amSt} (hx_ : RCtp c S) : S.1 0 1 17 = iN c.n := And.left hx_
theorem RCtp.b {c : CTp} {S : amSt} (hx_ : RCtp c S) : ∀ k, k < c.n → S.1 30 1 k = c.b k := (And.right hx_)
theorem RCtp.mk {c : CTp} {S : amSt} (h_n : S.1 0 1 17 = iN c.n) (h_b : ∀ k, k < c.n → S.1 30 1 k = c.b k) : RCtp c S := And.intro h_n (h_b)
def KRCtp : List Nat := [1017, 30]
theorem RCtp.fr {c : CTp} {S : amSt} {S1 : amSt} (hx_ : RCtp c S) {L : List Nat} (hf : FrS L S S1) (hd : ∀ x ∈ KRCtp, x ∉ L) : RCtp c S1 :=
  RCtp.mk
    ((hf.i 0 1 17 (hd 1017 (by decide))).trans (hx_.n ))
    (fun k h0_ => (hf.i 30 1 k (hd 30 (by decide))).trans (hx_.b k h0_))
def endS (c : CTp) (a : Int32) : Int32 × CTp := if a < 0 then (0, c) else if a ≤ iN c.n then (1, CTp.mk a.toNatClampNeg c.b) else (0, c)
theorem endS_n {c : CTp} (hn : c.n ≤ 200) {a : Int32} : (endS c a).2.n ≤ 200 := by
  unfold endS
  split
  · exact hn
  · rename_i h0
    split
    · rename_i h1
      obtain ⟨k, hk, rfl⟩ := iN_of h0
      rw [iN_le hk (by omega)] at h1
      show (iN k).toNatClampNeg ≤ 200
      rw [iN_nat hk]; omega
    · exact hn
theorem op_X1_end {c : CTp} (hn : c.n ≤ 200) {φ : amSh} {S : amSt} (hT : RCtp c S) {a : Int32} : Rs (fun v S' => v = (endS c a).1 ∧ RCtp (endS c a).2 S') (p_X1_end a φ S) := by
  unfold p_X1_end endS
  by_cases h0 : a < 0
  · rw [if_pos h0, if_pos h0, rt_ap]
    exact Rs.mk ⟨rfl, hT⟩
  · rw [if_neg h0, if_neg h0, bd_gI1, hT.n]
    by_cases h1 : a ≤ iN c.n
    · rw [if_pos h1, if_pos h1, bd_pI1, rt_ap]
      obtain ⟨k, hk, rfl⟩ := iN_of h0
      rw [iN_le hk (by omega)] at h1
      rw [iN_nat hk]
      refine Rs.mk ⟨rfl, RCtp.mk ?_ ?_⟩
      · simp [u3]; rfl
      · intro j hj
        have hj2 : j < k := hj
        refine Eq.trans ?_ (hT.b j (by omega)); simp [u3]
    · rw [if_neg h1, if_neg h1, rt_ap]
      exact Rs.mk ⟨rfl, hT⟩
theorem op_X3_end {c : CTp} (hn : c.n ≤ 200) {φ : amSh} {S : amSt} (hT0 : RMtp c S) {a : Int32} : Rs (fun v S' => v = (endS c a).1 ∧ RMtp (endS c a).2 S') (p_X3_end a φ S) := by
  have hT := hT0.fr th0 (by decide)
  unfold p_X3_end endS
  rw [bd_pI1]
  by_cases h0 : a < 0
  · rw [if_pos h0, if_pos h0, rt_ap]
    exact Rs.mk ⟨rfl, hT⟩
  · rw [if_neg h0, if_neg h0, bd_gI1, hT.n]
    by_cases h1 : a ≤ iN c.n
    · rw [if_pos h1, if_pos h1, bd_pI1, rt_ap]
      obtain ⟨k, hk, rfl⟩ := iN_of h0
      rw [iN_le hk (by omega)] at h1
      rw [iN_nat hk]
      refine Rs.mk ⟨rfl, RMtp.mk ?_ ?_⟩
      · simp [u3]; rfl
      · intro j hj
        have hj2 : j < k := hj
        refine Eq.trans ?_ (hT0.b j (by omega)); simp [u3]
    · rw [if_neg h1, if_neg h1, rt_ap]
      exact Rs.mk ⟨rfl, hT⟩
/-! bytes of words -/
theorem i8_and {x : Int32} : (x &&& 255).toInt8 = x.toInt8 := by
  apply Int8.toBitVec_inj.mp
  simp only [Int32.toBitVec_toInt8, Int32.toBitVec_and]
  ext i hi
  have h8 : i < 8 := hi
  have l : (Int32.toBitVec 255).getLsbD i = true := by
    have hi : i = 0 ∨ i = 1 ∨ i = 2 ∨ i = 3 ∨ i = 4 ∨ i = 5 ∨ i = 6 ∨ i = 7 := by omega
    rcases hi with rfl | rfl | rfl | rfl | rfl | rfl | rfl | rfl <;> decide
  rw [BitVec.getLsbD_eq_getElem (show i < 32 by omega)] at l
  rw [BitVec.getElem_signExtend, BitVec.getElem_signExtend]
  rw [dif_pos (show i < 32 by omega), dif_pos (show i < 32 by omega), BitVec.getElem_and, l, Bool.and_true]
theorem i8_i8 {x : Int8} : x.toInt32.toInt8 = x := by simp
/-- the i-th byte of a word -/
def byt (v : Int32) (i : Nat) : Int32 := (v >>> (iN (24 - 8 * i) &&& 31)) &&& 255
/-- bytes behind a tape: those of one word from the i-th on, so many -/
def apW (v : Int32) (i : Nat) (t : CTp) : CTp := if byt v i = 0 then t else CTp.mk (t.n + 1) (pup t.b t.n (byt v i).toInt8.toInt32)
