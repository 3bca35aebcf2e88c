/-! PURE: what a call is like -/
def calledOp (c : CCa) (a1 a2 : Int32) : Int32 := if inN a1 c.n then (if a2 = 0 then iN (c.cor a1.toNatClampNeg) else if a2 = 1 then iN (c.word a1.toNatClampNeg) else if a2 = 2 then c.what a1.toNatClampNeg else if a2 = 3 then iN (c.beg a1.toNatClampNeg) else if a2 = 4 then c.ended a1.toNatClampNeg else if a2 = 5 then c.sent a1.toNatClampNeg else if a2 = 6 then c.lacks a1.toNatClampNeg else if a2 = 7 then c.times a1.toNatClampNeg else -1) else -1
theorem op_X1_called {c : CCa} (w : c.WF) {φ : amSh} {S : amSt} (hφ : φ.1 255 ≠ 0) (hR : RCca c φ S) {a1 a2 : Int32} : p_X1_called a1 a2 φ S = some (calledOp c a1 a2, S) := by
  have hn := w.hn
  unfold p_X1_called calledOp
  rw [bd_gM hφ, bd_gI1, hR.n, bd_of (in_n (by omega))]
  by_cases h1 : inN a1 c.n
  · obtain ⟨k, hk, rfl⟩ := h1.ex (by omega)
    rw [ip h1, if_neg (by decide), if_pos h1, iN_nat (by omega), rR32_1 (by omega), hR.obj k hk]
    by_cases h : a2 = 0
    · rw [if_pos h, if_pos h, bd_gI (by omega), hR.cor k hk, rt_ap]
    rw [if_neg h, if_neg h]
    by_cases h : a2 = 1
    · rw [if_pos h, if_pos h, bd_gI (by omega), hR.word k hk, rt_ap]
    rw [if_neg h, if_neg h]
    by_cases h : a2 = 2
    · rw [if_pos h, if_pos h, bd_gI (by omega), hR.what k hk, rt_ap]
    rw [if_neg h, if_neg h]
    by_cases h : a2 = 3
    · rw [if_pos h, if_pos h, bd_gI (by omega), hR.beg k hk, rt_ap]
    rw [if_neg h, if_neg h]
    by_cases h : a2 = 4
    · rw [if_pos h, if_pos h, bd_gI (by omega), hR.ended k hk, rt_ap]
    rw [if_neg h, if_neg h]
    by_cases h : a2 = 5
    · rw [if_pos h, if_pos h, bd_gI (by omega), hR.sent k hk, rt_ap]
    rw [if_neg h, if_neg h]
    by_cases h : a2 = 6
    · rw [if_pos h, if_pos h, bd_gI (by omega), hR.lacks k hk, rt_ap]
    rw [if_neg h, if_neg h]
    by_cases h : a2 = 7
    · rw [if_pos h, if_pos h, bd_gI (by omega), hR.times k hk, rt_ap]
    rw [if_neg h, if_neg h, rt_ap]
  · rw [iq h1, if_pos rfl, if_neg h1, rt_ap]
theorem op_X3_called {c : CCa} (w : c.WF) {φ : amSh} {S : amSt} (hφ : φ.1 255 ≠ 0) (hR0 : RMca c S) {a1 a2 : Int32} : p_X3_called a1 a2 φ S = some (calledOp c a1 a2, (u3 S.1 1 1 0 0, S.2)) := by
  have hn := w.hn
  have hR := hR0.fr th0 (by decide)
  unfold p_X3_called calledOp
  rw [bd_gM hφ, bd_pI1]
  by_cases h0 : a1 < 0
  · rw [if_pos h0, if_neg (fun z => z.1 h0), rt_ap]
  · rw [if_neg h0, bd_gI1, hR.n]
    by_cases h9 : a1 < iN c.n
    · have h1 : inN a1 c.n := ⟨h0, h9⟩
      obtain ⟨k, hk, rfl⟩ := h1.ex (by omega)
      rw [if_pos h9, if_pos h1, iN_nat (by omega)]
      by_cases h : a2 = 0
      · rw [if_pos h, if_pos h, rI115_1 (by omega), hR.cor k hk, rt_ap]
      rw [if_neg h, if_neg h]
      by_cases h : a2 = 1
      · rw [if_pos h, if_pos h, rI116_1 (by omega), hR.word k hk, rt_ap]
      rw [if_neg h, if_neg h]
      by_cases h : a2 = 2
      · rw [if_pos h, if_pos h, rI117_1 (by omega), hR.what k (by omega), rt_ap]
      rw [if_neg h, if_neg h]
      by_cases h : a2 = 3
      · rw [if_pos h, if_pos h, rI118_1 (by omega), hR.beg k hk, rt_ap]
      rw [if_neg h, if_neg h]
      by_cases h : a2 = 4
      · rw [if_pos h, if_pos h, rI119_1 (by omega), hR.ended k hk, rt_ap]
      rw [if_neg h, if_neg h]
      by_cases h : a2 = 5
      · rw [if_pos h, if_pos h, rI120_1 (by omega), hR.sent k (by omega), rt_ap]
      rw [if_neg h, if_neg h]
      by_cases h : a2 = 6
      · rw [if_pos h, if_pos h, rI121_1 (by omega), hR.lacks k (by omega), rt_ap]
      rw [if_neg h, if_neg h]
      by_cases h : a2 = 7
      · rw [if_pos h, if_pos h, rI122_1 (by omega), hR.times k (by omega), rt_ap]
      rw [if_neg h, if_neg h, rt_ap]
    · rw [if_neg h9, if_neg (fun z => h9 z.2), rt_ap]
