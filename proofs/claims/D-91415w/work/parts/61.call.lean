/-! PURE: calls; what burns is kept in mind -/
abbrev CCa : Type := (Nat) × (Nat → Nat) × (Nat → Nat) × (Nat → Int32) × (Nat → Nat) × (Nat → Int32) × (Nat → Int32) × (Nat → Int32) × (Nat → Int32) × (Nat → Int32)
def CCa.mk (n : Nat) (cor : Nat → Nat) (word : Nat → Nat) (what : Nat → Int32) (beg : Nat → Nat) (ended : Nat → Int32) (sent : Nat → Int32) (lacks : Nat → Int32) (times : Nat → Int32) (bur : Nat → Int32) : CCa := (n, cor, word, what, beg, ended, sent, lacks, times, bur)
def CCa.n (c : CCa) : Nat := c.1
def CCa.cor (c : CCa) : Nat → Nat := c.2.1
def CCa.word (c : CCa) : Nat → Nat := c.2.2.1
def CCa.what (c : CCa) : Nat → Int32 := c.2.2.2.1
def CCa.beg (c : CCa) : Nat → Nat := c.2.2.2.2.1
def CCa.ended (c : CCa) : Nat → Int32 := c.2.2.2.2.2.1
def CCa.sent (c : CCa) : Nat → Int32 := c.2.2.2.2.2.2.1
def CCa.lacks (c : CCa) : Nat → Int32 := c.2.2.2.2.2.2.2.1
def CCa.times (c : CCa) : Nat → Int32 := c.2.2.2.2.2.2.2.2.1
def CCa.bur (c : CCa) : Nat → Int32 := c.2.2.2.2.2.2.2.2.2
def CCa.s_n (c : CCa) (v : Nat) : CCa := CCa.mk v c.cor c.word c.what c.beg c.ended c.sent c.lacks c.times c.bur
def CCa.s_cor (c : CCa) (v : Nat → Nat) : CCa := CCa.mk c.n v c.word c.what c.beg c.ended c.sent c.lacks c.times c.bur
def CCa.s_word (c : CCa) (v : Nat → Nat) : CCa := CCa.mk c.n c.cor v c.what c.beg c.ended c.sent c.lacks c.times c.bur
def CCa.s_what (c : CCa) (v : Nat → Int32) : CCa := CCa.mk c.n c.cor c.word v c.beg c.ended c.sent c.lacks c.times c.bur
def CCa.s_beg (c : CCa) (v : Nat → Nat) : CCa := CCa.mk c.n c.cor c.word c.what v c.ended c.sent c.lacks c.times c.bur
def CCa.s_ended (c : CCa) (v : Nat → Int32) : CCa := CCa.mk c.n c.cor c.word c.what c.beg v c.sent c.lacks c.times c.bur
def CCa.s_sent (c : CCa) (v : Nat → Int32) : CCa := CCa.mk c.n c.cor c.word c.what c.beg c.ended v c.lacks c.times c.bur
def CCa.s_lacks (c : CCa) (v : Nat → Int32) : CCa := CCa.mk c.n c.cor c.word c.what c.beg c.ended c.sent v c.times c.bur
def CCa.s_times (c : CCa) (v : Nat → Int32) : CCa := CCa.mk c.n c.cor c.word c.what c.beg c.ended c.sent c.lacks v c.bur
def CCa.s_bur (c : CCa) (v : Nat → Int32) : CCa := CCa.mk c.n c.cor c.word c.what c.beg c.ended c.sent c.lacks c.times v
def CCa.WF (c : CCa) : Prop := (c.n ≤ 60) ∧ (∀ k, k < c.n → c.cor k < 20) ∧ (∀ k, k < c.n → 1 ≤ c.word k ∧ c.word k ≤ 3) ∧ (∀ k, k < c.n → c.beg k ≤ 20000) ∧ (∀ j k, j < c.n → k < c.n → c.what j = 0 → c.what k = 0 → c.cor j = c.cor k → j = k) ∧ (∀ k, k < c.n → c.bur k = 0 ∨ c.bur k = 1) ∧ (∀ k, c.n ≤ k → c.what k = 0 ∧ c.sent k = 0 ∧ c.lacks k = 0 ∧ c.times k = 0)
theorem CCa.WF.hn {c : CCa} (hx_ : CCa.WF c) : c.n ≤ 60 := And.left hx_
theorem CCa.WF.cor {c : CCa} (hx_ : CCa.WF c) : ∀ k, k < c.n → c.cor k < 20 := And.left (And.right hx_)
theorem CCa.WF.word {c : CCa} (hx_ : CCa.WF c) : ∀ k, k < c.n → 1 ≤ c.word k ∧ c.word k ≤ 3 := And.left (And.right (And.right hx_))
theorem CCa.WF.beg {c : CCa} (hx_ : CCa.WF c) : ∀ k, k < c.n → c.beg k ≤ 20000 := And.left (And.right (And.right (And.right hx_)))
theorem CCa.WF.uniq {c : CCa} (hx_ : CCa.WF c) : ∀ j k, j < c.n → k < c.n → c.what j = 0 → c.what k = 0 → c.cor j = c.cor k → j = k := And.left (And.right (And.right (And.right (And.right hx_))))
theorem CCa.WF.bur {c : CCa} (hx_ : CCa.WF c) : ∀ k, k < c.n → c.bur k = 0 ∨ c.bur k = 1 := And.left (And.right (And.right (And.right (And.right (And.right hx_)))))
theorem CCa.WF.z {c : CCa} (hx_ : CCa.WF c) : ∀ k, c.n ≤ k → c.what k = 0 ∧ c.sent k = 0 ∧ c.lacks k = 0 ∧ c.times k = 0 := (And.right (And.right (And.right (And.right (And.right (And.right hx_))))))
theorem CCa.WF.mk {c : CCa} (h_hn : c.n ≤ 60) (h_cor : ∀ k, k < c.n → c.cor k < 20) (h_word : ∀ k, k < c.n → 1 ≤ c.word k ∧ c.word k ≤ 3) (h_beg : ∀ k, k < c.n → c.beg k ≤ 20000) (h_uniq : ∀ j k, j < c.n → k < c.n → c.what j = 0 → c.what k = 0 → c.cor j = c.cor k → j = k) (h_bur : ∀ k, k < c.n → c.bur k = 0 ∨ c.bur k = 1) (h_z : ∀ k, c.n ≤ k → c.what k = 0 ∧ c.sent k = 0 ∧ c.lacks k = 0 ∧ c.times k = 0) : CCa.WF c := And.intro h_hn (And.intro h_cor (And.intro h_word (And.intro h_beg (And.intro h_uniq (And.intro h_bur (h_z))))))
def RMca (c : CCa) (S : amSt) : Prop := (S.1 1 1 92 = iN c.n) ∧ (∀ k, k < c.n → S.1 115 1 k = iN (c.cor k)) ∧ (∀ k, k < c.n → S.1 116 1 k = iN (c.word k)) ∧ (∀ k, k < 60 → S.1 117 1 k = c.what k) ∧ (∀ k, k < c.n → S.1 118 1 k = iN (c.beg k)) ∧ (∀ k, k < c.n → S.1 119 1 k = c.ended k) ∧ (∀ k, k < 60 → S.1 120 1 k = c.sent k) ∧ (∀ k, k < 60 → S.1 121 1 k = c.lacks k) ∧ (∀ k, k < 60 → S.1 122 1 k = c.times k) ∧ (∀ k, k < c.n → S.1 123 1 k = c.bur k)
theorem RMca.n {c : CCa} {S : amSt} (hx_ : RMca c S) : S.1 1 1 92 = iN c.n := And.left hx_
theorem RMca.cor {c : CCa} {S : amSt} (hx_ : RMca c S) : ∀ k, k < c.n → S.1 115 1 k = iN (c.cor k) := And.left (And.right hx_)
theorem RMca.word {c : CCa} {S : amSt} (hx_ : RMca c S) : ∀ k, k < c.n → S.1 116 1 k = iN (c.word k) := And.left (And.right (And.right hx_))
theorem RMca.what {c : CCa} {S : amSt} (hx_ : RMca c S) : ∀ k, k < 60 → S.1 117 1 k = c.what k := And.left (And.right (And.right (And.right hx_)))
theorem RMca.beg {c : CCa} {S : amSt} (hx_ : RMca c S) : ∀ k, k < c.n → S.1 118 1 k = iN (c.beg k) := And.left (And.right (And.right (And.right (And.right hx_))))
theorem RMca.ended {c : CCa} {S : amSt} (hx_ : RMca c S) : ∀ k, k < c.n → S.1 119 1 k = c.ended k := And.left (And.right (And.right (And.right (And.right (And.right hx_)))))
theorem RMca.sent {c : CCa} {S : amSt} (hx_ : RMca c S) : ∀ k, k < 60 → S.1 120 1 k = c.sent k := And.left (And.right (And.right (And.right (And.right (And.right (And.right hx_))))))
theorem RMca.lacks {c : CCa} {S : amSt} (hx_ : RMca c S) : ∀ k, k < 60 → S.1 121 1 k = c.lacks k := And.left (And.right (And.right (And.right (And.right (And.right (And.right (And.right hx_)))))))
theorem RMca.times {c : CCa} {S : amSt} (hx_ : RMca c S) : ∀ k, k < 60 → S.1 122 1 k = c.times k := And.left (And.right (And.right (And.right (And.right (And.right (And.right (And.right (And.right hx_))))))))
theorem RMca.bur {c : CCa} {S : amSt} (hx_ : RMca c S) : ∀ k, k < c.n → S.1 123 1 k = c.bur k := (And.right (And.right (And.right (And.right (And.right (And.right (And.right (And.right (And.right hx_)))))))))
theorem RMca.mk {c : CCa} {S : amSt} (h_n : S.1 1 1 92 = iN c.n) (h_cor : ∀ k, k < c.n → S.1 115 1 k = iN (c.cor k)) (h_word : ∀ k, k < c.n → S.1 116 1 k = iN (c.word k)) (h_what : ∀ k, k < 60 → S.1 117 1 k = c.what k) (h_beg : ∀ k, k < c.n → S.1 118 1 k = iN (c.beg k)) (h_ended : ∀ k, k < c.n → S.1 119 1 k = c.ended k) (h_sent : ∀ k, k < 60 → S.1 120 1 k = c.sent k) (h_lacks : ∀ k, k < 60 → S.1 121 1 k = c.lacks k) (h_times : ∀ k, k < 60 → S.1 122 1 k = c.times k) (h_bur : ∀ k, k < c.n → S.1 123 1 k = c.bur k) : RMca c S := And.intro h_n (And.intro h_cor (And.intro h_word (And.intro h_what (And.intro h_beg (And.intro h_ended (And.intro h_sent (And.intro h_lacks (And.intro h_times (h_bur)))))))))
def KRMca : List Nat := [2092, 115, 116, 117, 118, 119, 120, 121, 122, 123]
theorem RMca.fr {c : CCa} {S : amSt} {S1 : amSt} (hx_ : RMca c S) {L : List Nat} (hf : FrS L S S1) (hd : ∀ x ∈ KRMca, x ∉ L) : RMca c S1 :=
  RMca.mk
    ((hf.i 1 1 92 (hd 2092 (by decide))).trans (hx_.n ))
    (fun k h0_ => (hf.i 115 1 k (hd 115 (by decide))).trans (hx_.cor k h0_))
    (fun k h0_ => (hf.i 116 1 k (hd 116 (by decide))).trans (hx_.word k h0_))
    (fun k h0_ => (hf.i 117 1 k (hd 117 (by decide))).trans (hx_.what k h0_))
    (fun k h0_ => (hf.i 118 1 k (hd 118 (by decide))).trans (hx_.beg k h0_))
    (fun k h0_ => (hf.i 119 1 k (hd 119 (by decide))).trans (hx_.ended k h0_))
    (fun k h0_ => (hf.i 120 1 k (hd 120 (by decide))).trans (hx_.sent k h0_))
    (fun k h0_ => (hf.i 121 1 k (hd 121 (by decide))).trans (hx_.lacks k h0_))
    (fun k h0_ => (hf.i 122 1 k (hd 122 (by decide))).trans (hx_.times k h0_))
    (fun k h0_ => (hf.i 123 1 k (hd 123 (by decide))).trans (hx_.bur k h0_))
def RCca (c : CCa) (φ : amSh) (S : amSt) : Prop := (S.1 0 1 25 = iN c.n) ∧ (∀ k, k < c.n → S.2.2 32 1 k = k + 1) ∧ (∀ k, k < c.n → S.1 7 (k + 1) 0 = iN k) ∧ (∀ k, k < c.n → S.1 7 (k + 1) 1 = iN (c.cor k)) ∧ (∀ k, k < c.n → S.1 7 (k + 1) 2 = iN (c.beg k)) ∧ (∀ k, k < c.n → S.1 7 (k + 1) 3 = iN (c.word k)) ∧ (∀ k, k < c.n → S.1 7 (k + 1) 4 = c.what k) ∧ (∀ k, k < c.n → S.1 7 (k + 1) 5 = c.ended k) ∧ (∀ k, k < c.n → S.1 7 (k + 1) 6 = c.sent k) ∧ (∀ k, k < c.n → S.1 7 (k + 1) 7 = c.lacks k) ∧ (∀ k, k < c.n → S.1 7 (k + 1) 8 = c.times k) ∧ (∀ k, k < c.n → S.1 7 (k + 1) 9 = c.bur k) ∧ (φ.1 7 = c.n)
theorem RCca.n {c : CCa} {φ : amSh} {S : amSt} (hx_ : RCca c φ S) : S.1 0 1 25 = iN c.n := And.left hx_
theorem RCca.obj {c : CCa} {φ : amSh} {S : amSt} (hx_ : RCca c φ S) : ∀ k, k < c.n → S.2.2 32 1 k = k + 1 := And.left (And.right hx_)
theorem RCca.num {c : CCa} {φ : amSh} {S : amSt} (hx_ : RCca c φ S) : ∀ k, k < c.n → S.1 7 (k + 1) 0 = iN k := And.left (And.right (And.right hx_))
theorem RCca.cor {c : CCa} {φ : amSh} {S : amSt} (hx_ : RCca c φ S) : ∀ k, k < c.n → S.1 7 (k + 1) 1 = iN (c.cor k) := And.left (And.right (And.right (And.right hx_)))
theorem RCca.beg {c : CCa} {φ : amSh} {S : amSt} (hx_ : RCca c φ S) : ∀ k, k < c.n → S.1 7 (k + 1) 2 = iN (c.beg k) := And.left (And.right (And.right (And.right (And.right hx_))))
theorem RCca.word {c : CCa} {φ : amSh} {S : amSt} (hx_ : RCca c φ S) : ∀ k, k < c.n → S.1 7 (k + 1) 3 = iN (c.word k) := And.left (And.right (And.right (And.right (And.right (And.right hx_)))))
theorem RCca.what {c : CCa} {φ : amSh} {S : amSt} (hx_ : RCca c φ S) : ∀ k, k < c.n → S.1 7 (k + 1) 4 = c.what k := And.left (And.right (And.right (And.right (And.right (And.right (And.right hx_))))))
theorem RCca.ended {c : CCa} {φ : amSh} {S : amSt} (hx_ : RCca c φ S) : ∀ k, k < c.n → S.1 7 (k + 1) 5 = c.ended k := And.left (And.right (And.right (And.right (And.right (And.right (And.right (And.right hx_)))))))
theorem RCca.sent {c : CCa} {φ : amSh} {S : amSt} (hx_ : RCca c φ S) : ∀ k, k < c.n → S.1 7 (k + 1) 6 = c.sent k := And.left (And.right (And.right (And.right (And.right (And.right (And.right (And.right (And.right hx_))))))))
theorem RCca.lacks {c : CCa} {φ : amSh} {S : amSt} (hx_ : RCca c φ S) : ∀ k, k < c.n → S.1 7 (k + 1) 7 = c.lacks k := And.left (And.right (And.right (And.right (And.right (And.right (And.right (And.right (And.right (And.right hx_)))))))))
theorem RCca.times {c : CCa} {φ : amSh} {S : amSt} (hx_ : RCca c φ S) : ∀ k, k < c.n → S.1 7 (k + 1) 8 = c.times k := And.left (And.right (And.right (And.right (And.right (And.right (And.right (And.right (And.right (And.right (And.right hx_))))))))))
theorem RCca.bur {c : CCa} {φ : amSh} {S : amSt} (hx_ : RCca c φ S) : ∀ k, k < c.n → S.1 7 (k + 1) 9 = c.bur k := And.left (And.right (And.right (And.right (And.right (And.right (And.right (And.right (And.right (And.right (And.right (And.right hx_)))))))))))
theorem RCca.cnt {c : CCa} {φ : amSh} {S : amSt} (hx_ : RCca c φ S) : φ.1 7 = c.n := (And.right (And.right (And.right (And.right (And.right (And.right (And.right (And.right (And.right (And.right (And.right (And.right hx_))))))))))))
theorem RCca.mk {c : CCa} {φ : amSh} {S : amSt} (h_n : S.1 0 1 25 = iN c.n) (h_obj : ∀ k, k < c.n → S.2.2 32 1 k = k + 1) (h_num : ∀ k, k < c.n → S.1 7 (k + 1) 0 = iN k) (h_cor : ∀ k, k < c.n → S.1 7 (k + 1) 1 = iN (c.cor k)) (h_beg : ∀ k, k < c.n → S.1 7 (k + 1) 2 = iN (c.beg k)) (h_word : ∀ k, k < c.n → S.1 7 (k + 1) 3 = iN (c.word k)) (h_what : ∀ k, k < c.n → S.1 7 (k + 1) 4 = c.what k) (h_ended : ∀ k, k < c.n → S.1 7 (k + 1) 5 = c.ended k) (h_sent : ∀ k, k < c.n → S.1 7 (k + 1) 6 = c.sent k) (h_lacks : ∀ k, k < c.n → S.1 7 (k + 1) 7 = c.lacks k) (h_times : ∀ k, k < c.n → S.1 7 (k + 1) 8 = c.times k) (h_bur : ∀ k, k < c.n → S.1 7 (k + 1) 9 = c.bur k) (h_cnt : φ.1 7 = c.n) : RCca c φ S := And.intro h_n (And.intro h_obj (And.intro h_num (And.intro h_cor (And.intro h_beg (And.intro h_word (And.intro h_what (And.intro h_ended (And.intro h_sent (And.intro h_lacks (And.intro h_times (And.intro h_bur (h_cnt))))))))))))
def KRCca : List Nat := [1025, 32, 8000, 8001, 8002, 8003, 8004, 8005, 8006, 8007, 8008, 8009]
theorem RCca.fr {c : CCa} {φ : amSh} {S : amSt} {S1 : amSt} (hx_ : RCca c φ S) {L : List Nat} (hf : FrS L S S1) (hd : ∀ x ∈ KRCca, x ∉ L) : RCca c φ S1 :=
  RCca.mk
    ((hf.i 0 1 25 (hd 1025 (by decide))).trans (hx_.n ))
    (fun k h0_ => (hf.r 32 1 k (hd 32 (by decide))).trans (hx_.obj k h0_))
    (fun k h0_ => (hf.i 7 (k + 1) 0 (hd 8000 (by decide))).trans (hx_.num k h0_))
    (fun k h0_ => (hf.i 7 (k + 1) 1 (hd 8001 (by decide))).trans (hx_.cor k h0_))
    (fun k h0_ => (hf.i 7 (k + 1) 2 (hd 8002 (by decide))).trans (hx_.beg k h0_))
    (fun k h0_ => (hf.i 7 (k + 1) 3 (hd 8003 (by decide))).trans (hx_.word k h0_))
    (fun k h0_ => (hf.i 7 (k + 1) 4 (hd 8004 (by decide))).trans (hx_.what k h0_))
    (fun k h0_ => (hf.i 7 (k + 1) 5 (hd 8005 (by decide))).trans (hx_.ended k h0_))
    (fun k h0_ => (hf.i 7 (k + 1) 6 (hd 8006 (by decide))).trans (hx_.sent k h0_))
    (fun k h0_ => (hf.i 7 (k + 1) 7 (hd 8007 (by decide))).trans (hx_.lacks k h0_))
    (fun k h0_ => (hf.i 7 (k + 1) 8 (hd 8008 (by decide))).trans (hx_.times k h0_))
    (fun k h0_ => (hf.i 7 (k + 1) 9 (hd 8009 (by decide))).trans (hx_.bur k h0_))
    (hx_.cnt)
/-- the open call of a corner: 0 none, else its number and one -/
def opL (c : CCa) (cor : Nat) : Nat → Nat → Nat
  | 0, _ => 0
  | d + 1, k => if c.cor k = cor ∧ c.what k = 0 then k + 1 else opL c cor d (k + 1)
def opS (c : CCa) (cor : Nat) : Nat := opL c cor c.n 0
theorem opL_sp {c : CCa} {cor : Nat} : ∀ d k, (opL c cor d k = 0 ∧ ∀ j, k ≤ j → j < k + d → ¬ (c.cor j = cor ∧ c.what j = 0)) ∨ ∃ j, k ≤ j ∧ j < k + d ∧ opL c cor d k = j + 1 ∧ c.cor j = cor ∧ c.what j = 0 := by
  intro d
  induction d with
  | zero => intro k; exact Or.inl ⟨rfl, fun j h1 h2 => by omega⟩
  | succ d ih =>
    intro k
    unfold opL
    by_cases h : c.cor k = cor ∧ c.what k = 0
    · rw [if_pos h]; exact Or.inr ⟨k, Nat.le_refl _, by omega, rfl, h.1, h.2⟩
    · rw [if_neg h]
      rcases ih (k + 1) with ⟨e, h2⟩ | ⟨j, h1, h2, h3⟩
      · refine Or.inl ⟨e, fun j h3 h4 => ?_⟩
        by_cases e2 : j = k
        · subst e2; exact h
        · exact h2 j (by omega) (by omega)
      · exact Or.inr ⟨j, by omega, by omega, h3⟩
theorem opS_sp (c : CCa) (cor : Nat) : (opS c cor = 0 ∧ ∀ j, j < c.n → ¬ (c.cor j = cor ∧ c.what j = 0)) ∨ ∃ j, j < c.n ∧ opS c cor = j + 1 ∧ c.cor j = cor ∧ c.what j = 0 := by
  rcases opL_sp (c := c) (cor := cor) c.n 0 with ⟨e, h⟩ | ⟨j, h1, h2, h3⟩
  · exact Or.inl ⟨e, fun j hj => h j (by omega) (by omega)⟩
  · exact Or.inr ⟨j, by omega, h3⟩
theorem sp_X1_openAt {c : CCa} (w : c.WF) {φ : amSh} {S : amSt} (hφ : φ.1 255 ≠ 0) (hR : RCca c φ S) {cor : Nat} (hc : cor < 20) : p_X1_openAt (iN cor) φ S = some (opS c cor, S) := by
  have hn := w.hn
  have key : Rs (fun v S' => v = opS c cor ∧ S' = S) (alp (p_X1_openAt_L2 (iN cor)) amFu 0 φ S) := by
    refine alp_I (fun j x S' => x = iN j ∧ S' = S ∧ opL c cor (c.n - j) j = opS c cor) c.n (amFu_lt (by omega)) ⟨rfl, rfl, rfl⟩ ?_ ?_
    · rintro j x S' hj ⟨rfl, rfl, h0⟩ rec
      have hcj := w.cor j hj
      rw [show c.n - j = (c.n - (j + 1)) + 1 by omega] at h0
      unfold opL at h0
      unfold p_X1_openAt_L2
      by_cases c1 : c.cor j = cor
      · by_cases c2 : c.what j = 0
        · rw [if_pos ⟨c1, c2⟩] at h0
          simp (disch := first | omega | assumption) only [↓bd_rt, ↓bd_bd, ↓bd_ite, ↓bd_jn, ↓jn_ap, ↓ite_ap, ↓bd_gI1, ↓bd_pI1, ↓bd_gR1, ↓bd_pR1, ↓bd_gM, rt_ap, ↓reduceIte, iN_div, iN_divL, iN_add, iN_mul, iN_addL, iN_Ladd, iN_mulL, iN_Lmul, iN_subL, iN_sub, iN_le_T, iN_le_F, iN_lt_T, iN_lt_F, iN_eq_F, iN_leL_T, iN_leL_F, iN_Lle_T, iN_Lle_F, iN_ltL_T, iN_ltL_F, iN_Llt_T, iN_Llt_F, iN_eqL_T, iN_eqL_F, iN_m1, m1_iN, iN_le_m1, m1_le_iN, iN_neg, iN_pos, i10, i01, i00, i11, u3_op, u3_or, u3_same, pup_eq, pup_ne, hR.n, ↓rR32_1, hR.obj j hj, ↓bd_gI, hR.cor j hj, hR.what j hj, c1, c2, if_true]
          exact Lz.ret ⟨h0, rfl⟩
        · rw [if_neg (fun z => c2 z.2)] at h0
          simp (disch := first | omega | assumption) only [↓bd_rt, ↓bd_bd, ↓bd_ite, ↓bd_jn, ↓jn_ap, ↓ite_ap, ↓bd_gI1, ↓bd_pI1, ↓bd_gR1, ↓bd_pR1, ↓bd_gM, rt_ap, ↓reduceIte, iN_div, iN_divL, iN_add, iN_mul, iN_addL, iN_Ladd, iN_mulL, iN_Lmul, iN_subL, iN_sub, iN_le_T, iN_le_F, iN_lt_T, iN_lt_F, iN_eq_F, iN_leL_T, iN_leL_F, iN_Lle_T, iN_Lle_F, iN_ltL_T, iN_ltL_F, iN_Llt_T, iN_Llt_F, iN_eqL_T, iN_eqL_F, iN_m1, m1_iN, iN_le_m1, m1_le_iN, iN_neg, iN_pos, i10, i01, i00, i11, u3_op, u3_or, u3_same, pup_eq, pup_ne, hR.n, ↓rR32_1, hR.obj j hj, ↓bd_gI, hR.cor j hj, hR.what j hj, c1, if_neg c2, if_true]
          exact Lz.go ⟨rfl, rfl, h0⟩
      · rw [if_neg (fun z => c1 z.1)] at h0
        simp (disch := first | omega | assumption) only [↓bd_rt, ↓bd_bd, ↓bd_ite, ↓bd_jn, ↓jn_ap, ↓ite_ap, ↓bd_gI1, ↓bd_pI1, ↓bd_gR1, ↓bd_pR1, ↓bd_gM, rt_ap, ↓reduceIte, iN_div, iN_divL, iN_add, iN_mul, iN_addL, iN_Ladd, iN_mulL, iN_Lmul, iN_subL, iN_sub, iN_le_T, iN_le_F, iN_lt_T, iN_lt_F, iN_eq_F, iN_leL_T, iN_leL_F, iN_Lle_T, iN_Lle_F, iN_ltL_T, iN_ltL_F, iN_Llt_T, iN_Llt_F, iN_eqL_T, iN_eqL_F, iN_m1, m1_iN, iN_le_m1, m1_le_iN, iN_neg, iN_pos, i10, i01, i00, i11, u3_op, u3_or, u3_same, pup_eq, pup_ne, hR.n, ↓rR32_1, hR.obj j hj, ↓bd_gI, hR.cor j hj]
        exact Lz.go ⟨rfl, rfl, h0⟩
    · rintro x S' ⟨rfl, rfl, h0⟩ rec
      rw [Nat.sub_self] at h0
      unfold p_X1_openAt_L2
      simp (disch := first | omega | assumption) only [↓bd_rt, ↓bd_bd, ↓bd_ite, ↓bd_jn, ↓jn_ap, ↓ite_ap, ↓bd_gI1, ↓bd_pI1, ↓bd_gR1, ↓bd_pR1, ↓bd_gM, rt_ap, ↓reduceIte, iN_div, iN_divL, iN_add, iN_mul, iN_addL, iN_Ladd, iN_mulL, iN_Lmul, iN_subL, iN_sub, iN_le_T, iN_le_F, iN_lt_T, iN_lt_F, iN_eq_F, iN_leL_T, iN_leL_F, iN_Lle_T, iN_Lle_F, iN_ltL_T, iN_ltL_F, iN_Llt_T, iN_Llt_F, iN_eqL_T, iN_eqL_F, iN_m1, m1_iN, iN_le_m1, m1_le_iN, iN_neg, iN_pos, i10, i01, i00, i11, u3_op, u3_or, u3_same, pup_eq, pup_ne, hR.n]
      exact Rs.mk ⟨h0, rfl⟩
  obtain ⟨v, S', e, rfl, rfl⟩ := key
  unfold p_X1_openAt
  rw [bd_gM hφ]
  exact e
theorem sp_X3_openAt {c : CCa} (w : c.WF) {φ : amSh} {S : amSt} (hφ : φ.1 255 ≠ 0) (hR : RMca c S) {cor : Nat} (hc : cor < 20) : p_X3_openAt (iN cor) φ S = some (oW (opS c cor), S) := by
  have hn := w.hn
  have key : Rs (fun v S' => v = oW (opS c cor) ∧ S' = S) (alp (p_X3_openAt_L2 (iN cor)) amFu 0 φ S) := by
    refine alp_I (fun j x S' => x = iN j ∧ S' = S ∧ opL c cor (c.n - j) j = opS c cor) c.n (amFu_lt (by omega)) ⟨rfl, rfl, rfl⟩ ?_ ?_
    · rintro j x S' hj ⟨rfl, rfl, h0⟩ rec
      have hcj := w.cor j hj
      rw [show c.n - j = (c.n - (j + 1)) + 1 by omega] at h0
      unfold opL at h0
      unfold p_X3_openAt_L2
      by_cases c1 : c.cor j = cor
      · by_cases c2 : c.what j = 0
        · rw [if_pos ⟨c1, c2⟩] at h0
          simp (disch := first | omega | assumption) only [↓bd_rt, ↓bd_bd, ↓bd_ite, ↓bd_jn, ↓jn_ap, ↓ite_ap, ↓bd_gI1, ↓bd_pI1, ↓bd_gR1, ↓bd_pR1, ↓bd_gM, rt_ap, ↓reduceIte, iN_div, iN_divL, iN_add, iN_mul, iN_addL, iN_Ladd, iN_mulL, iN_Lmul, iN_subL, iN_sub, iN_le_T, iN_le_F, iN_lt_T, iN_lt_F, iN_eq_F, iN_leL_T, iN_leL_F, iN_Lle_T, iN_Lle_F, iN_ltL_T, iN_ltL_F, iN_Llt_T, iN_Llt_F, iN_eqL_T, iN_eqL_F, iN_m1, m1_iN, iN_le_m1, m1_le_iN, iN_neg, iN_pos, i10, i01, i00, i11, u3_op, u3_or, u3_same, pup_eq, pup_ne, hR.n, ↓rI115_1, ↓rI117_1, hR.cor j hj, hR.what j (by omega), c1, c2, if_true]
          exact Lz.ret ⟨by rw [← h0]; rfl, rfl⟩
        · rw [if_neg (fun z => c2 z.2)] at h0
          simp (disch := first | omega | assumption) only [↓bd_rt, ↓bd_bd, ↓bd_ite, ↓bd_jn, ↓jn_ap, ↓ite_ap, ↓bd_gI1, ↓bd_pI1, ↓bd_gR1, ↓bd_pR1, ↓bd_gM, rt_ap, ↓reduceIte, iN_div, iN_divL, iN_add, iN_mul, iN_addL, iN_Ladd, iN_mulL, iN_Lmul, iN_subL, iN_sub, iN_le_T, iN_le_F, iN_lt_T, iN_lt_F, iN_eq_F, iN_leL_T, iN_leL_F, iN_Lle_T, iN_Lle_F, iN_ltL_T, iN_ltL_F, iN_Llt_T, iN_Llt_F, iN_eqL_T, iN_eqL_F, iN_m1, m1_iN, iN_le_m1, m1_le_iN, iN_neg, iN_pos, i10, i01, i00, i11, u3_op, u3_or, u3_same, pup_eq, pup_ne, hR.n, ↓rI115_1, ↓rI117_1, hR.cor j hj, hR.what j (by omega), c1, if_neg c2, if_true]
          exact Lz.go ⟨rfl, rfl, h0⟩
      · rw [if_neg (fun z => c1 z.1)] at h0
        simp (disch := first | omega | assumption) only [↓bd_rt, ↓bd_bd, ↓bd_ite, ↓bd_jn, ↓jn_ap, ↓ite_ap, ↓bd_gI1, ↓bd_pI1, ↓bd_gR1, ↓bd_pR1, ↓bd_gM, rt_ap, ↓reduceIte, iN_div, iN_divL, iN_add, iN_mul, iN_addL, iN_Ladd, iN_mulL, iN_Lmul, iN_subL, iN_sub, iN_le_T, iN_le_F, iN_lt_T, iN_lt_F, iN_eq_F, iN_leL_T, iN_leL_F, iN_Lle_T, iN_Lle_F, iN_ltL_T, iN_ltL_F, iN_Llt_T, iN_Llt_F, iN_eqL_T, iN_eqL_F, iN_m1, m1_iN, iN_le_m1, m1_le_iN, iN_neg, iN_pos, i10, i01, i00, i11, u3_op, u3_or, u3_same, pup_eq, pup_ne, hR.n, ↓rI115_1, hR.cor j hj]
        exact Lz.go ⟨rfl, rfl, h0⟩
    · rintro x S' ⟨rfl, rfl, h0⟩ rec
      rw [Nat.sub_self] at h0
      unfold p_X3_openAt_L2
      simp (disch := first | omega | assumption) only [↓bd_rt, ↓bd_bd, ↓bd_ite, ↓bd_jn, ↓jn_ap, ↓ite_ap, ↓bd_gI1, ↓bd_pI1, ↓bd_gR1, ↓bd_pR1, ↓bd_gM, rt_ap, ↓reduceIte, iN_div, iN_divL, iN_add, iN_mul, iN_addL, iN_Ladd, iN_mulL, iN_Lmul, iN_subL, iN_sub, iN_le_T, iN_le_F, iN_lt_T, iN_lt_F, iN_eq_F, iN_leL_T, iN_leL_F, iN_Lle_T, iN_Lle_F, iN_ltL_T, iN_ltL_F, iN_Llt_T, iN_Llt_F, iN_eqL_T, iN_eqL_F, iN_m1, m1_iN, iN_le_m1, m1_le_iN, iN_neg, iN_pos, i10, i01, i00, i11, u3_op, u3_or, u3_same, pup_eq, pup_ne, hR.n]
      exact Rs.mk ⟨by rw [← h0]; rfl, rfl⟩
  obtain ⟨v, S', e, rfl, rfl⟩ := key
  unfold p_X3_openAt
  rw [bd_gM hφ]
  exact e
/-- open calls where something burns keep that: those below j -/
def notJ (c : CHo) (b : CBz) (ca : CCa) (j : Nat) : CCa := ca.s_bur fun k => if k < j ∧ ca.what k = 0 ∧ worS c b (ca.cor k) ≠ 0 then 1 else ca.bur k
def notS (c : CHo) (b : CBz) (ca : CCa) : CCa := notJ c b ca ca.n
theorem RCca.bur1 {ca : CCa} {φ : amSh} {S : amSt} {g g' : Nat → Int32} (hA : RCca (ca.s_bur g) φ S) {j : Nat} {v : Int32} (hg : ∀ k, k < ca.n → g' k = if k = j then v else g k) : RCca (ca.s_bur g') φ (u3 S.1 7 (j + 1) 9 v, S.2) := by
  refine RCca.mk ?_ ?_ ?_ ?_ ?_ ?_ ?_ ?_ ?_ ?_ ?_ ?_ hA.cnt
  · refine Eq.trans ?_ hA.n; simp [u3]
  · intro k hk; exact hA.obj k hk
  · intro k hk; refine Eq.trans ?_ (hA.num k hk); simp [u3]
  · intro k hk; refine Eq.trans ?_ (hA.cor k hk); simp [u3]
  · intro k hk; refine Eq.trans ?_ (hA.beg k hk); simp [u3]
  · intro k hk; refine Eq.trans ?_ (hA.word k hk); simp [u3]
  · intro k hk; refine Eq.trans ?_ (hA.what k hk); simp [u3]
  · intro k hk; refine Eq.trans ?_ (hA.ended k hk); simp [u3]
  · intro k hk; refine Eq.trans ?_ (hA.sent k hk); simp [u3]
  · intro k hk; refine Eq.trans ?_ (hA.lacks k hk); simp [u3]
  · intro k hk; refine Eq.trans ?_ (hA.times k hk); simp [u3]
  · intro k hk
    show _ = g' k
    rw [hg k hk]
    by_cases e : k = j
    · subst e; rw [if_pos rfl]; simp [u3]
    · rw [if_neg e]; refine Eq.trans ?_ (hA.bur k hk); simp [u3, e]
theorem sp_X1_notice {c : CHo} (w : c.WF) {b : CBz} {ca : CCa} (wa : ca.WF) {φ : amSh} {S : amSt} (hφ : φ.1 255 ≠ 0) (hR : RCho c φ S) (hb : RCbk b c.n false S) (hA : RCca ca φ S) :
    Rs (fun _ S' => RCca (notS c b ca) φ S') (p_X1_notice φ S) := by
  have hn := wa.hn
  unfold p_X1_notice
  rw [bd_gM hφ]
  refine bdR (Q := fun _ S' => RCca (notS c b ca) φ S') ?_ fun _ S1 h1 => Rs.mk h1
  refine alp_I (fun j x S' => x = iN j ∧ RCho c φ S' ∧ RCbk b c.n false S' ∧ RCca (notJ c b ca j) φ S') ca.n (amFu_lt (by omega)) ⟨rfl, hR, hb, ?_⟩ ?_ ?_
  · have e : notJ c b ca 0 = ca := by
      unfold notJ
      have : (fun k => if k < 0 ∧ ca.what k = 0 ∧ worS c b (ca.cor k) ≠ 0 then (1 : Int32) else ca.bur k) = ca.bur := by funext k; rw [if_neg (by omega)]
      rw [this]; rfl
    rw [e]; exact hA
  · rintro j x S1 hj ⟨rfl, hR, hb, hA⟩ rec
    have hcj := wa.cor j hj
    have hwo := sp_X1_worst w hφ hR hb hcj
    have e1 : S1.1 7 (j + 1) 1 = iN (ca.cor j) := hA.cor j hj
    have e2 : S1.1 7 (j + 1) 4 = ca.what j := hA.what j hj
    have e3 : S1.2.2 32 1 j = j + 1 := hA.obj j hj
    have e4 : S1.1 0 1 25 = iN ca.n := hA.n
    have same : ¬ (ca.what j = 0 ∧ worS c b (ca.cor j) ≠ 0) → notJ c b ca (j + 1) = notJ c b ca j := fun h => by
      unfold notJ
      have : (fun k => if k < j + 1 ∧ ca.what k = 0 ∧ worS c b (ca.cor k) ≠ 0 then (1 : Int32) else ca.bur k) = fun k => if k < j ∧ ca.what k = 0 ∧ worS c b (ca.cor k) ≠ 0 then (1 : Int32) else ca.bur k := by
        funext k
        by_cases e : k = j
        · subst e; rw [if_neg (fun z => h z.2), if_neg (fun z => h z.2)]
        · by_cases hk : k < j
          · simp [hk, show k < j + 1 by omega]
          · simp [hk, show ¬ k < j + 1 by omega]
      rw [this]
    unfold p_X1_notice_L2
    by_cases c1 : ca.what j = 0
    · by_cases c2 : worS c b (ca.cor j) = 0
      · simp (disch := first | omega | assumption) only [↓bd_rt, ↓bd_bd, ↓bd_ite, ↓bd_jn, ↓jn_ap, ↓ite_ap, ↓bd_gI1, ↓bd_pI1, ↓bd_gR1, ↓bd_pR1, ↓bd_gM, rt_ap, ↓reduceIte, iN_div, iN_divL, iN_add, iN_mul, iN_addL, iN_Ladd, iN_mulL, iN_Lmul, iN_subL, iN_sub, iN_le_T, iN_le_F, iN_lt_T, iN_lt_F, iN_eq_F, iN_leL_T, iN_leL_F, iN_Lle_T, iN_Lle_F, iN_ltL_T, iN_ltL_F, iN_Llt_T, iN_Llt_F, iN_eqL_T, iN_eqL_F, iN_m1, m1_iN, iN_le_m1, m1_le_iN, iN_neg, iN_pos, i10, i01, i00, i11, u3_op, u3_or, u3_same, pup_eq, pup_ne, e4, ↓rR32_1, e3, ↓bd_gI, e2, e1, c1, if_true, ↓bd_of hwo, c2]
        refine Lz.go ⟨rfl, hR, hb, ?_⟩
        rw [same (fun z => z.2 c2)]
        exact hA
      · simp (disch := first | omega | assumption) only [↓bd_rt, ↓bd_bd, ↓bd_ite, ↓bd_jn, ↓jn_ap, ↓ite_ap, ↓bd_gI1, ↓bd_pI1, ↓bd_gR1, ↓bd_pR1, ↓bd_gM, rt_ap, ↓reduceIte, iN_div, iN_divL, iN_add, iN_mul, iN_addL, iN_Ladd, iN_mulL, iN_Lmul, iN_subL, iN_sub, iN_le_T, iN_le_F, iN_lt_T, iN_lt_F, iN_eq_F, iN_leL_T, iN_leL_F, iN_Lle_T, iN_Lle_F, iN_ltL_T, iN_ltL_F, iN_Llt_T, iN_Llt_F, iN_eqL_T, iN_eqL_F, iN_m1, m1_iN, iN_le_m1, m1_le_iN, iN_neg, iN_pos, i10, i01, i00, i11, u3_op, u3_or, u3_same, pup_eq, pup_ne, e4, ↓rR32_1, e3, ↓bd_gI, e2, e1, c1, if_true, ↓bd_of hwo, if_neg c2, ↓bd_pI]
        have hf : FrS [8009] S1 (u3 S1.1 7 (j + 1) 9 1, S1.2) := fun p r i hk => sm_u3 fun z => hk (z ▸ kyO (by decide) (by decide))
        refine Lz.go ⟨rfl, hR.fr hf (by decide), hb.fr hf (by decide), ?_⟩
        refine RCca.bur1 (ca := ca) hA fun k hk => ?_
        by_cases e : k = j
        · subst e; rw [if_pos rfl, if_pos ⟨by omega, c1, c2⟩]
        · rw [if_neg e]
          by_cases hk2 : k < j
          · simp [hk2, show k < j + 1 by omega]
          · simp [hk2, show ¬ k < j + 1 by omega]
    · simp (disch := first | omega | assumption) only [↓bd_rt, ↓bd_bd, ↓bd_ite, ↓bd_jn, ↓jn_ap, ↓ite_ap, ↓bd_gI1, ↓bd_pI1, ↓bd_gR1, ↓bd_pR1, ↓bd_gM, rt_ap, ↓reduceIte, iN_div, iN_divL, iN_add, iN_mul, iN_addL, iN_Ladd, iN_mulL, iN_Lmul, iN_subL, iN_sub, iN_le_T, iN_le_F, iN_lt_T, iN_lt_F, iN_eq_F, iN_leL_T, iN_leL_F, iN_Lle_T, iN_Lle_F, iN_ltL_T, iN_ltL_F, iN_Llt_T, iN_Llt_F, iN_eqL_T, iN_eqL_F, iN_m1, m1_iN, iN_le_m1, m1_le_iN, iN_neg, iN_pos, i10, i01, i00, i11, u3_op, u3_or, u3_same, pup_eq, pup_ne, e4, ↓rR32_1, e3, ↓bd_gI, e2, if_neg c1]
      refine Lz.go ⟨rfl, hR, hb, ?_⟩
      rw [same (fun z => c1 z.1)]
      exact hA
  · rintro x S1 ⟨rfl, hR, hb, hA⟩ rec
    have e4 : S1.1 0 1 25 = iN ca.n := hA.n
    unfold p_X1_notice_L2
    simp (disch := first | omega | assumption) only [↓bd_rt, ↓bd_bd, ↓bd_ite, ↓bd_jn, ↓jn_ap, ↓ite_ap, ↓bd_gI1, ↓bd_pI1, ↓bd_gR1, ↓bd_pR1, ↓bd_gM, rt_ap, ↓reduceIte, iN_div, iN_divL, iN_add, iN_mul, iN_addL, iN_Ladd, iN_mulL, iN_Lmul, iN_subL, iN_sub, iN_le_T, iN_le_F, iN_lt_T, iN_lt_F, iN_eq_F, iN_leL_T, iN_leL_F, iN_Lle_T, iN_Lle_F, iN_ltL_T, iN_ltL_F, iN_Llt_T, iN_Llt_F, iN_eqL_T, iN_eqL_F, iN_m1, m1_iN, iN_le_m1, m1_le_iN, iN_neg, iN_pos, i10, i01, i00, i11, u3_op, u3_or, u3_same, pup_eq, pup_ne, e4]
    exact Rs.mk hA
/-- all that burns is kept, but at one corner perhaps -/
def kept (c : CHo) (b : CBz) (ca : CCa) (but : Nat) : Prop := ∀ k, k < ca.n → ca.what k = 0 → ca.cor k ≠ but → worS c b (ca.cor k) ≠ 0 → ca.bur k = 1
theorem sp_X3_mark {c : CHo} (w : c.WF) {b : CBz} {ca : CCa} (wa : ca.WF) {φ : amSh} {S : amSt} (hφ : φ.1 255 ≠ 0) (hR : RMho c S) (hb : RMbz b S) (hA : RMca ca S) {cor : Nat} (hc : cor < 20) (hk : kept c b ca cor) :
    Rs (fun _ S' => RMca (notS c b ca) S') (p_X3_mark (iN cor) φ S) := by
  have hn := wa.hn
  have old : ∀ {S' : amSt}, RMca ca S' → (∀ k, k < ca.n → ca.what k = 0 → ca.cor k = cor → worS c b cor ≠ 0 → ca.bur k = 1) → RMca (notS c b ca) S' := fun hA h => by
    refine RMca.mk hA.n hA.cor hA.word hA.what hA.beg hA.ended hA.sent hA.lacks hA.times ?_
    intro k hk2
    rw [hA.bur k hk2]
    show _ = if k < ca.n ∧ ca.what k = 0 ∧ worS c b (ca.cor k) ≠ 0 then (1 : Int32) else ca.bur k
    by_cases e : k < ca.n ∧ ca.what k = 0 ∧ worS c b (ca.cor k) ≠ 0
    · rw [if_pos e]
      by_cases ec : ca.cor k = cor
      · exact h k hk2 e.2.1 ec (ec ▸ e.2.2)
      · exact hk k hk2 e.2.1 ec e.2.2
    · rw [if_neg e]
  unfold p_X3_mark
  rw [bd_gM hφ, bd_of (sp_X3_openAt wa hφ hA hc)]
  rcases opS_sp ca cor with ⟨e, h⟩ | ⟨j, hj, e, h1, h2⟩
  · rw [e, oW_0, if_pos rfl, rt_ap]
    exact Rs.mk (old hA fun k hk1 hk2 hk3 _ => absurd ⟨hk3, hk2⟩ (h k hk1))
  · rw [e, oW_s]
    by_cases c2 : worS c b cor = 0
    · simp (disch := first | omega | assumption) only [↓bd_rt, ↓bd_bd, ↓bd_ite, ↓bd_jn, ↓jn_ap, ↓ite_ap, ↓bd_gI1, ↓bd_pI1, ↓bd_gR1, ↓bd_pR1, ↓bd_gM, rt_ap, ↓reduceIte, iN_div, iN_divL, iN_add, iN_mul, iN_addL, iN_Ladd, iN_mulL, iN_Lmul, iN_subL, iN_sub, iN_le_T, iN_le_F, iN_lt_T, iN_lt_F, iN_eq_F, iN_leL_T, iN_leL_F, iN_Lle_T, iN_Lle_F, iN_ltL_T, iN_ltL_F, iN_Llt_T, iN_Llt_F, iN_eqL_T, iN_eqL_F, iN_m1, m1_iN, iN_le_m1, m1_le_iN, iN_neg, iN_pos, i10, i01, i00, i11, u3_op, u3_or, u3_same, pup_eq, pup_ne, ↓bd_of (sp_X3_burnsAt w hφ hR hb hc), c2, if_true]
      exact Rs.mk (old hA fun k _ _ _ hw => absurd c2 hw)
    · simp (disch := first | omega | assumption) only [↓bd_rt, ↓bd_bd, ↓bd_ite, ↓bd_jn, ↓jn_ap, ↓ite_ap, ↓bd_gI1, ↓bd_pI1, ↓bd_gR1, ↓bd_pR1, ↓bd_gM, rt_ap, ↓reduceIte, iN_div, iN_divL, iN_add, iN_mul, iN_addL, iN_Ladd, iN_mulL, iN_Lmul, iN_subL, iN_sub, iN_le_T, iN_le_F, iN_lt_T, iN_lt_F, iN_eq_F, iN_leL_T, iN_leL_F, iN_Lle_T, iN_Lle_F, iN_ltL_T, iN_ltL_F, iN_Llt_T, iN_Llt_F, iN_eqL_T, iN_eqL_F, iN_m1, m1_iN, iN_le_m1, m1_le_iN, iN_neg, iN_pos, i10, i01, i00, i11, u3_op, u3_or, u3_same, pup_eq, pup_ne, ↓bd_of (sp_X3_burnsAt w hφ hR hb hc), if_neg c2, ↓wI123_1]
      refine Rs.mk ?_
      refine RMca.mk ?_ ?_ ?_ ?_ ?_ ?_ ?_ ?_ ?_ ?_
      · refine Eq.trans ?_ hA.n; simp [u3]
      · intro k hk; refine Eq.trans ?_ (hA.cor k hk); simp [u3]
      · intro k hk; refine Eq.trans ?_ (hA.word k hk); simp [u3]
      · intro k hk; refine Eq.trans ?_ (hA.what k hk); simp [u3]
      · intro k hk; refine Eq.trans ?_ (hA.beg k hk); simp [u3]
      · intro k hk; refine Eq.trans ?_ (hA.ended k hk); simp [u3]
      · intro k hk; refine Eq.trans ?_ (hA.sent k hk); simp [u3]
      · intro k hk; refine Eq.trans ?_ (hA.lacks k hk); simp [u3]
      · intro k hk; refine Eq.trans ?_ (hA.times k hk); simp [u3]
      · intro k hk2
        show _ = if k < ca.n ∧ ca.what k = 0 ∧ worS c b (ca.cor k) ≠ 0 then (1 : Int32) else ca.bur k
        have hk3 : k < ca.n := hk2
        by_cases ek : k = j
        · subst ek; rw [if_pos ⟨hk3, h2, by rw [h1]; exact c2⟩]; simp [u3]
        · refine Eq.trans (b := S.1 123 1 k) (by simp [u3, ek]) ?_
          rw [hA.bur k hk3]
          by_cases e : k < ca.n ∧ ca.what k = 0 ∧ worS c b (ca.cor k) ≠ 0
          · rw [if_pos e]
            by_cases ec : ca.cor k = cor
            · exact absurd (wa.uniq k j hk3 hj e.2.1 h2 (ec.trans h1.symm)) ek
            · exact hk k hk3 e.2.1 ec e.2.2
          · rw [if_neg e]
