/-! PURE: a new house in the component -/
/-- behind the first j arrays of blaze n + 1 -/
def AB (n j : Nat) (φ0 : amSh) (S0 : amSt) (φ : amSh) (S : amSt) : Prop := (∀ q, φ.1 q = if 145 ≤ q ∧ q < 145 + j then n + 1 else φ0.1 q) ∧ (φ.2.1 4 (n + 1) = j) ∧ (∀ q i, ¬ (q = 4 ∧ i = n + 1) → ¬ (145 ≤ q ∧ q < 145 + j ∧ i = n + 1) → φ.2.1 q i = φ0.2.1 q i) ∧ (∀ q i, ¬ (145 ≤ q ∧ q < 145 + j ∧ i = n + 1) → φ.2.2 q i = φ0.2.2 q i) ∧ (∀ q i j', ¬ (145 ≤ q ∧ q < 145 + j ∧ i = n + 1) → S.1 q i j' = S0.1 q i j') ∧ (∀ q i j', ¬ (145 ≤ q ∧ q < 145 + j ∧ i = n + 1) → S.2.2 q i j' = S0.2.2 q i j') ∧ (∀ q i j', ¬ (145 ≤ q ∧ q < 145 + j ∧ i = n + 1) → S.2.1 q i j' = S0.2.1 q i j') ∧ (∀ q k, 145 ≤ q → q < 145 + j → S.1 q (n + 1) k = 0)
theorem AB.c {n j : Nat} {φ0 : amSh} {S0 : amSt} {φ : amSh} {S : amSt} (hx_ : AB n j φ0 S0 φ S) : ∀ q, φ.1 q = if 145 ≤ q ∧ q < 145 + j then n + 1 else φ0.1 q := And.left hx_
theorem AB.s4 {n j : Nat} {φ0 : amSh} {S0 : amSt} {φ : amSh} {S : amSt} (hx_ : AB n j φ0 S0 φ S) : φ.2.1 4 (n + 1) = j := And.left (And.right hx_)
theorem AB.s {n j : Nat} {φ0 : amSh} {S0 : amSt} {φ : amSh} {S : amSt} (hx_ : AB n j φ0 S0 φ S) : ∀ q i, ¬ (q = 4 ∧ i = n + 1) → ¬ (145 ≤ q ∧ q < 145 + j ∧ i = n + 1) → φ.2.1 q i = φ0.2.1 q i := And.left (And.right (And.right hx_))
theorem AB.k {n j : Nat} {φ0 : amSh} {S0 : amSt} {φ : amSh} {S : amSt} (hx_ : AB n j φ0 S0 φ S) : ∀ q i, ¬ (145 ≤ q ∧ q < 145 + j ∧ i = n + 1) → φ.2.2 q i = φ0.2.2 q i := And.left (And.right (And.right (And.right hx_)))
theorem AB.o1 {n j : Nat} {φ0 : amSh} {S0 : amSt} {φ : amSh} {S : amSt} (hx_ : AB n j φ0 S0 φ S) : ∀ q i j', ¬ (145 ≤ q ∧ q < 145 + j ∧ i = n + 1) → S.1 q i j' = S0.1 q i j' := And.left (And.right (And.right (And.right (And.right hx_))))
theorem AB.o2 {n j : Nat} {φ0 : amSh} {S0 : amSt} {φ : amSh} {S : amSt} (hx_ : AB n j φ0 S0 φ S) : ∀ q i j', ¬ (145 ≤ q ∧ q < 145 + j ∧ i = n + 1) → S.2.2 q i j' = S0.2.2 q i j' := And.left (And.right (And.right (And.right (And.right (And.right hx_)))))
theorem AB.o3 {n j : Nat} {φ0 : amSh} {S0 : amSt} {φ : amSh} {S : amSt} (hx_ : AB n j φ0 S0 φ S) : ∀ q i j', ¬ (145 ≤ q ∧ q < 145 + j ∧ i = n + 1) → S.2.1 q i j' = S0.2.1 q i j' := And.left (And.right (And.right (And.right (And.right (And.right (And.right hx_))))))
theorem AB.z {n j : Nat} {φ0 : amSh} {S0 : amSt} {φ : amSh} {S : amSt} (hx_ : AB n j φ0 S0 φ S) : ∀ q k, 145 ≤ q → q < 145 + j → S.1 q (n + 1) k = 0 := (And.right (And.right (And.right (And.right (And.right (And.right (And.right hx_)))))))
theorem AB.mk {n j : Nat} {φ0 : amSh} {S0 : amSt} {φ : amSh} {S : amSt} (h_c : ∀ q, φ.1 q = if 145 ≤ q ∧ q < 145 + j then n + 1 else φ0.1 q) (h_s4 : φ.2.1 4 (n + 1) = j) (h_s : ∀ q i, ¬ (q = 4 ∧ i = n + 1) → ¬ (145 ≤ q ∧ q < 145 + j ∧ i = n + 1) → φ.2.1 q i = φ0.2.1 q i) (h_k : ∀ q i, ¬ (145 ≤ q ∧ q < 145 + j ∧ i = n + 1) → φ.2.2 q i = φ0.2.2 q i) (h_o1 : ∀ q i j', ¬ (145 ≤ q ∧ q < 145 + j ∧ i = n + 1) → S.1 q i j' = S0.1 q i j') (h_o2 : ∀ q i j', ¬ (145 ≤ q ∧ q < 145 + j ∧ i = n + 1) → S.2.2 q i j' = S0.2.2 q i j') (h_o3 : ∀ q i j', ¬ (145 ≤ q ∧ q < 145 + j ∧ i = n + 1) → S.2.1 q i j' = S0.2.1 q i j') (h_z : ∀ q k, 145 ≤ q → q < 145 + j → S.1 q (n + 1) k = 0) : AB n j φ0 S0 φ S := And.intro h_c (And.intro h_s4 (And.intro h_s (And.intro h_k (And.intro h_o1 (And.intro h_o2 (And.intro h_o3 (h_z)))))))
theorem AB.step {β : Type} {n j L : Nat} {φ0 φ : amSh} {S0 S : amSt} (h : AB n j φ0 S0 φ S) (hc : ∀ q, 145 ≤ q → q ≤ 151 → φ0.1 q = n) (hj : j < 7) (hL : am_pl (145 + j) (n + 1) = L) {K N K' N' : Nat} (hK : 1 + K' ≤ K) (hN : L + N' ≤ N) {Q : β → amSh → amSt → Prop} {g : Unit → am1 β}
    (hg : ∀ φ1 S1, AB n (j + 1) φ0 S0 φ1 S1 → Rs1 K' N' Q (g () φ1 S1)) : Rs1 K N Q (bd1 (nwA (145 + j) (iN L)) (fun r2 => bd1 (pC 4 (n + 1) j (n + 1) r2) g) φ S) := by
  have hcnt : φ.1 (145 + j) = n := by rw [h.c, if_neg (by omega)]; exact hc _ (by omega) (by omega)
  rw [b1_nwA (by rw [hcnt]; exact hL), hcnt, b1_pC (φ := nφ φ (145 + j) 0) (by omega) (by rw [nφ_2 (by omega)]; exact h.s4) rfl]
  refine (hg _ _ ?_).acm hK hN
  refine AB.mk ?_ ?_ ?_ ?_ ?_ ?_ ?_ ?_
  · intro q
    show (if q = 145 + j then φ.1 (145 + j) + 1 else φ.1 q) = _
    by_cases e : q = 145 + j
    · rw [if_pos e, if_pos (by omega), hcnt]
    · rw [if_neg e, h.c]
      by_cases e2 : 145 ≤ q ∧ q < 145 + j
      · rw [if_pos e2, if_pos (by omega)]
      · rw [if_neg e2, if_neg (by omega)]
  · show u2 (nφ φ (145 + j) 0).2.1 4 (n + 1) (j + 1) 4 (n + 1) = j + 1
    rw [u2_eq]
  · intro q i h1 h2
    show u2 (nφ φ (145 + j) 0).2.1 4 (n + 1) (j + 1) q i = _
    have : ¬ (q = 4 ∧ i = n + 1) := h1
    unfold u2
    rw [if_neg this, nφ_so (by rw [hcnt]; omega)]
    exact h.s q i h1 (by omega)
  · intro q i h1
    show (nφ φ (145 + j) 0).2.2 q i = _
    rw [nφ_co (by rw [hcnt]; omega)]
    exact h.k q i (by omega)
  · intro q i j' h1
    rw [(nS_o (φ := φ) (S := S) (p := 145 + j) (q := q) (r := i) (by rw [hcnt]; omega)).1]
    exact h.o1 q i j' (by omega)
  · intro q i j' h1
    rw [(nS_o (φ := φ) (S := S) (p := 145 + j) (q := q) (r := i) (by rw [hcnt]; omega)).2.1]
    exact h.o2 q i j' (by omega)
  · intro q i j' h1
    rw [(nS_o (φ := φ) (S := S) (p := 145 + j) (q := q) (r := i) (by rw [hcnt]; omega)).2.2]
    exact h.o3 q i j' (by omega)
  · intro q k h1 h2
    by_cases e : q = 145 + j
    · subst e; exact nS_i0 hcnt
    · rw [(nS_o (φ := φ) (S := S) (p := 145 + j) (q := q) (r := n + 1) (Or.inl e)).1]
      exact h.z q k h1 (by omega)
theorem sp_X6_init {n : Nat} {φ : amSh} {S : amSt} (hc : ∀ q, 145 ≤ q → q ≤ 151 → φ.1 q = n) (hs : φ.2.1 4 (n + 1) = 0) : Rs1 7 132 (fun _ φ1 S1 => AB n 7 φ S φ1 S1) (p_X6_init (n + 1) φ S) := by
  have h0 : AB n 0 φ S φ S := AB.mk (fun q => by rw [if_neg (by omega)]) hs (fun _ _ _ _ => rfl) (fun _ _ _ => rfl) (fun _ _ _ _ => rfl) (fun _ _ _ _ => rfl) (fun _ _ _ _ => rfl) (fun q k h1 h2 => by omega)
  unfold p_X6_init
  rw [b1_nn (by omega)]
  refine h0.step hc (by decide) (L := 24) rfl (K' := 6) (N' := 108) (by decide) (by decide) fun φ1 S1 h1 => ?_
  refine h1.step hc (by decide) (L := 24) rfl (K' := 5) (N' := 84) (by decide) (by decide) fun φ2 S2 h2 => ?_
  refine h2.step hc (by decide) (L := 24) rfl (K' := 4) (N' := 60) (by decide) (by decide) fun φ3 S3 h3 => ?_
  refine h3.step hc (by decide) (L := 6) rfl (K' := 3) (N' := 54) (by decide) (by decide) fun φ4 S4 h4 => ?_
  refine h4.step hc (by decide) (L := 6) rfl (K' := 2) (N' := 48) (by decide) (by decide) fun φ5 S5 h5 => ?_
  refine h5.step hc (by decide) (L := 24) rfl (K' := 1) (N' := 24) (by decide) (by decide) fun φ6 S6 h6 => ?_
  refine h6.step hc (by decide) (L := 24) rfl (K' := 0) (N' := 0) (by decide) (by decide) fun φ7 S7 h7 => ?_
  exact Rs1.mk (by decide) (by decide) h7
/-- behind the making of house n + 1, not yet in its row -/
def NH (n : Nat) (cor fl wd : Nat) (kind sh : Int32) (φ0 : amSh) (S0 : amSt) (φ : amSh) (S : amSt) : Prop := (∀ q, φ.1 q = if q = 3 ∨ q = 143 ∨ q = 144 then n + 1 else if q = 4 ∨ (145 ≤ q ∧ q ≤ 151) then 2 * n + 2 else φ0.1 q) ∧ (φ.2.1 3 (n + 1) = 4) ∧ (φ.2.1 4 (2 * n + 1) = 7 ∧ φ.2.1 4 (2 * n + 2) = 7) ∧ (∀ q i, i ≤ φ0.1 q → φ.2.1 q i = φ0.2.1 q i) ∧ (∀ q i, i ≤ φ0.1 q → φ.2.2 q i = φ0.2.2 q i) ∧ (∀ q i j, i ≤ φ0.1 q → S.1 q i j = S0.1 q i j) ∧ (∀ q i j, i ≤ φ0.1 q → S.2.2 q i j = S0.2.2 q i j) ∧ (∀ q i j, i ≤ φ0.1 q → S.2.1 q i j = S0.2.1 q i j) ∧ (∀ q k, 145 ≤ q → q ≤ 151 → S.1 q (2 * n + 1) k = 0 ∧ S.1 q (2 * n + 2) k = 0) ∧ (∀ k, S.1 143 (n + 1) k = 0 ∧ S.1 144 (n + 1) k = 0) ∧ (S.1 3 (n + 1) 0 = iN cor ∧ S.1 3 (n + 1) 1 = kind ∧ S.1 3 (n + 1) 2 = iN fl ∧ S.1 3 (n + 1) 3 = iN wd ∧ S.1 3 (n + 1) 4 = sh ∧ S.1 3 (n + 1) 7 = 1) ∧ (∀ j, j = 5 ∨ j = 6 ∨ (8 ≤ j ∧ j ≤ 11) → S.1 3 (n + 1) j = 0)
theorem NH.c {n : Nat} {cor fl wd : Nat} {kind sh : Int32} {φ0 : amSh} {S0 : amSt} {φ : amSh} {S : amSt} (hx_ : NH n cor fl wd kind sh φ0 S0 φ S) : ∀ q, φ.1 q = if q = 3 ∨ q = 143 ∨ q = 144 then n + 1 else if q = 4 ∨ (145 ≤ q ∧ q ≤ 151) then 2 * n + 2 else φ0.1 q := And.left hx_
theorem NH.s3 {n : Nat} {cor fl wd : Nat} {kind sh : Int32} {φ0 : amSh} {S0 : amSt} {φ : amSh} {S : amSt} (hx_ : NH n cor fl wd kind sh φ0 S0 φ S) : φ.2.1 3 (n + 1) = 4 := And.left (And.right hx_)
theorem NH.s4 {n : Nat} {cor fl wd : Nat} {kind sh : Int32} {φ0 : amSh} {S0 : amSt} {φ : amSh} {S : amSt} (hx_ : NH n cor fl wd kind sh φ0 S0 φ S) : φ.2.1 4 (2 * n + 1) = 7 ∧ φ.2.1 4 (2 * n + 2) = 7 := And.left (And.right (And.right hx_))
theorem NH.s {n : Nat} {cor fl wd : Nat} {kind sh : Int32} {φ0 : amSh} {S0 : amSt} {φ : amSh} {S : amSt} (hx_ : NH n cor fl wd kind sh φ0 S0 φ S) : ∀ q i, i ≤ φ0.1 q → φ.2.1 q i = φ0.2.1 q i := And.left (And.right (And.right (And.right hx_)))
theorem NH.k {n : Nat} {cor fl wd : Nat} {kind sh : Int32} {φ0 : amSh} {S0 : amSt} {φ : amSh} {S : amSt} (hx_ : NH n cor fl wd kind sh φ0 S0 φ S) : ∀ q i, i ≤ φ0.1 q → φ.2.2 q i = φ0.2.2 q i := And.left (And.right (And.right (And.right (And.right hx_))))
theorem NH.o1 {n : Nat} {cor fl wd : Nat} {kind sh : Int32} {φ0 : amSh} {S0 : amSt} {φ : amSh} {S : amSt} (hx_ : NH n cor fl wd kind sh φ0 S0 φ S) : ∀ q i j, i ≤ φ0.1 q → S.1 q i j = S0.1 q i j := And.left (And.right (And.right (And.right (And.right (And.right hx_)))))
theorem NH.o2 {n : Nat} {cor fl wd : Nat} {kind sh : Int32} {φ0 : amSh} {S0 : amSt} {φ : amSh} {S : amSt} (hx_ : NH n cor fl wd kind sh φ0 S0 φ S) : ∀ q i j, i ≤ φ0.1 q → S.2.2 q i j = S0.2.2 q i j := And.left (And.right (And.right (And.right (And.right (And.right (And.right hx_))))))
theorem NH.o3 {n : Nat} {cor fl wd : Nat} {kind sh : Int32} {φ0 : amSh} {S0 : amSt} {φ : amSh} {S : amSt} (hx_ : NH n cor fl wd kind sh φ0 S0 φ S) : ∀ q i j, i ≤ φ0.1 q → S.2.1 q i j = S0.2.1 q i j := And.left (And.right (And.right (And.right (And.right (And.right (And.right (And.right hx_)))))))
theorem NH.z1 {n : Nat} {cor fl wd : Nat} {kind sh : Int32} {φ0 : amSh} {S0 : amSt} {φ : amSh} {S : amSt} (hx_ : NH n cor fl wd kind sh φ0 S0 φ S) : ∀ q k, 145 ≤ q → q ≤ 151 → S.1 q (2 * n + 1) k = 0 ∧ S.1 q (2 * n + 2) k = 0 := And.left (And.right (And.right (And.right (And.right (And.right (And.right (And.right (And.right hx_))))))))
theorem NH.z2 {n : Nat} {cor fl wd : Nat} {kind sh : Int32} {φ0 : amSh} {S0 : amSt} {φ : amSh} {S : amSt} (hx_ : NH n cor fl wd kind sh φ0 S0 φ S) : ∀ k, S.1 143 (n + 1) k = 0 ∧ S.1 144 (n + 1) k = 0 := And.left (And.right (And.right (And.right (And.right (And.right (And.right (And.right (And.right (And.right hx_)))))))))
theorem NH.f {n : Nat} {cor fl wd : Nat} {kind sh : Int32} {φ0 : amSh} {S0 : amSt} {φ : amSh} {S : amSt} (hx_ : NH n cor fl wd kind sh φ0 S0 φ S) : S.1 3 (n + 1) 0 = iN cor ∧ S.1 3 (n + 1) 1 = kind ∧ S.1 3 (n + 1) 2 = iN fl ∧ S.1 3 (n + 1) 3 = iN wd ∧ S.1 3 (n + 1) 4 = sh ∧ S.1 3 (n + 1) 7 = 1 := And.left (And.right (And.right (And.right (And.right (And.right (And.right (And.right (And.right (And.right (And.right hx_))))))))))
theorem NH.f0 {n : Nat} {cor fl wd : Nat} {kind sh : Int32} {φ0 : amSh} {S0 : amSt} {φ : amSh} {S : amSt} (hx_ : NH n cor fl wd kind sh φ0 S0 φ S) : ∀ j, j = 5 ∨ j = 6 ∨ (8 ≤ j ∧ j ≤ 11) → S.1 3 (n + 1) j = 0 := (And.right (And.right (And.right (And.right (And.right (And.right (And.right (And.right (And.right (And.right (And.right hx_)))))))))))
theorem NH.mk {n : Nat} {cor fl wd : Nat} {kind sh : Int32} {φ0 : amSh} {S0 : amSt} {φ : amSh} {S : amSt} (h_c : ∀ q, φ.1 q = if q = 3 ∨ q = 143 ∨ q = 144 then n + 1 else if q = 4 ∨ (145 ≤ q ∧ q ≤ 151) then 2 * n + 2 else φ0.1 q) (h_s3 : φ.2.1 3 (n + 1) = 4) (h_s4 : φ.2.1 4 (2 * n + 1) = 7 ∧ φ.2.1 4 (2 * n + 2) = 7) (h_s : ∀ q i, i ≤ φ0.1 q → φ.2.1 q i = φ0.2.1 q i) (h_k : ∀ q i, i ≤ φ0.1 q → φ.2.2 q i = φ0.2.2 q i) (h_o1 : ∀ q i j, i ≤ φ0.1 q → S.1 q i j = S0.1 q i j) (h_o2 : ∀ q i j, i ≤ φ0.1 q → S.2.2 q i j = S0.2.2 q i j) (h_o3 : ∀ q i j, i ≤ φ0.1 q → S.2.1 q i j = S0.2.1 q i j) (h_z1 : ∀ q k, 145 ≤ q → q ≤ 151 → S.1 q (2 * n + 1) k = 0 ∧ S.1 q (2 * n + 2) k = 0) (h_z2 : ∀ k, S.1 143 (n + 1) k = 0 ∧ S.1 144 (n + 1) k = 0) (h_f : S.1 3 (n + 1) 0 = iN cor ∧ S.1 3 (n + 1) 1 = kind ∧ S.1 3 (n + 1) 2 = iN fl ∧ S.1 3 (n + 1) 3 = iN wd ∧ S.1 3 (n + 1) 4 = sh ∧ S.1 3 (n + 1) 7 = 1) (h_f0 : ∀ j, j = 5 ∨ j = 6 ∨ (8 ≤ j ∧ j ≤ 11) → S.1 3 (n + 1) j = 0) : NH n cor fl wd kind sh φ0 S0 φ S := And.intro h_c (And.intro h_s3 (And.intro h_s4 (And.intro h_s (And.intro h_k (And.intro h_o1 (And.intro h_o2 (And.intro h_o3 (And.intro h_z1 (And.intro h_z2 (And.intro h_f (h_f0)))))))))))
theorem sp_X5_init {n : Nat} {cor fl wd : Nat} {kind sh : Int32} {φ : amSh} {S : amSt} (hc3 : φ.1 3 = n) (hc143 : φ.1 143 = n) (hc144 : φ.1 144 = n) (hc4 : φ.1 4 = 2 * n) (hcb : ∀ q, 145 ≤ q → q ≤ 151 → φ.1 q = 2 * n) :
    Rs1 18 290 (fun _ φ1 S1 => NH n cor fl wd kind sh φ S φ1 S1) (p_X5_init (n + 1) (iN cor) kind (iN fl) (iN wd) sh (nφ φ 3 3) (nS φ S 3)) := by
  unfold p_X5_init
  rw [b1_nn (by omega), b1_pI (by omega)]
  have a143 : (nφ φ 3 3).1 143 = n := by simp (disch := first | omega | assumption) only [↓b1_rt, ↓b1_rt1, ↓b1_up_bd, ↓b1_b1, ↓b1_ite, ↓b1_up_ite, ↓b1_jn, ↓jn1_ap, ↓ite1_ap, ↓b1_gI1, ↓b1_pI1, ↓b1_gR1, ↓b1_pR1, ↓b1_gM, rt1_ap, ↓reduceIte, iN_div, iN_divL, iN_add, iN_mul, iN_addL, iN_Ladd, iN_mulL, iN_Lmul, iN_subL, iN_sub, iN_le_T, iN_le_F, iN_lt_T, iN_lt_F, iN_eq_F, iN_leL_T, iN_leL_F, iN_Lle_T, iN_Lle_F, iN_ltL_T, iN_ltL_F, iN_Llt_T, iN_Llt_F, iN_eqL_T, iN_eqL_F, iN_m1, m1_iN, iN_le_m1, m1_le_iN, iN_neg, iN_pos, i10, i01, i00, i11, u3_op, u3_or, u3_same, pup_eq, pup_ne, nS_i, nS_r, nS_d, nS_ir, nS_rr, nS_i0, nS_r0, nφ_1, nφ_11, nφ_2, nφ_3, nφ_2r, nφ_3r, nφ_20, nφ_30, u2_op, u2_or, u2_eq, hc143]
  have a3 : (nφ φ 3 3).2.1 3 (n + 1) = 0 := by simp (disch := first | omega | assumption) only [↓b1_rt, ↓b1_rt1, ↓b1_up_bd, ↓b1_b1, ↓b1_ite, ↓b1_up_ite, ↓b1_jn, ↓jn1_ap, ↓ite1_ap, ↓b1_gI1, ↓b1_pI1, ↓b1_gR1, ↓b1_pR1, ↓b1_gM, rt1_ap, ↓reduceIte, iN_div, iN_divL, iN_add, iN_mul, iN_addL, iN_Ladd, iN_mulL, iN_Lmul, iN_subL, iN_sub, iN_le_T, iN_le_F, iN_lt_T, iN_lt_F, iN_eq_F, iN_leL_T, iN_leL_F, iN_Lle_T, iN_Lle_F, iN_ltL_T, iN_ltL_F, iN_Llt_T, iN_Llt_F, iN_eqL_T, iN_eqL_F, iN_m1, m1_iN, iN_le_m1, m1_le_iN, iN_neg, iN_pos, i10, i01, i00, i11, u3_op, u3_or, u3_same, pup_eq, pup_ne, nS_i, nS_r, nS_d, nS_ir, nS_rr, nS_i0, nS_r0, nφ_1, nφ_11, nφ_2, nφ_3, nφ_2r, nφ_3r, nφ_20, nφ_30, u2_op, u2_or, u2_eq]
  rw [show (6 : Int32) = iN 6 from rfl, b1_nwA (show am_pl 143 ((nφ φ 3 3).1 143 + 1) = 6 from rfl), a143]
  refine Rs1.acm (K' := 17) (N' := 284) ?_ (by decide) (by decide)
  rw [b1_pC (by omega) (by simp (disch := first | omega | assumption) only [↓b1_rt, ↓b1_rt1, ↓b1_up_bd, ↓b1_b1, ↓b1_ite, ↓b1_up_ite, ↓b1_jn, ↓jn1_ap, ↓ite1_ap, ↓b1_gI1, ↓b1_pI1, ↓b1_gR1, ↓b1_pR1, ↓b1_gM, rt1_ap, ↓reduceIte, iN_div, iN_divL, iN_add, iN_mul, iN_addL, iN_Ladd, iN_mulL, iN_Lmul, iN_subL, iN_sub, iN_le_T, iN_le_F, iN_lt_T, iN_lt_F, iN_eq_F, iN_leL_T, iN_leL_F, iN_Lle_T, iN_Lle_F, iN_ltL_T, iN_ltL_F, iN_Llt_T, iN_Llt_F, iN_eqL_T, iN_eqL_F, iN_m1, m1_iN, iN_le_m1, m1_le_iN, iN_neg, iN_pos, i10, i01, i00, i11, u3_op, u3_or, u3_same, pup_eq, pup_ne, nS_i, nS_r, nS_d, nS_ir, nS_rr, nS_i0, nS_r0, nφ_1, nφ_11, nφ_2, nφ_3, nφ_2r, nφ_3r, nφ_20, nφ_30, u2_op, u2_or, u2_eq]) rfl]
  generalize hφb : ((nφ (nφ φ 3 3) 143 0).1, u2 (nφ (nφ φ 3 3) 143 0).2.1 3 (n + 1) (0 + 1), (nφ (nφ φ 3 3) 143 0).2.2) = φb
  generalize hSb : nS (nφ φ 3 3) (u3 (nS φ S 3).1 3 (n + 1) 7 1, (nS φ S 3).2) 143 = Sb
  have b144 : φb.1 144 = n := by rw [← hφb]; simp (disch := first | omega | assumption) only [↓b1_rt, ↓b1_rt1, ↓b1_up_bd, ↓b1_b1, ↓b1_ite, ↓b1_up_ite, ↓b1_jn, ↓jn1_ap, ↓ite1_ap, ↓b1_gI1, ↓b1_pI1, ↓b1_gR1, ↓b1_pR1, ↓b1_gM, rt1_ap, ↓reduceIte, iN_div, iN_divL, iN_add, iN_mul, iN_addL, iN_Ladd, iN_mulL, iN_Lmul, iN_subL, iN_sub, iN_le_T, iN_le_F, iN_lt_T, iN_lt_F, iN_eq_F, iN_leL_T, iN_leL_F, iN_Lle_T, iN_Lle_F, iN_ltL_T, iN_ltL_F, iN_Llt_T, iN_Llt_F, iN_eqL_T, iN_eqL_F, iN_m1, m1_iN, iN_le_m1, m1_le_iN, iN_neg, iN_pos, i10, i01, i00, i11, u3_op, u3_or, u3_same, pup_eq, pup_ne, nS_i, nS_r, nS_d, nS_ir, nS_rr, nS_i0, nS_r0, nφ_1, nφ_11, nφ_2, nφ_3, nφ_2r, nφ_3r, nφ_20, nφ_30, u2_op, u2_or, u2_eq, hc144]
  have b3 : φb.2.1 3 (n + 1) = 1 := by rw [← hφb]; simp (disch := first | omega | assumption) only [↓b1_rt, ↓b1_rt1, ↓b1_up_bd, ↓b1_b1, ↓b1_ite, ↓b1_up_ite, ↓b1_jn, ↓jn1_ap, ↓ite1_ap, ↓b1_gI1, ↓b1_pI1, ↓b1_gR1, ↓b1_pR1, ↓b1_gM, rt1_ap, ↓reduceIte, iN_div, iN_divL, iN_add, iN_mul, iN_addL, iN_Ladd, iN_mulL, iN_Lmul, iN_subL, iN_sub, iN_le_T, iN_le_F, iN_lt_T, iN_lt_F, iN_eq_F, iN_leL_T, iN_leL_F, iN_Lle_T, iN_Lle_F, iN_ltL_T, iN_ltL_F, iN_Llt_T, iN_Llt_F, iN_eqL_T, iN_eqL_F, iN_m1, m1_iN, iN_le_m1, m1_le_iN, iN_neg, iN_pos, i10, i01, i00, i11, u3_op, u3_or, u3_same, pup_eq, pup_ne, nS_i, nS_r, nS_d, nS_ir, nS_rr, nS_i0, nS_r0, nφ_1, nφ_11, nφ_2, nφ_3, nφ_2r, nφ_3r, nφ_20, nφ_30, u2_op, u2_or, u2_eq]
  rw [b1_nwA (show am_pl 144 (φb.1 144 + 1) = 6 from rfl), b144]
  refine Rs1.acm (K' := 16) (N' := 278) ?_ (by decide) (by decide)
  rw [b1_pC (by omega) (by simp (disch := first | omega | assumption) only [↓b1_rt, ↓b1_rt1, ↓b1_up_bd, ↓b1_b1, ↓b1_ite, ↓b1_up_ite, ↓b1_jn, ↓jn1_ap, ↓ite1_ap, ↓b1_gI1, ↓b1_pI1, ↓b1_gR1, ↓b1_pR1, ↓b1_gM, rt1_ap, ↓reduceIte, iN_div, iN_divL, iN_add, iN_mul, iN_addL, iN_Ladd, iN_mulL, iN_Lmul, iN_subL, iN_sub, iN_le_T, iN_le_F, iN_lt_T, iN_lt_F, iN_eq_F, iN_leL_T, iN_leL_F, iN_Lle_T, iN_Lle_F, iN_ltL_T, iN_ltL_F, iN_Llt_T, iN_Llt_F, iN_eqL_T, iN_eqL_F, iN_m1, m1_iN, iN_le_m1, m1_le_iN, iN_neg, iN_pos, i10, i01, i00, i11, u3_op, u3_or, u3_same, pup_eq, pup_ne, nS_i, nS_r, nS_d, nS_ir, nS_rr, nS_i0, nS_r0, nφ_1, nφ_11, nφ_2, nφ_3, nφ_2r, nφ_3r, nφ_20, nφ_30, u2_op, u2_or, u2_eq, b3]) rfl]
  generalize hφc : ((nφ φb 144 0).1, u2 (nφ φb 144 0).2.1 3 (n + 1) (1 + 1), (nφ φb 144 0).2.2) = φc
  generalize hSc : nS φb Sb 144 = Sc
  have c4 : φc.1 4 = 2 * n := by rw [← hφc, ← hφb]; simp (disch := first | omega | assumption) only [↓b1_rt, ↓b1_rt1, ↓b1_up_bd, ↓b1_b1, ↓b1_ite, ↓b1_up_ite, ↓b1_jn, ↓jn1_ap, ↓ite1_ap, ↓b1_gI1, ↓b1_pI1, ↓b1_gR1, ↓b1_pR1, ↓b1_gM, rt1_ap, ↓reduceIte, iN_div, iN_divL, iN_add, iN_mul, iN_addL, iN_Ladd, iN_mulL, iN_Lmul, iN_subL, iN_sub, iN_le_T, iN_le_F, iN_lt_T, iN_lt_F, iN_eq_F, iN_leL_T, iN_leL_F, iN_Lle_T, iN_Lle_F, iN_ltL_T, iN_ltL_F, iN_Llt_T, iN_Llt_F, iN_eqL_T, iN_eqL_F, iN_m1, m1_iN, iN_le_m1, m1_le_iN, iN_neg, iN_pos, i10, i01, i00, i11, u3_op, u3_or, u3_same, pup_eq, pup_ne, nS_i, nS_r, nS_d, nS_ir, nS_rr, nS_i0, nS_r0, nφ_1, nφ_11, nφ_2, nφ_3, nφ_2r, nφ_3r, nφ_20, nφ_30, u2_op, u2_or, u2_eq, hc4]
  have cb : ∀ q, 145 ≤ q → q ≤ 151 → φc.1 q = 2 * n := by
    intro q h1 h2; rw [← hφc, ← hφb]; simp (disch := first | omega | assumption) only [↓b1_rt, ↓b1_rt1, ↓b1_up_bd, ↓b1_b1, ↓b1_ite, ↓b1_up_ite, ↓b1_jn, ↓jn1_ap, ↓ite1_ap, ↓b1_gI1, ↓b1_pI1, ↓b1_gR1, ↓b1_pR1, ↓b1_gM, rt1_ap, ↓reduceIte, iN_div, iN_divL, iN_add, iN_mul, iN_addL, iN_Ladd, iN_mulL, iN_Lmul, iN_subL, iN_sub, iN_le_T, iN_le_F, iN_lt_T, iN_lt_F, iN_eq_F, iN_leL_T, iN_leL_F, iN_Lle_T, iN_Lle_F, iN_ltL_T, iN_ltL_F, iN_Llt_T, iN_Llt_F, iN_eqL_T, iN_eqL_F, iN_m1, m1_iN, iN_le_m1, m1_le_iN, iN_neg, iN_pos, i10, i01, i00, i11, u3_op, u3_or, u3_same, pup_eq, pup_ne, nS_i, nS_r, nS_d, nS_ir, nS_rr, nS_i0, nS_r0, nφ_1, nφ_11, nφ_2, nφ_3, nφ_2r, nφ_3r, nφ_20, nφ_30, u2_op, u2_or, u2_eq]; exact hcb q h1 h2
  have c3 : φc.2.1 3 (n + 1) = 2 := by rw [← hφc]; simp (disch := first | omega | assumption) only [↓b1_rt, ↓b1_rt1, ↓b1_up_bd, ↓b1_b1, ↓b1_ite, ↓b1_up_ite, ↓b1_jn, ↓jn1_ap, ↓ite1_ap, ↓b1_gI1, ↓b1_pI1, ↓b1_gR1, ↓b1_pR1, ↓b1_gM, rt1_ap, ↓reduceIte, iN_div, iN_divL, iN_add, iN_mul, iN_addL, iN_Ladd, iN_mulL, iN_Lmul, iN_subL, iN_sub, iN_le_T, iN_le_F, iN_lt_T, iN_lt_F, iN_eq_F, iN_leL_T, iN_leL_F, iN_Lle_T, iN_Lle_F, iN_ltL_T, iN_ltL_F, iN_Llt_T, iN_Llt_F, iN_eqL_T, iN_eqL_F, iN_m1, m1_iN, iN_le_m1, m1_le_iN, iN_neg, iN_pos, i10, i01, i00, i11, u3_op, u3_or, u3_same, pup_eq, pup_ne, nS_i, nS_r, nS_d, nS_ir, nS_rr, nS_i0, nS_r0, nφ_1, nφ_11, nφ_2, nφ_3, nφ_2r, nφ_3r, nφ_20, nφ_30, u2_op, u2_or, u2_eq]
  rw [b1_nw, c4]
  refine Rs1.acm (K' := 15) (N' := 271) ?_ (by decide) (by decide)
  rw [b1_nn (by omega)]
  refine bd1R (K1 := 7) (N1 := 132) (K2 := 8) (N2 := 139) (sp_X6_init (n := 2 * n) (φ := nφ φc 4 4) (S := nS φc Sc 4) (by intro q h1 h2; simp (disch := first | omega | assumption) only [↓b1_rt, ↓b1_rt1, ↓b1_up_bd, ↓b1_b1, ↓b1_ite, ↓b1_up_ite, ↓b1_jn, ↓jn1_ap, ↓ite1_ap, ↓b1_gI1, ↓b1_pI1, ↓b1_gR1, ↓b1_pR1, ↓b1_gM, rt1_ap, ↓reduceIte, iN_div, iN_divL, iN_add, iN_mul, iN_addL, iN_Ladd, iN_mulL, iN_Lmul, iN_subL, iN_sub, iN_le_T, iN_le_F, iN_lt_T, iN_lt_F, iN_eq_F, iN_leL_T, iN_leL_F, iN_Lle_T, iN_Lle_F, iN_ltL_T, iN_ltL_F, iN_Llt_T, iN_Llt_F, iN_eqL_T, iN_eqL_F, iN_m1, m1_iN, iN_le_m1, m1_le_iN, iN_neg, iN_pos, i10, i01, i00, i11, u3_op, u3_or, u3_same, pup_eq, pup_ne, nS_i, nS_r, nS_d, nS_ir, nS_rr, nS_i0, nS_r0, nφ_1, nφ_11, nφ_2, nφ_3, nφ_2r, nφ_3r, nφ_20, nφ_30, u2_op, u2_or, u2_eq]; exact cb q h1 h2) (by simp (disch := first | omega | assumption) only [↓b1_rt, ↓b1_rt1, ↓b1_up_bd, ↓b1_b1, ↓b1_ite, ↓b1_up_ite, ↓b1_jn, ↓jn1_ap, ↓ite1_ap, ↓b1_gI1, ↓b1_pI1, ↓b1_gR1, ↓b1_pR1, ↓b1_gM, rt1_ap, ↓reduceIte, iN_div, iN_divL, iN_add, iN_mul, iN_addL, iN_Ladd, iN_mulL, iN_Lmul, iN_subL, iN_sub, iN_le_T, iN_le_F, iN_lt_T, iN_lt_F, iN_eq_F, iN_leL_T, iN_leL_F, iN_Lle_T, iN_Lle_F, iN_ltL_T, iN_ltL_F, iN_Llt_T, iN_Llt_F, iN_eqL_T, iN_eqL_F, iN_m1, m1_iN, iN_le_m1, m1_le_iN, iN_neg, iN_pos, i10, i01, i00, i11, u3_op, u3_or, u3_same, pup_eq, pup_ne, nS_i, nS_r, nS_d, nS_ir, nS_rr, nS_i0, nS_r0, nφ_1, nφ_11, nφ_2, nφ_3, nφ_2r, nφ_3r, nφ_20, nφ_30, u2_op, u2_or, u2_eq])) (fun _ φd Sd hd => ?_) (by decide) (by decide)
  have d3 : φd.2.1 3 (n + 1) = 2 := by rw [hd.s _ _ (by omega) (by omega)]; simp (disch := first | omega | assumption) only [↓b1_rt, ↓b1_rt1, ↓b1_up_bd, ↓b1_b1, ↓b1_ite, ↓b1_up_ite, ↓b1_jn, ↓jn1_ap, ↓ite1_ap, ↓b1_gI1, ↓b1_pI1, ↓b1_gR1, ↓b1_pR1, ↓b1_gM, rt1_ap, ↓reduceIte, iN_div, iN_divL, iN_add, iN_mul, iN_addL, iN_Ladd, iN_mulL, iN_Lmul, iN_subL, iN_sub, iN_le_T, iN_le_F, iN_lt_T, iN_lt_F, iN_eq_F, iN_leL_T, iN_leL_F, iN_Lle_T, iN_Lle_F, iN_ltL_T, iN_ltL_F, iN_Llt_T, iN_Llt_F, iN_eqL_T, iN_eqL_F, iN_m1, m1_iN, iN_le_m1, m1_le_iN, iN_neg, iN_pos, i10, i01, i00, i11, u3_op, u3_or, u3_same, pup_eq, pup_ne, nS_i, nS_r, nS_d, nS_ir, nS_rr, nS_i0, nS_r0, nφ_1, nφ_11, nφ_2, nφ_3, nφ_2r, nφ_3r, nφ_20, nφ_30, u2_op, u2_or, u2_eq, c3]
  rw [b1_pC (by omega) d3 (by omega)]
  have d4 : φd.1 4 = 2 * n + 1 := by rw [hd.c, if_neg (by omega)]; simp (disch := first | omega | assumption) only [↓b1_rt, ↓b1_rt1, ↓b1_up_bd, ↓b1_b1, ↓b1_ite, ↓b1_up_ite, ↓b1_jn, ↓jn1_ap, ↓ite1_ap, ↓b1_gI1, ↓b1_pI1, ↓b1_gR1, ↓b1_pR1, ↓b1_gM, rt1_ap, ↓reduceIte, iN_div, iN_divL, iN_add, iN_mul, iN_addL, iN_Ladd, iN_mulL, iN_Lmul, iN_subL, iN_sub, iN_le_T, iN_le_F, iN_lt_T, iN_lt_F, iN_eq_F, iN_leL_T, iN_leL_F, iN_Lle_T, iN_Lle_F, iN_ltL_T, iN_ltL_F, iN_Llt_T, iN_Llt_F, iN_eqL_T, iN_eqL_F, iN_m1, m1_iN, iN_le_m1, m1_le_iN, iN_neg, iN_pos, i10, i01, i00, i11, u3_op, u3_or, u3_same, pup_eq, pup_ne, nS_i, nS_r, nS_d, nS_ir, nS_rr, nS_i0, nS_r0, nφ_1, nφ_11, nφ_2, nφ_3, nφ_2r, nφ_3r, nφ_20, nφ_30, u2_op, u2_or, u2_eq, c4]
  rw [b1_nw]
  dsimp only
  rw [d4]
  refine Rs1.acm (K' := 7) (N' := 132) ?_ (by decide) (by decide)
  rw [b1_nn (by omega)]
  generalize hφe : ((φd.1, u2 φd.2.1 3 (n + 1) (2 + 1), φd.2.2) : amSh) = φe
  have e4 : φe.1 4 = 2 * n + 1 := by rw [← hφe]; exact d4
  have eb : ∀ q, 145 ≤ q → q ≤ 151 → φe.1 q = 2 * n + 1 := by
    intro q h1 h2; rw [← hφe]; show φd.1 q = _; rw [hd.c, if_pos (by omega)]
  have e3 : φe.2.1 3 (n + 1) = 3 := by rw [← hφe]; simp (disch := first | omega | assumption) only [↓b1_rt, ↓b1_rt1, ↓b1_up_bd, ↓b1_b1, ↓b1_ite, ↓b1_up_ite, ↓b1_jn, ↓jn1_ap, ↓ite1_ap, ↓b1_gI1, ↓b1_pI1, ↓b1_gR1, ↓b1_pR1, ↓b1_gM, rt1_ap, ↓reduceIte, iN_div, iN_divL, iN_add, iN_mul, iN_addL, iN_Ladd, iN_mulL, iN_Lmul, iN_subL, iN_sub, iN_le_T, iN_le_F, iN_lt_T, iN_lt_F, iN_eq_F, iN_leL_T, iN_leL_F, iN_Lle_T, iN_Lle_F, iN_ltL_T, iN_ltL_F, iN_Llt_T, iN_Llt_F, iN_eqL_T, iN_eqL_F, iN_m1, m1_iN, iN_le_m1, m1_le_iN, iN_neg, iN_pos, i10, i01, i00, i11, u3_op, u3_or, u3_same, pup_eq, pup_ne, nS_i, nS_r, nS_d, nS_ir, nS_rr, nS_i0, nS_r0, nφ_1, nφ_11, nφ_2, nφ_3, nφ_2r, nφ_3r, nφ_20, nφ_30, u2_op, u2_or, u2_eq]
  refine bd1R (K1 := 7) (N1 := 132) (K2 := 0) (N2 := 0) (sp_X6_init (n := 2 * n + 1) (φ := nφ φe 4 4) (S := nS φe Sd 4) (by intro q h1 h2; simp (disch := first | omega | assumption) only [↓b1_rt, ↓b1_rt1, ↓b1_up_bd, ↓b1_b1, ↓b1_ite, ↓b1_up_ite, ↓b1_jn, ↓jn1_ap, ↓ite1_ap, ↓b1_gI1, ↓b1_pI1, ↓b1_gR1, ↓b1_pR1, ↓b1_gM, rt1_ap, ↓reduceIte, iN_div, iN_divL, iN_add, iN_mul, iN_addL, iN_Ladd, iN_mulL, iN_Lmul, iN_subL, iN_sub, iN_le_T, iN_le_F, iN_lt_T, iN_lt_F, iN_eq_F, iN_leL_T, iN_leL_F, iN_Lle_T, iN_Lle_F, iN_ltL_T, iN_ltL_F, iN_Llt_T, iN_Llt_F, iN_eqL_T, iN_eqL_F, iN_m1, m1_iN, iN_le_m1, m1_le_iN, iN_neg, iN_pos, i10, i01, i00, i11, u3_op, u3_or, u3_same, pup_eq, pup_ne, nS_i, nS_r, nS_d, nS_ir, nS_rr, nS_i0, nS_r0, nφ_1, nφ_11, nφ_2, nφ_3, nφ_2r, nφ_3r, nφ_20, nφ_30, u2_op, u2_or, u2_eq]; exact eb q h1 h2) (by simp (disch := first | omega | assumption) only [↓b1_rt, ↓b1_rt1, ↓b1_up_bd, ↓b1_b1, ↓b1_ite, ↓b1_up_ite, ↓b1_jn, ↓jn1_ap, ↓ite1_ap, ↓b1_gI1, ↓b1_pI1, ↓b1_gR1, ↓b1_pR1, ↓b1_gM, rt1_ap, ↓reduceIte, iN_div, iN_divL, iN_add, iN_mul, iN_addL, iN_Ladd, iN_mulL, iN_Lmul, iN_subL, iN_sub, iN_le_T, iN_le_F, iN_lt_T, iN_lt_F, iN_eq_F, iN_leL_T, iN_leL_F, iN_Lle_T, iN_Lle_F, iN_ltL_T, iN_ltL_F, iN_Llt_T, iN_Llt_F, iN_eqL_T, iN_eqL_F, iN_m1, m1_iN, iN_le_m1, m1_le_iN, iN_neg, iN_pos, i10, i01, i00, i11, u3_op, u3_or, u3_same, pup_eq, pup_ne, nS_i, nS_r, nS_d, nS_ir, nS_rr, nS_i0, nS_r0, nφ_1, nφ_11, nφ_2, nφ_3, nφ_2r, nφ_3r, nφ_20, nφ_30, u2_op, u2_or, u2_eq])) (fun _ φf Sf hf => ?_) (by decide) (by decide)
  have f3 : φf.2.1 3 (n + 1) = 3 := by rw [hf.s _ _ (by omega) (by omega)]; simp (disch := first | omega | assumption) only [↓b1_rt, ↓b1_rt1, ↓b1_up_bd, ↓b1_b1, ↓b1_ite, ↓b1_up_ite, ↓b1_jn, ↓jn1_ap, ↓ite1_ap, ↓b1_gI1, ↓b1_pI1, ↓b1_gR1, ↓b1_pR1, ↓b1_gM, rt1_ap, ↓reduceIte, iN_div, iN_divL, iN_add, iN_mul, iN_addL, iN_Ladd, iN_mulL, iN_Lmul, iN_subL, iN_sub, iN_le_T, iN_le_F, iN_lt_T, iN_lt_F, iN_eq_F, iN_leL_T, iN_leL_F, iN_Lle_T, iN_Lle_F, iN_ltL_T, iN_ltL_F, iN_Llt_T, iN_Llt_F, iN_eqL_T, iN_eqL_F, iN_m1, m1_iN, iN_le_m1, m1_le_iN, iN_neg, iN_pos, i10, i01, i00, i11, u3_op, u3_or, u3_same, pup_eq, pup_ne, nS_i, nS_r, nS_d, nS_ir, nS_rr, nS_i0, nS_r0, nφ_1, nφ_11, nφ_2, nφ_3, nφ_2r, nφ_3r, nφ_20, nφ_30, u2_op, u2_or, u2_eq, e3]
  rw [b1_pC (by omega) f3 (by omega)]
  rw [b1_pI (by omega), b1_pI (by omega), b1_pI (by omega), b1_pI (by omega), b1_pI (by omega), rt1_ap]
  refine Rs1.mk (by decide) (by decide) ?_
  -- what lies where
  have cq : ∀ q, q ≠ 4 → ¬ (145 ≤ q ∧ q ≤ 151) → φf.1 q = φc.1 q := by
    intro q h1 h2
    rw [hf.c, if_neg (by omega), nφ_1 h1, ← hφe]
    show φd.1 q = _
    rw [hd.c, if_neg (by omega), nφ_1 h1]
  have old : ∀ q i, i ≤ φ.1 q → φf.2.1 q i = φ.2.1 q i ∧ φf.2.2 q i = φ.2.2 q i ∧ ∀ j, Sf.1 q i j = S.1 q i j ∧ Sf.2.2 q i j = S.2.2 q i j ∧ Sf.2.1 q i j = S.2.1 q i j := by
    intro q i hi
    have k3 : q = 3 → i ≤ n := fun e => by subst e; omega
    have k4 : q = 4 → i ≤ 2 * n := fun e => by subst e; omega
    have kb : 145 ≤ q → q ≤ 151 → i ≤ 2 * n := fun h1 h2 => by have := hcb q h1 h2; omega
    have k143 : q = 143 → i ≤ n := fun e => by subst e; omega
    have k144 : q = 144 → i ≤ n := fun e => by subst e; omega
    have u2n : ∀ {f : Nat → Nat → Nat} {v : Nat}, u2 f 3 (n + 1) v q i = f q i := fun {f v} => by unfold u2; rw [if_neg (by omega)]
    refine ⟨?_, ?_, fun j => ?_⟩
    · rw [hf.s q i (by omega) (by omega), nφ_so (by rw [e4]; omega), ← hφe]
      show u2 φd.2.1 3 (n + 1) (2 + 1) q i = _
      rw [u2n, hd.s q i (by omega) (by omega), nφ_so (by rw [c4]; omega), ← hφc]
      show u2 (nφ φb 144 0).2.1 3 (n + 1) (1 + 1) q i = _
      rw [u2n, nφ_so (by rw [b144]; omega), ← hφb]
      show u2 (nφ (nφ φ 3 3) 143 0).2.1 3 (n + 1) (0 + 1) q i = _
      rw [u2n, nφ_so (by rw [a143]; omega), nφ_so (by rw [hc3]; omega)]
    · rw [hf.k q i (by omega), nφ_co (by rw [e4]; omega), ← hφe]
      show φd.2.2 q i = _
      rw [hd.k q i (by omega), nφ_co (by rw [c4]; omega), ← hφc]
      show (nφ φb 144 0).2.2 q i = _
      rw [nφ_co (by rw [b144]; omega), ← hφb]
      show (nφ (nφ φ 3 3) 143 0).2.2 q i = _
      rw [nφ_co (by rw [a143]; omega), nφ_co (by rw [hc3]; omega)]
    · have s1 := nS_o (φ := φe) (S := Sd) (p := 4) (q := q) (r := i) (by rw [e4]; omega)
      have s2 := nS_o (φ := φc) (S := Sc) (p := 4) (q := q) (r := i) (by rw [c4]; omega)
      have s3 := nS_o (φ := φb) (S := Sb) (p := 144) (q := q) (r := i) (by rw [b144]; omega)
      have s4 := nS_o (φ := nφ φ 3 3) (S := (u3 (nS φ S 3).1 3 (n + 1) 7 1, (nS φ S 3).2)) (p := 143) (q := q) (r := i) (by rw [a143]; omega)
      have s5 := nS_o (φ := φ) (S := S) (p := 3) (q := q) (r := i) (by rw [hc3]; omega)
      have s6 : u3 (nS φ S 3).1 3 (n + 1) 7 1 q i = (nS φ S 3).1 q i := by funext j; unfold u3; rw [if_neg (by omega)]
      refine ⟨?_, ?_, ?_⟩
      · rw [hf.o1 q i j (by omega), s1.1, hd.o1 q i j (by omega), s2.1, ← hSc, s3.1, ← hSb, s4.1]
        show u3 (nS φ S 3).1 3 (n + 1) 7 1 q i j = _
        rw [s6, s5.1]
      · rw [hf.o2 q i j (by omega), s1.2.1, hd.o2 q i j (by omega), s2.2.1, ← hSc, s3.2.1, ← hSb, s4.2.1]
        show (nS φ S 3).2.2 q i j = _
        rw [s5.2.1]
      · rw [hf.o3 q i j (by omega), s1.2.2, hd.o3 q i j (by omega), s2.2.2, ← hSc, s3.2.2, ← hSb, s4.2.2]
        show (nS φ S 3).2.1 q i j = _
        rw [s5.2.2]
  have v3 : ∀ j, Sf.1 3 (n + 1) j = u3 (nS φ S 3).1 3 (n + 1) 7 1 3 (n + 1) j := by
    intro j
    have s1 := nS_o (φ := φe) (S := Sd) (p := 4) (q := 3) (r := n + 1) (by omega)
    have s2 := nS_o (φ := φc) (S := Sc) (p := 4) (q := 3) (r := n + 1) (by omega)
    have s3 := nS_o (φ := φb) (S := Sb) (p := 144) (q := 3) (r := n + 1) (by omega)
    have s4 := nS_o (φ := nφ φ 3 3) (S := (u3 (nS φ S 3).1 3 (n + 1) 7 1, (nS φ S 3).2)) (p := 143) (q := 3) (r := n + 1) (by omega)
    rw [hf.o1 _ _ j (by omega), s1.1, hd.o1 _ _ j (by omega), s2.1, ← hSc, s3.1, ← hSb, s4.1]
  have old5 : ∀ q i j, i ≤ φ.1 q → u3 (u3 (u3 (u3 (u3 Sf.1 3 (n + 1) 0 (iN cor)) 3 (n + 1) 1 kind) 3 (n + 1) 2 (iN fl)) 3 (n + 1) 3 (iN wd)) 3 (n + 1) 4 sh q i j = Sf.1 q i j := by
    intro q i j hi
    have k3 : ¬ (q = 3 ∧ i = n + 1) := fun ⟨e, e2⟩ => by subst e; omega
    have e : ∀ {g : Nat → Nat → Nat → Int32} {m : Nat} {v : Int32}, u3 g 3 (n + 1) m v q i j = g q i j := fun {g m v} => by
      unfold u3; rw [if_neg (fun z => k3 ⟨z.1, z.2.1⟩)]
    rw [e, e, e, e, e]
  refine NH.mk ?_ ?_ ?_ ?_ ?_ ?_ ?_ ?_ ?_ ?_ ?_ ?_
  · intro q
    show φf.1 q = _
    by_cases h4 : q = 4
    · subst h4
      rw [hf.c, if_neg (by omega), nφ_11, e4, if_neg (by omega), if_pos (Or.inl rfl)]
    · by_cases hb : 145 ≤ q ∧ q ≤ 151
      · rw [hf.c, if_pos (by omega), if_neg (by omega), if_pos (Or.inr hb)]
      · rw [cq q h4 hb, ← hφc]
        show (nφ φb 144 0).1 q = _
        by_cases h144 : q = 144
        · subst h144; rw [nφ_11, b144, if_pos (by omega)]
        · rw [nφ_1 h144, ← hφb]
          show (nφ (nφ φ 3 3) 143 0).1 q = _
          by_cases h143 : q = 143
          · subst h143; rw [nφ_11, a143, if_pos (by omega)]
          · rw [nφ_1 h143]
            by_cases h3 : q = 3
            · subst h3; rw [nφ_11, hc3, if_pos (by omega)]
            · rw [nφ_1 h3, if_neg (by omega), if_neg (by omega)]
  · show u2 φf.2.1 3 (n + 1) (3 + 1) 3 (n + 1) = 4
    rw [u2_eq]
  · refine ⟨?_, ?_⟩
    · show u2 φf.2.1 3 (n + 1) (3 + 1) 4 (2 * n + 1) = 7
      rw [u2_op (by decide), hf.s _ _ (by omega) (by omega), nφ_so (by rw [e4]; omega), ← hφe]
      show u2 φd.2.1 3 (n + 1) (2 + 1) 4 (2 * n + 1) = 7
      rw [u2_op (by decide)]
      exact hd.s4
    · show u2 φf.2.1 3 (n + 1) (3 + 1) 4 (2 * n + 2) = 7
      rw [u2_op (by decide)]
      exact hf.s4
  · intro q i hi
    show u2 φf.2.1 3 (n + 1) (3 + 1) q i = _
    have : ¬ (q = 3 ∧ i = n + 1) := fun ⟨e, e2⟩ => by subst e; omega
    unfold u2
    rw [if_neg this]
    exact (old q i hi).1
  · intro q i hi; exact (old q i hi).2.1
  · intro q i j hi
    exact (old5 q i j hi).trans ((old q i hi).2.2 j).1
  · intro q i j hi; exact ((old q i hi).2.2 j).2.1
  · intro q i j hi; exact ((old q i hi).2.2 j).2.2
  · intro q k h1 h2
    have hz : ∀ i, Sf.1 q i k = u3 (u3 (u3 (u3 (u3 Sf.1 3 (n + 1) 0 (iN cor)) 3 (n + 1) 1 kind) 3 (n + 1) 2 (iN fl)) 3 (n + 1) 3 (iN wd)) 3 (n + 1) 4 sh q i k := by
      intro i
      rw [u3_op (by omega), u3_op (by omega), u3_op (by omega), u3_op (by omega), u3_op (by omega)]
    refine ⟨(hz _).symm.trans ?_, (hz _).symm.trans (hf.z q k h1 (by omega))⟩
    rw [hf.o1 _ _ _ (by omega), (nS_o (φ := φe) (S := Sd) (p := 4) (q := q) (r := 2 * n + 1) (by omega)).1]
    exact hd.z q k h1 (by omega)
  · intro k
    have hz : ∀ q, q ≠ 3 → Sf.1 q (n + 1) k = u3 (u3 (u3 (u3 (u3 Sf.1 3 (n + 1) 0 (iN cor)) 3 (n + 1) 1 kind) 3 (n + 1) 2 (iN fl)) 3 (n + 1) 3 (iN wd)) 3 (n + 1) 4 sh q (n + 1) k := by
      intro q hq
      rw [u3_op hq, u3_op hq, u3_op hq, u3_op hq, u3_op hq]
    have dn : ∀ q, q ≠ 4 → q < 145 → Sf.1 q (n + 1) k = Sc.1 q (n + 1) k := by
      intro q h1 h2
      rw [hf.o1 _ _ _ (by omega), (nS_o (φ := φe) (S := Sd) (p := 4) (q := q) (r := n + 1) (Or.inl h1)).1, hd.o1 _ _ _ (by omega), (nS_o (φ := φc) (S := Sc) (p := 4) (q := q) (r := n + 1) (Or.inl h1)).1]
    refine ⟨(hz 143 (by decide)).symm.trans ?_, (hz 144 (by decide)).symm.trans ?_⟩
    · rw [dn _ (by decide) (by decide), ← hSc, (nS_o (φ := φb) (S := Sb) (p := 144) (q := 143) (r := n + 1) (Or.inl (by decide))).1, ← hSb]
      exact nS_i0 a143
    · rw [dn _ (by decide) (by decide), ← hSc]
      exact nS_i0 b144
  · refine ⟨?_, ?_, ?_, ?_, ?_, ?_⟩
    · simp [u3]
    · simp [u3]
    · simp [u3]
    · simp [u3]
    · simp [u3]
    · have := v3 7
      simp only [u3] at this ⊢
      simpa using this
  · intro j hj
    have hv := v3 j
    have : u3 (nS φ S 3).1 3 (n + 1) 7 1 3 (n + 1) j = 0 := by
      rw [u3_j (by omega)]; exact nS_i0 hc3
    rw [this] at hv
    refine Eq.trans ?_ hv
    show u3 (u3 (u3 (u3 (u3 Sf.1 3 (n + 1) 0 (iN cor)) 3 (n + 1) 1 kind) 3 (n + 1) 2 (iN fl)) 3 (n + 1) 3 (iN wd)) 3 (n + 1) 4 sh 3 (n + 1) j = _
    rw [u3_j (by omega), u3_j (by omega), u3_j (by omega), u3_j (by omega), u3_j (by omega)]
