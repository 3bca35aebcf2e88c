/-! PURE: whole numbers as Int32, programs run, loops -/
def iN (n : Nat) : Int32 := Int32.ofNat n
theorem iN_0 : (0 : Int32) = iN 0 := rfl
theorem iN_1 : (1 : Int32) = iN 1 := rfl
theorem iN_lit {n : Nat} : (no_index (OfNat.ofNat n) : Int32) = iN n := rfl
theorem iN_toInt {a : Nat} (h : a < 2147483648) : (iN a).toInt = a := Int32.toInt_ofNat_of_lt h
theorem iN_nat {a : Nat} (h : a < 2147483648) : (iN a).toNatClampNeg = a := Int32.toNatClampNeg_ofNat_of_lt h
theorem iN_add {a b : Nat} : iN a + iN b = iN (a + b) := (Int32.ofNat_add a b).symm
theorem iN_mul {a b : Nat} : iN a * iN b = iN (a * b) := (Int32.ofNat_mul a b).symm
theorem iN_sub {a b : Nat} (h : b ≤ a) : iN a - iN b = iN (a - b) := by
  have : iN (a - b) + iN b = iN a := by rw [iN_add, Nat.sub_add_cancel h]
  rw [← this]; grind
theorem iN_addL {a n : Nat} : iN a + (no_index (OfNat.ofNat n) : Int32) = iN (a + (OfNat.ofNat n : Nat)) := iN_add
theorem iN_Ladd {a n : Nat} : (no_index (OfNat.ofNat n) : Int32) + iN a = iN ((OfNat.ofNat n : Nat) + a) := iN_add
theorem iN_mulL {a n : Nat} : iN a * (no_index (OfNat.ofNat n) : Int32) = iN (a * (OfNat.ofNat n : Nat)) := iN_mul
theorem iN_Lmul {a n : Nat} : (no_index (OfNat.ofNat n) : Int32) * iN a = iN ((OfNat.ofNat n : Nat) * a) := iN_mul
theorem iN_subL {a n : Nat} (h : (OfNat.ofNat n : Nat) ≤ a) : iN a - (no_index (OfNat.ofNat n) : Int32) = iN (a - (OfNat.ofNat n : Nat)) := iN_sub h
theorem iN_Lsub {a n : Nat} (h : a ≤ (OfNat.ofNat n : Nat)) : (no_index (OfNat.ofNat n) : Int32) - iN a = iN ((OfNat.ofNat n : Nat) - a) := iN_sub h
theorem iN_le {a b : Nat} (ha : a < 2147483648) (hb : b < 2147483648) : (iN a ≤ iN b) = (a ≤ b) := by
  rw [Int32.le_iff_toInt_le, iN_toInt ha, iN_toInt hb]; exact propext Int.ofNat_le
theorem iN_lt {a b : Nat} (ha : a < 2147483648) (hb : b < 2147483648) : (iN a < iN b) = (a < b) := by
  rw [Int32.lt_iff_toInt_lt, iN_toInt ha, iN_toInt hb]; exact propext Int.ofNat_lt
theorem iN_inj {a b : Nat} (ha : a < 2147483648) (hb : b < 2147483648) : (iN a = iN b) = (a = b) := by
  rw [← Int32.toInt_inj, iN_toInt ha, iN_toInt hb]; exact propext Int.ofNat_inj
theorem iN_leL {a n : Nat} (ha : a < 2147483648) (hb : (OfNat.ofNat n : Nat) < 2147483648) : (iN a ≤ (no_index (OfNat.ofNat n) : Int32)) = (a ≤ (OfNat.ofNat n : Nat)) := iN_le ha hb
theorem iN_Lle {a n : Nat} (ha : a < 2147483648) (hb : (OfNat.ofNat n : Nat) < 2147483648) : ((no_index (OfNat.ofNat n) : Int32) ≤ iN a) = ((OfNat.ofNat n : Nat) ≤ a) := iN_le hb ha
theorem iN_ltL {a n : Nat} (ha : a < 2147483648) (hb : (OfNat.ofNat n : Nat) < 2147483648) : (iN a < (no_index (OfNat.ofNat n) : Int32)) = (a < (OfNat.ofNat n : Nat)) := iN_lt ha hb
theorem iN_Llt {a n : Nat} (ha : a < 2147483648) (hb : (OfNat.ofNat n : Nat) < 2147483648) : ((no_index (OfNat.ofNat n) : Int32) < iN a) = ((OfNat.ofNat n : Nat) < a) := iN_lt hb ha
theorem iN_eqL {a n : Nat} (ha : a < 2147483648) (hb : (OfNat.ofNat n : Nat) < 2147483648) : (iN a = (no_index (OfNat.ofNat n) : Int32)) = (a = (OfNat.ofNat n : Nat)) := iN_inj ha hb
theorem iN_Leq {a n : Nat} (ha : a < 2147483648) (hb : (OfNat.ofNat n : Nat) < 2147483648) : ((no_index (OfNat.ofNat n) : Int32) = iN a) = ((OfNat.ofNat n : Nat) = a) := iN_inj hb ha
theorem iN_m1 {a : Nat} (ha : a < 2147483648) : (iN a = -1) = False := by
  rw [← Int32.toInt_inj, iN_toInt ha, show (-1 : Int32).toInt = -1 from rfl]; simp
theorem m1_iN {a : Nat} (ha : a < 2147483648) : ((-1 : Int32) = iN a) = False := by
  rw [← iN_m1 ha]; exact propext eq_comm
theorem iN_le_m1 {a : Nat} (ha : a < 2147483648) : (iN a ≤ -1) = False := by
  rw [Int32.le_iff_toInt_le, iN_toInt ha, show (-1 : Int32).toInt = -1 from rfl]; simp; omega
theorem m1_le_iN {a : Nat} (ha : a < 2147483648) : ((-1 : Int32) ≤ iN a) = True := by
  rw [Int32.le_iff_toInt_le, iN_toInt ha, show (-1 : Int32).toInt = -1 from rfl]; simp
theorem iN_neg {a : Nat} (ha : a < 2147483648) : (iN a < 0) = False := by
  rw [Int32.lt_iff_toInt_lt, iN_toInt ha, show (0 : Int32).toInt = 0 from rfl]; simp
theorem iN_pos {a : Nat} (ha : a < 2147483648) : (0 ≤ iN a) = True := by
  rw [Int32.le_iff_toInt_le, iN_toInt ha, show (0 : Int32).toInt = 0 from rfl]; simp
theorem iN_div {a b : Nat} (ha : a < 2147483648) (hb : b < 2147483648) : iN a / iN b = iN (a / b) := by
  rw [← Int32.toInt_inj, Int32.toInt_div, iN_toInt ha, iN_toInt hb, iN_toInt (Nat.lt_of_le_of_lt (Nat.div_le_self a b) ha)]
  have h2 : a / b ≤ a := Nat.div_le_self a b
  have h : ((a : Int).tdiv (b : Int)) = ((a / b : Nat) : Int) := rfl
  rw [h]
  generalize a / b = q at h2
  rw [Int.bmod_def]
  omega
theorem iN_divL {a n : Nat} (ha : a < 2147483648) (hb : (OfNat.ofNat n : Nat) < 2147483648) : iN a / (no_index (OfNat.ofNat n) : Int32) = iN (a / (OfNat.ofNat n : Nat)) := iN_div ha hb
theorem iN_mod {a b : Nat} (ha : a < 2147483648) (hb : b < 2147483648) : iN a - iN a / iN b * iN b = iN (a % b) := by
  rw [iN_div ha hb, iN_mul, iN_sub (Nat.div_mul_le_self a b)]
  congr 1
  have := Nat.mod_add_div a b
  rw [Nat.mul_comm] at this
  omega
theorem iN_of {x : Int32} (h : ¬ x < 0) : ∃ n, n < 2147483648 ∧ x = iN n := by
  have h0 : 0 ≤ x.toInt := by rw [Int32.lt_iff_toInt_lt] at h; have : (0 : Int32).toInt = 0 := rfl; omega
  have h1 := Int32.toInt_lt x
  refine ⟨x.toInt.toNat, by omega, ?_⟩
  rw [← Int32.toInt_inj, iN_toInt (by omega)]
  omega
theorem amIn_iN {i n : Nat} (h : i < n) (h2 : i < 2147483648) : amIn (iN i) n := by
  unfold amIn
  rw [iN_nat h2, iN_neg h2]
  intro e
  rcases e with e | e
  · exact e
  · omega
/-! one-argument update -/
def pup {α : Type} (f : Nat → α) (j : Nat) (v : α) : Nat → α := fun k => if k = j then v else f k
theorem pup_eq {α : Type} {f : Nat → α} {j : Nat} {v : α} : pup f j v j = v := by simp [pup]
theorem pup_ne {α : Type} {f : Nat → α} {j k : Nat} {v : α} (h : k ≠ j) : pup f j v k = f k := by simp [pup, h]
theorem u3_same {α : Type} {f : Nat → Nat → Nat → α} {p r j : Nat} {v : α} : u3 f p r j v p r = pup (f p r) j v := by
  funext k; simp [u3, pup]
theorem u3_op {α : Type} {f : Nat → Nat → Nat → α} {p r j p' : Nat} {v : α} (h : p' ≠ p) : u3 f p r j v p' = f p' := by
  funext r' k; simp [u3, h]
theorem u3_or {α : Type} {f : Nat → Nat → Nat → α} {p r j r' : Nat} {v : α} (h : r' ≠ r) : u3 f p r j v p r' = f p r' := by
  funext k; simp [u3, h]
theorem u3_j {α : Type} {f : Nat → Nat → Nat → α} {p r j j' : Nat} {v : α} (h : j' ≠ j) : u3 f p r j v p r j' = f p r j' := by
  simp [u3, h]
/-! running programs -/
theorem bd_of {α β : Type} {m : am0 α} {f : α → am0 β} {φ : amSh} {S S1 : amSt} {a : α} (h : m φ S = some (a, S1)) : bd m f φ S = f a φ S1 := by
  simp [bd, h]
theorem nrfl {α : Sort _} {a b : α} (h : a = b) : a = b := h
theorem rt_ap {β : Type} {b : β} {φ : amSh} {S : amSt} : rt b φ S = some (b, S) := nrfl rfl
theorem bd_rt {α β : Type} {a : α} {f : α → am0 β} {φ : amSh} {S : amSt} : bd (rt a) f φ S = f a φ S := nrfl rfl
theorem bd_bd {α γ β : Type} {m : am0 α} {f : α → am0 γ} {k : γ → am0 β} {φ : amSh} {S : amSt} : bd (bd m f) k φ S = bd m (fun a => bd (f a) k) φ S := by
  simp only [bd]
  cases m φ S with
  | none => rfl
  | some q => rfl
theorem bd_ite {α β : Type} {c : Prop} [Decidable c] {a b : am0 α} {f : α → am0 β} {φ : amSh} {S : amSt} : bd (if c then a else b) f φ S = if c then bd a f φ S else bd b f φ S := by
  split <;> rfl
theorem ite_ap {β : Type} {c : Prop} [Decidable c] {a b : am0 β} {φ : amSh} {S : amSt} : (if c then a else b) φ S = if c then a φ S else b φ S := by
  split <;> rfl
theorem bd_jn {α γ β : Type} {r : α → am0 γ} {g : (α → am0 γ) → am0 γ} {f : γ → am0 β} {φ : amSh} {S : amSt} : bd (jn r g) f φ S = bd (g r) f φ S := nrfl rfl
theorem jn_ap {α γ : Type} {r : α → am0 γ} {g : (α → am0 γ) → am0 γ} {φ : amSh} {S : amSt} : jn r g φ S = g r φ S := nrfl rfl
theorem bd_gM {β : Type} {f : Unit → am0 β} {φ : amSh} {S : amSt} (h : φ.1 255 ≠ 0) : bd gM f φ S = f () φ S := bd_of (by simp [gM, h])
theorem bd_gd {β : Type} {c : Prop} [Decidable c] {f : Unit → am0 β} {φ : amSh} {S : amSt} (h : c) : bd (gd c) f φ S = f () φ S := bd_of (by simp [gd, h])
theorem bd_nz {β : Type} {v : Nat} {f : Unit → am0 β} {φ : amSh} {S : amSt} (h : 0 < v) (h2 : v < 2147483648) : bd (nz (iN v)) f φ S = f () φ S := bd_gd (by
  intro e; rw [iN_0, iN_inj h2 (by decide)] at e; omega)
theorem bd_nn {β : Type} {r : Nat} {f : Unit → am0 β} {φ : amSh} {S : amSt} (h : r ≠ 0) : bd (nn r) f φ S = f () φ S := bd_gd h
theorem bd_gI {β : Type} {p r j : Nat} {f : Int32 → am0 β} {φ : amSh} {S : amSt} (h : r ≠ 0) : bd (gI p r j) f φ S = f (S.1 p r j) φ S := bd_of (by simp [gI, h])
theorem bd_gI1 {β : Type} {p j : Nat} {f : Int32 → am0 β} {φ : amSh} {S : amSt} : bd (gI p 1 j) f φ S = f (S.1 p 1 j) φ S := bd_gI (by decide)
theorem bd_pI {β : Type} {p r j : Nat} {v : Int32} {f : Unit → am0 β} {φ : amSh} {S : amSt} (h : r ≠ 0) : bd (pI p r j v) f φ S = f () φ (u3 S.1 p r j v, S.2) := bd_of (by simp [pI, h])
theorem bd_pI1 {β : Type} {p j : Nat} {v : Int32} {f : Unit → am0 β} {φ : amSh} {S : amSt} : bd (pI p 1 j v) f φ S = f () φ (u3 S.1 p 1 j v, S.2) := bd_pI (by decide)
theorem bd_gR {β : Type} {p r j : Nat} {f : Nat → am0 β} {φ : amSh} {S : amSt} (h : r ≠ 0) : bd (gR p r j) f φ S = f (S.2.2 p r j) φ S := bd_of (by simp [gR, h])
theorem bd_gR1 {β : Type} {p j : Nat} {f : Nat → am0 β} {φ : amSh} {S : amSt} : bd (gR p 1 j) f φ S = f (S.2.2 p 1 j) φ S := bd_gR (by decide)
theorem bd_pR {β : Type} {p r j v : Nat} {f : Unit → am0 β} {φ : amSh} {S : amSt} (h : r ≠ 0) : bd (pR p r j v) f φ S = f () φ (S.1, S.2.1, u3 S.2.2 p r j v) := bd_of (by simp [pR, h])
theorem bd_pR1 {β : Type} {p j v : Nat} {f : Unit → am0 β} {φ : amSh} {S : amSt} : bd (pR p 1 j v) f φ S = f () φ (S.1, S.2.1, u3 S.2.2 p 1 j v) := bd_pR (by decide)
theorem bd_gC {β : Type} {p r s : Nat} {f : Unit → am0 β} {φ : amSh} {S : amSt} (h : r ≠ 0) (h2 : s < φ.2.1 p r) : bd (gC p r s) f φ S = f () φ S := bd_of (by simp [gC, h, h2])
theorem bd_rI {β : Type} {p r i : Nat} {f : Int32 → am0 β} {φ : amSh} {S : amSt} (hr : r ≠ 0) (h : i < am_pl p r) (h2 : i < 2147483648) : bd (rI p r (iN i)) f φ S = f (S.1 p r i) φ S := bd_of (by simp only [rI]; rw [if_pos ⟨hr, amIn_iN h h2⟩, iN_nat h2])
theorem bd_wI {β : Type} {p r i : Nat} {v : Int32} {f : Unit → am0 β} {φ : amSh} {S : amSt} (hr : r ≠ 0) (h : i < am_pl p r) (h2 : i < 2147483648) : bd (wI p r (iN i) v) f φ S = f () φ (u3 S.1 p r i v, S.2) := bd_of (by simp only [wI]; rw [if_pos ⟨hr, amIn_iN h h2⟩, iN_nat h2])
theorem bd_rR {β : Type} {p r i : Nat} {f : Nat → am0 β} {φ : amSh} {S : amSt} (hr : r ≠ 0) (h : i < am_pl p r) (h2 : i < 2147483648) : bd (rR p r (iN i)) f φ S = f (S.2.2 p r i) φ S := bd_of (by simp only [rR]; rw [if_pos ⟨hr, amIn_iN h h2⟩, iN_nat h2])
theorem bd_wR {β : Type} {p r i v : Nat} {f : Unit → am0 β} {φ : amSh} {S : amSt} (hr : r ≠ 0) (h : i < am_pl p r) (h2 : i < 2147483648) : bd (wR p r (iN i) v) f φ S = f () φ (S.1, S.2.1, u3 S.2.2 p r i v) := bd_of (by simp only [wR]; rw [if_pos ⟨hr, amIn_iN h h2⟩, iN_nat h2])
theorem bd_rG {β : Type} {p r i : Nat} {f : Nat → am0 β} {φ : amSh} {S : amSt} (hr : r ≠ 0) (h : i < am_pl p r) (h2 : i < 2147483648) : bd (rG p r (iN i)) f φ S = f (i + 1) φ S := bd_of (by simp only [rG]; rw [if_pos ⟨hr, amIn_iN h h2⟩, iN_nat h2])
/-! loops -/
theorem alp_s {α β : Type} {F : (α → am0 β) → α → am0 β} {n : Nat} {x : α} {φ : amSh} {S : amSt} : alp F (n + 1) x φ S = F (alp F n) x φ S := rfl
/-- results -/
def Rs {β : Type} (Q : β → amSt → Prop) (o : Option (β × amSt)) : Prop := ∃ b S, o = some (b, S) ∧ Q b S
theorem Rs.mk {β : Type} {Q : β → amSt → Prop} {b : β} {S : amSt} (h : Q b S) : Rs Q (some (b, S)) := ⟨b, S, rfl, h⟩
theorem Rs.imp {β : Type} {Q Q' : β → amSt → Prop} {o : Option (β × amSt)} (h : Rs Q o) (hi : ∀ b S, Q b S → Q' b S) : Rs Q' o := by
  obtain ⟨b, S, e, q⟩ := h
  exact ⟨b, S, e, hi b S q⟩
/-- what comes behind: for any property of results -/
theorem bdR {α β : Type} {m : am0 α} {f : α → am0 β} {φ : amSh} {S : amSt} {P : Option (β × amSt) → Prop} {Q : α → amSt → Prop} (h : Rs Q (m φ S)) (hf : ∀ a S1, Q a S1 → P (f a φ S1)) : P (bd m f φ S) := by
  obtain ⟨a, S1, e, q⟩ := h
  rw [bd_of e]
  exact hf a S1 q
def Lz {α β : Type} (rec : α → am0 β) (φ : amSh) (J : α → amSt → Prop) (Q : β → amSt → Prop) (o : Option (β × amSt)) : Prop := (∃ x S, o = rec x φ S ∧ J x S) ∨ Rs Q o
theorem Lz.go {α β : Type} {rec : α → am0 β} {φ : amSh} {J : α → amSt → Prop} {Q : β → amSt → Prop} {x : α} {S : amSt} (h : J x S) : Lz rec φ J Q (rec x φ S) := Or.inl ⟨x, S, rfl, h⟩
theorem Lz.ret {α β : Type} {rec : α → am0 β} {φ : amSh} {J : α → amSt → Prop} {Q : β → amSt → Prop} {b : β} {S : amSt} (h : Q b S) : Lz rec φ J Q (some (b, S)) := Or.inr (Rs.mk h)
theorem alp_I {α β : Type} {F : (α → am0 β) → α → am0 β} {φ : amSh} (J : Nat → α → amSt → Prop) (n : Nat) {Q : β → amSt → Prop}
    {fu : Nat} (hf : n < fu) {x0 : α} {S0 : amSt} (h0 : J 0 x0 S0)
    (step : ∀ k x S, k < n → J k x S → ∀ rec : α → am0 β, Lz rec φ (J (k + 1)) Q (F rec x φ S))
    (exit : ∀ x S, J n x S → ∀ rec : α → am0 β, Rs Q (F rec x φ S)) : Rs Q (alp F fu x0 φ S0) := by
  have main : ∀ d k, k + d = n → ∀ fu, d < fu → ∀ x S, J k x S → Rs Q (alp F fu x φ S) := by
    intro d
    induction d with
    | zero =>
      intro k hk fu hfu x S hJ
      obtain ⟨fu, rfl⟩ : ∃ m, fu = m + 1 := ⟨fu - 1, by omega⟩
      obtain rfl : k = n := by omega
      exact exit x S hJ (alp F fu)
    | succ d ih =>
      intro k hk fu hfu x S hJ
      obtain ⟨fu, rfl⟩ : ∃ m, fu = m + 1 := ⟨fu - 1, by omega⟩
      rcases step k x S (by omega) hJ (alp F fu) with ⟨x', S', e, hJ'⟩ | hq
      · rw [alp_s, e]
        exact ih (k + 1) (by omega) fu (by omega) x' S' hJ'
      · exact hq
  exact main n 0 (by omega) fu hf x0 S0 h0
theorem amFu_lt {n : Nat} (h : n < 100000) : n < amFu := h
/-- loops without a count: a measure goes down -/
theorem alp_M {α β : Type} {F : (α → am0 β) → α → am0 β} {φ : amSh} (J : α → amSt → Prop) (μ : α → amSt → Nat) {Q : β → amSt → Prop}
    {fu : Nat} {x0 : α} {S0 : amSt} (hf : μ x0 S0 < fu) (h0 : J x0 S0)
    (step : ∀ x S, J x S → ∀ rec : α → am0 β, Lz rec φ (fun x' S' => J x' S' ∧ μ x' S' < μ x S) Q (F rec x φ S)) : Rs Q (alp F fu x0 φ S0) := by
  have main : ∀ fu x S, μ x S < fu → J x S → Rs Q (alp F fu x φ S) := by
    intro fu
    induction fu with
    | zero => intro x S h; omega
    | succ fu ih =>
      intro x S h hJ
      rcases step x S hJ (alp F fu) with ⟨x', S', e, hJ', hm⟩ | hq
      · rw [alp_s, e]
        exact ih x' S' (by omega) hJ'
      · exact hq
  exact main fu x0 S0 hf h0
/-- read-only loop with a counter and an accumulator -/
def itn {α : Type} (f : Nat → α → α) (a : α) : Nat → α
  | 0 => a
  | n + 1 => f n (itn f a n)
theorem alp_st {α β : Type} {F : (α → am0 β) → α → am0 β} {φ : amSh} (X : Nat → α) (T : Nat → amSt) (n : Nat) {o : Option (β × amSt)}
    (step : ∀ k, k < n → ∀ rec : α → am0 β, F rec (X k) φ (T k) = rec (X (k + 1)) φ (T (k + 1)))
    (exit : ∀ rec : α → am0 β, F rec (X n) φ (T n) = o) {fu : Nat} (hf : n < fu) : alp F fu (X 0) φ (T 0) = o := by
  have main : ∀ d k, k + d = n → ∀ fu, d < fu → alp F fu (X k) φ (T k) = o := by
    intro d
    induction d with
    | zero =>
      intro k hk fu hfu
      obtain ⟨fu, rfl⟩ : ∃ m, fu = m + 1 := ⟨fu - 1, by omega⟩
      obtain rfl : k = n := by omega
      exact exit (alp F fu)
    | succ d ih =>
      intro k hk fu hfu
      obtain ⟨fu, rfl⟩ : ∃ m, fu = m + 1 := ⟨fu - 1, by omega⟩
      rw [alp_s, step k (by omega) (alp F fu)]
      exact ih (k + 1) (by omega) fu (by omega)
  exact main n 0 (by omega) fu hf
theorem alp_fold {γ β : Type} {F : ((γ × Int32) → am0 β) → (γ × Int32) → am0 β} {φ : amSh} {S : amSt} (f : Nat → γ → γ) (n : Nat) {a : γ} {o : Option (β × amSt)}
    (step : ∀ k, k < n → ∀ (rec : (γ × Int32) → am0 β) a, F rec (a, iN k) φ S = rec (f k a, iN (k + 1)) φ S)
    (exit : ∀ rec : (γ × Int32) → am0 β, F rec (itn f a n, iN n) φ S = o) {fu : Nat} (hf : n < fu) : alp F fu (a, iN 0) φ S = o :=
  alp_st (fun k => (itn f a k, iN k)) (fun _ => S) n (fun k hk rec => step k hk rec _) exit hf
/-! comparisons that are decided -/
theorem iN_le_T {a b : Nat} (h : a ≤ b) (hb : b < 2147483648) : (iN a ≤ iN b) = True := by rw [iN_le (by omega) hb]; exact eq_true h
theorem iN_le_F {a b : Nat} (h : b < a) (ha : a < 2147483648) : (iN a ≤ iN b) = False := by rw [iN_le ha (by omega)]; exact eq_false (by omega)
theorem iN_lt_T {a b : Nat} (h : a < b) (hb : b < 2147483648) : (iN a < iN b) = True := by rw [iN_lt (by omega) hb]; exact eq_true h
theorem iN_lt_F {a b : Nat} (h : b ≤ a) (ha : a < 2147483648) : (iN a < iN b) = False := by rw [iN_lt ha (by omega)]; exact eq_false (by omega)
theorem iN_eq_F {a b : Nat} (h : a ≠ b) (ha : a < 2147483648) (hb : b < 2147483648) : (iN a = iN b) = False := by rw [iN_inj ha hb]; exact eq_false h
theorem iN_leL_T {a n : Nat} (h : a ≤ (OfNat.ofNat n : Nat)) (hb : (OfNat.ofNat n : Nat) < 2147483648) : (iN a ≤ (no_index (OfNat.ofNat n) : Int32)) = True := iN_le_T h hb
theorem iN_leL_F {a n : Nat} (h : (OfNat.ofNat n : Nat) < a) (ha : a < 2147483648) : (iN a ≤ (no_index (OfNat.ofNat n) : Int32)) = False := iN_le_F h ha
theorem iN_Lle_T {a n : Nat} (h : (OfNat.ofNat n : Nat) ≤ a) (ha : a < 2147483648) : ((no_index (OfNat.ofNat n) : Int32) ≤ iN a) = True := iN_le_T h ha
theorem iN_Lle_F {a n : Nat} (h : a < (OfNat.ofNat n : Nat)) (hb : (OfNat.ofNat n : Nat) < 2147483648) : ((no_index (OfNat.ofNat n) : Int32) ≤ iN a) = False := iN_le_F h hb
theorem iN_ltL_T {a n : Nat} (h : a < (OfNat.ofNat n : Nat)) (hb : (OfNat.ofNat n : Nat) < 2147483648) : (iN a < (no_index (OfNat.ofNat n) : Int32)) = True := iN_lt_T h hb
theorem iN_ltL_F {a n : Nat} (h : (OfNat.ofNat n : Nat) ≤ a) (ha : a < 2147483648) : (iN a < (no_index (OfNat.ofNat n) : Int32)) = False := iN_lt_F h ha
theorem iN_Llt_T {a n : Nat} (h : (OfNat.ofNat n : Nat) < a) (ha : a < 2147483648) : ((no_index (OfNat.ofNat n) : Int32) < iN a) = True := iN_lt_T h ha
theorem iN_Llt_F {a n : Nat} (h : a ≤ (OfNat.ofNat n : Nat)) (hb : (OfNat.ofNat n : Nat) < 2147483648) : ((no_index (OfNat.ofNat n) : Int32) < iN a) = False := iN_lt_F h hb
theorem iN_eqL_T {a n : Nat} (h : a = (OfNat.ofNat n : Nat)) : (iN a = (no_index (OfNat.ofNat n) : Int32)) = True := by subst h; exact eq_true rfl
theorem iN_eqL_F {a n : Nat} (h : a ≠ (OfNat.ofNat n : Nat)) (ha : a < 2147483648) (hb : (OfNat.ofNat n : Nat) < 2147483648) : (iN a = (no_index (OfNat.ofNat n) : Int32)) = False := iN_eq_F h ha hb
theorem i10 : ((1 : Int32) = 0) = False := eq_false (by decide)
theorem i01 : ((0 : Int32) = 1) = False := eq_false (by decide)
theorem i00 : ((0 : Int32) = 0) = True := eq_true rfl
theorem i11 : ((1 : Int32) = 1) = True := eq_true rfl
/-! programs that may make objects -/
theorem amAc_00 {β : Type} (o : Option (β × amSh × amSt × Nat × Nat)) : amAc 0 0 o = o := amAc_0 o
theorem bd1_of {α β : Type} {m : am1 α} {f : α → am1 β} {φ φ1 : amSh} {S S1 : amSt} {a : α} {k n : Nat} (h : m φ S = some (a, φ1, S1, k, n)) : bd1 m f φ S = amAc k n (f a φ1 S1) := by
  simp [bd1, h]
theorem bd1_up {α β : Type} {m : am0 α} {f : α → am1 β} {φ : amSh} {S S1 : amSt} {a : α} (h : m φ S = some (a, S1)) : bd1 (up m) f φ S = f a φ S1 := by
  rw [bd1_of (k := 0) (n := 0) (a := a) (φ1 := φ) (S1 := S1) (by simp [up, h]), amAc_0]
theorem b1_rt {α β : Type} {a : α} {f : α → am1 β} {φ : amSh} {S : amSt} : bd1 (up (rt a)) f φ S = f a φ S := bd1_up rfl
theorem b1_rt1 {α β : Type} {a : α} {f : α → am1 β} {φ : amSh} {S : amSt} : bd1 (rt1 a) f φ S = f a φ S := by rw [bd1_rt1]
theorem rt1_ap {β : Type} {b : β} {φ : amSh} {S : amSt} : rt1 b φ S = some (b, φ, S, 0, 0) := nrfl rfl
theorem b1_up_bd {α γ β : Type} {m : am0 α} {f : α → am0 γ} {k : γ → am1 β} {φ : amSh} {S : amSt} : bd1 (up (bd m f)) k φ S = bd1 (up m) (fun a => bd1 (up (f a)) k) φ S := by rw [bd1_up_bd]
theorem b1_b1 {α γ β : Type} {m : am1 α} {f : α → am1 γ} {k : γ → am1 β} {φ : amSh} {S : amSt} : bd1 (bd1 m f) k φ S = bd1 m (fun a => bd1 (f a) k) φ S := by rw [bd1_assoc]
theorem b1_ite {α β : Type} {c : Prop} [Decidable c] {a b : am1 α} {f : α → am1 β} {φ : amSh} {S : amSt} : bd1 (if c then a else b) f φ S = if c then bd1 a f φ S else bd1 b f φ S := by split <;> rfl
theorem b1_up_ite {α β : Type} {c : Prop} [Decidable c] {a b : am0 α} {f : α → am1 β} {φ : amSh} {S : amSt} : bd1 (up (if c then a else b)) f φ S = if c then bd1 (up a) f φ S else bd1 (up b) f φ S := by split <;> rfl
theorem ite1_ap {β : Type} {c : Prop} [Decidable c] {a b : am1 β} {φ : amSh} {S : amSt} : (if c then a else b) φ S = if c then a φ S else b φ S := by split <;> rfl
theorem b1_jn {α γ β : Type} {r : α → am1 γ} {g : (α → am1 γ) → am1 γ} {f : γ → am1 β} {φ : amSh} {S : amSt} : bd1 (jn1 r g) f φ S = bd1 (g r) f φ S := nrfl rfl
theorem jn1_ap {α γ : Type} {r : α → am1 γ} {g : (α → am1 γ) → am1 γ} {φ : amSh} {S : amSt} : jn1 r g φ S = g r φ S := nrfl rfl
theorem b1_gM {β : Type} {f : Unit → am1 β} {φ : amSh} {S : amSt} (h : φ.1 255 ≠ 0) : bd1 (up gM) f φ S = f () φ S := bd1_up (by simp [gM, h])
theorem b1_gd {β : Type} {c : Prop} [Decidable c] {f : Unit → am1 β} {φ : amSh} {S : amSt} (h : c) : bd1 (up (gd c)) f φ S = f () φ S := bd1_up (by simp [gd, h])
theorem b1_nn {β : Type} {r : Nat} {f : Unit → am1 β} {φ : amSh} {S : amSt} (h : r ≠ 0) : bd1 (up (nn r)) f φ S = f () φ S := b1_gd h
theorem b1_gI {β : Type} {p r j : Nat} {f : Int32 → am1 β} {φ : amSh} {S : amSt} (h : r ≠ 0) : bd1 (up (gI p r j)) f φ S = f (S.1 p r j) φ S := bd1_up (by simp [gI, h])
theorem b1_gI1 {β : Type} {p j : Nat} {f : Int32 → am1 β} {φ : amSh} {S : amSt} : bd1 (up (gI p 1 j)) f φ S = f (S.1 p 1 j) φ S := b1_gI (by decide)
theorem b1_pI {β : Type} {p r j : Nat} {v : Int32} {f : Unit → am1 β} {φ : amSh} {S : amSt} (h : r ≠ 0) : bd1 (up (pI p r j v)) f φ S = f () φ (u3 S.1 p r j v, S.2) := bd1_up (by simp [pI, h])
theorem b1_pI1 {β : Type} {p j : Nat} {v : Int32} {f : Unit → am1 β} {φ : amSh} {S : amSt} : bd1 (up (pI p 1 j v)) f φ S = f () φ (u3 S.1 p 1 j v, S.2) := b1_pI (by decide)
theorem b1_gR {β : Type} {p r j : Nat} {f : Nat → am1 β} {φ : amSh} {S : amSt} (h : r ≠ 0) : bd1 (up (gR p r j)) f φ S = f (S.2.2 p r j) φ S := bd1_up (by simp [gR, h])
theorem b1_gR1 {β : Type} {p j : Nat} {f : Nat → am1 β} {φ : amSh} {S : amSt} : bd1 (up (gR p 1 j)) f φ S = f (S.2.2 p 1 j) φ S := b1_gR (by decide)
theorem b1_pR {β : Type} {p r j v : Nat} {f : Unit → am1 β} {φ : amSh} {S : amSt} (h : r ≠ 0) : bd1 (up (pR p r j v)) f φ S = f () φ (S.1, S.2.1, u3 S.2.2 p r j v) := bd1_up (by simp [pR, h])
theorem b1_pR1 {β : Type} {p j v : Nat} {f : Unit → am1 β} {φ : amSh} {S : amSt} : bd1 (up (pR p 1 j v)) f φ S = f () φ (S.1, S.2.1, u3 S.2.2 p 1 j v) := b1_pR (by decide)
theorem bd1_wI {β : Type} {p r i : Nat} {v : Int32} {f : Unit → am1 β} {φ : amSh} {S : amSt} (hr : r ≠ 0) (h : i < am_pl p r) (h2 : i < 2147483648) : bd1 (up (wI p r (iN i) v)) f φ S = f () φ (u3 S.1 p r i v, S.2) := bd1_up (by simp only [wI]; rw [if_pos ⟨hr, amIn_iN h h2⟩, iN_nat h2])
theorem bd1_rI {β : Type} {p r i : Nat} {f : Int32 → am1 β} {φ : amSh} {S : amSt} (hr : r ≠ 0) (h : i < am_pl p r) (h2 : i < 2147483648) : bd1 (up (rI p r (iN i))) f φ S = f (S.1 p r i) φ S := bd1_up (by simp only [rI]; rw [if_pos ⟨hr, amIn_iN h h2⟩, iN_nat h2])
theorem bd1_rR {β : Type} {p r i : Nat} {f : Nat → am1 β} {φ : amSh} {S : amSt} (hr : r ≠ 0) (h : i < am_pl p r) (h2 : i < 2147483648) : bd1 (up (rR p r (iN i))) f φ S = f (S.2.2 p r i) φ S := bd1_up (by simp only [rR]; rw [if_pos ⟨hr, amIn_iN h h2⟩, iN_nat h2])
theorem bd1_wR {β : Type} {p r i v : Nat} {f : Unit → am1 β} {φ : amSh} {S : amSt} (hr : r ≠ 0) (h : i < am_pl p r) (h2 : i < 2147483648) : bd1 (up (wR p r (iN i) v)) f φ S = f () φ (S.1, S.2.1, u3 S.2.2 p r i v) := bd1_up (by simp only [wR]; rw [if_pos ⟨hr, amIn_iN h h2⟩, iN_nat h2])
/-- the shape and the store behind a new object -/
def nφ (φ : amSh) (p c : Nat) : amSh := (fun q => if q = p then φ.1 p + 1 else φ.1 q, u2 φ.2.1 p (φ.1 p + 1) 0, u2 φ.2.2 p (φ.1 p + 1) c)
def nS (φ : amSh) (S : amSt) (p : Nat) : amSt := (u2 S.1 p (φ.1 p + 1) (fun _ => 0), u2 S.2.1 p (φ.1 p + 1) (fun _ => 0), u2 S.2.2 p (φ.1 p + 1) (fun _ => 0))
theorem nw_ap {p c n : Nat} {φ : amSh} {S : amSt} : nw p c n φ S = some (φ.1 p + 1, nφ φ p c, nS φ S p, 1, n) := nrfl rfl
theorem b1_nw {β : Type} {p c n : Nat} {f : Nat → am1 β} {φ : amSh} {S : amSt} : bd1 (nw p c n) f φ S = amAc 1 n (f (φ.1 p + 1) (nφ φ p c) (nS φ S p)) := bd1_of nw_ap
theorem b1_nwA {β : Type} {p n : Nat} {f : Nat → am1 β} {φ : amSh} {S : amSt} (h : am_pl p (φ.1 p + 1) = n) : bd1 (nwA p (iN n)) f φ S = amAc 1 n (f (φ.1 p + 1) (nφ φ p 0) (nS φ S p)) := by
  refine bd1_of ?_
  unfold nwA
  rw [if_pos (by rw [h]; rfl), h]
  rfl
theorem b1_pC {β : Type} {p r s e v : Nat} {f : Unit → am1 β} {φ : amSh} {S : amSt} (hr : r ≠ 0) (hs : φ.2.1 p r = s) (hv : v = e) : bd1 (pC p r s e v) f φ S = f () (φ.1, u2 φ.2.1 p r (s + 1), φ.2.2) S := by
  rw [bd1_of (k := 0) (n := 0) (a := ()) (φ1 := (φ.1, u2 φ.2.1 p r (s + 1), φ.2.2)) (S1 := S) (by unfold pC; rw [if_pos ⟨hr, hs, hv⟩]), amAc_0]
theorem nφ_n {φ : amSh} {p c : Nat} : (nφ φ p c).1 p = φ.1 p + 1 := by simp [nφ]
theorem nφ_o {φ : amSh} {p c q : Nat} (h : q ≠ p) : (nφ φ p c).1 q = φ.1 q := by simp [nφ, h]
theorem nφ_s {φ : amSh} {p c : Nat} : (nφ φ p c).2.1 p (φ.1 p + 1) = 0 := by simp [nφ, u2]
theorem nφ_so {φ : amSh} {p c q r : Nat} (h : q ≠ p ∨ r ≠ φ.1 p + 1) : (nφ φ p c).2.1 q r = φ.2.1 q r := by
  simp only [nφ, u2]; rw [if_neg (by rcases h with h | h <;> exact fun z => h (by simp [z]))]
theorem nφ_c {φ : amSh} {p c : Nat} : (nφ φ p c).2.2 p (φ.1 p + 1) = c := by simp [nφ, u2]
theorem nφ_co {φ : amSh} {p c q r : Nat} (h : q ≠ p ∨ r ≠ φ.1 p + 1) : (nφ φ p c).2.2 q r = φ.2.2 q r := by
  simp only [nφ, u2]; rw [if_neg (by rcases h with h | h <;> exact fun z => h (by simp [z]))]
theorem nS_n {φ : amSh} {S : amSt} {p j : Nat} : (nS φ S p).1 p (φ.1 p + 1) j = 0 ∧ (nS φ S p).2.2 p (φ.1 p + 1) j = 0 ∧ (nS φ S p).2.1 p (φ.1 p + 1) j = 0 := by simp [nS, u2]
theorem nS_o {φ : amSh} {S : amSt} {p q r : Nat} (h : q ≠ p ∨ r ≠ φ.1 p + 1) : (nS φ S p).1 q r = S.1 q r ∧ (nS φ S p).2.2 q r = S.2.2 q r ∧ (nS φ S p).2.1 q r = S.2.1 q r := by
  have e : ¬ (q = p ∧ r = φ.1 p + 1) := by rcases h with h | h <;> exact fun z => h (by simp [z])
  simp [nS, u2, e]
/-- results of programs that may make objects: within so many cells and slots -/
def Rs1 {β : Type} (K N : Nat) (Q : β → amSh → amSt → Prop) (o : Option (β × amSh × amSt × Nat × Nat)) : Prop := ∃ b φ S k n, o = some (b, φ, S, k, n) ∧ k ≤ K ∧ n ≤ N ∧ Q b φ S
theorem Rs1.mk {β : Type} {K N k n : Nat} {Q : β → amSh → amSt → Prop} {b : β} {φ : amSh} {S : amSt} (hk : k ≤ K) (hn : n ≤ N) (h : Q b φ S) : Rs1 K N Q (some (b, φ, S, k, n)) := ⟨b, φ, S, k, n, rfl, hk, hn, h⟩
theorem Rs1.ac {β : Type} {K N k n : Nat} {Q : β → amSh → amSt → Prop} {o : Option (β × amSh × amSt × Nat × Nat)} (h : Rs1 K N Q o) : Rs1 (k + K) (n + N) Q (amAc k n o) := by
  obtain ⟨b, φ, S, k1, n1, rfl, hk, hn, hq⟩ := h
  exact ⟨b, φ, S, k + k1, n + n1, rfl, by omega, by omega, hq⟩
theorem Rs1.mono {β : Type} {K N K' N' : Nat} {Q Q' : β → amSh → amSt → Prop} {o : Option (β × amSh × amSt × Nat × Nat)} (h : Rs1 K N Q o) (hk : K ≤ K') (hn : N ≤ N') (hi : ∀ b φ S, Q b φ S → Q' b φ S) : Rs1 K' N' Q' o := by
  obtain ⟨b, φ, S, k1, n1, e, h1, h2, hq⟩ := h
  exact ⟨b, φ, S, k1, n1, e, by omega, by omega, hi b φ S hq⟩
theorem Rs1.acm {β : Type} {K N k n K' N' : Nat} {Q : β → amSh → amSt → Prop} {o : Option (β × amSh × amSt × Nat × Nat)} (h : Rs1 K' N' Q o) (hk : k + K' ≤ K) (hn : n + N' ≤ N) : Rs1 K N Q (amAc k n o) := (h.ac).mono hk hn fun _ _ _ x => x
theorem bd1R {α β : Type} {m : am1 α} {f : α → am1 β} {φ : amSh} {S : amSt} {K N K1 N1 K2 N2 : Nat} {P : β → amSh → amSt → Prop} {Q : α → amSh → amSt → Prop} (h : Rs1 K1 N1 Q (m φ S)) (hf : ∀ a φ1 S1, Q a φ1 S1 → Rs1 K2 N2 P (f a φ1 S1)) (hK : K1 + K2 ≤ K) (hN : N1 + N2 ≤ N) : Rs1 K N P (bd1 m f φ S) := by
  obtain ⟨a, φ1, S1, k, n, e, h1, h2, q⟩ := h
  rw [bd1_of e]
  exact (hf a φ1 S1 q).ac.mono (by omega) (by omega) fun _ _ _ x => x
theorem bd1R0 {α β : Type} {m : am0 α} {f : α → am1 β} {φ : amSh} {S : amSt} {P : Option (β × amSh × amSt × Nat × Nat) → Prop} {Q : α → amSt → Prop} (h : Rs Q (m φ S)) (hf : ∀ a S1, Q a S1 → P (f a φ S1)) : P (bd1 (up m) f φ S) := by
  obtain ⟨a, S1, e, q⟩ := h
  rw [bd1_up e]
  exact hf a S1 q
theorem nS_i {φ : amSh} {S : amSt} {p q : Nat} (h : q ≠ p) : (nS φ S p).1 q = S.1 q := by funext r j; simp [nS, u2, h]
theorem nS_r {φ : amSh} {S : amSt} {p q : Nat} (h : q ≠ p) : (nS φ S p).2.2 q = S.2.2 q := by funext r j; simp [nS, u2, h]
theorem nS_d {φ : amSh} {S : amSt} {p q : Nat} (h : q ≠ p) : (nS φ S p).2.1 q = S.2.1 q := by funext r j; simp [nS, u2, h]
theorem nS_ir {φ : amSh} {S : amSt} {p n r : Nat} (h : φ.1 p = n) (h2 : r ≠ n + 1) : (nS φ S p).1 p r = S.1 p r := by subst h; funext j; simp [nS, u2, h2]
theorem nS_rr {φ : amSh} {S : amSt} {p n r : Nat} (h : φ.1 p = n) (h2 : r ≠ n + 1) : (nS φ S p).2.2 p r = S.2.2 p r := by subst h; funext j; simp [nS, u2, h2]
theorem nS_i0 {φ : amSh} {S : amSt} {p n j : Nat} (h : φ.1 p = n) : (nS φ S p).1 p (n + 1) j = 0 := by subst h; simp [nS, u2]
theorem nS_r0 {φ : amSh} {S : amSt} {p n j : Nat} (h : φ.1 p = n) : (nS φ S p).2.2 p (n + 1) j = 0 := by subst h; simp [nS, u2]
theorem nφ_1 {φ : amSh} {p c q : Nat} (h : q ≠ p) : (nφ φ p c).1 q = φ.1 q := by simp [nφ, h]
theorem nφ_11 {φ : amSh} {p c : Nat} : (nφ φ p c).1 p = φ.1 p + 1 := by simp [nφ]
theorem nφ_2 {φ : amSh} {p c q : Nat} (h : q ≠ p) : (nφ φ p c).2.1 q = φ.2.1 q := by funext r; simp [nφ, u2, h]
theorem nφ_3 {φ : amSh} {p c q : Nat} (h : q ≠ p) : (nφ φ p c).2.2 q = φ.2.2 q := by funext r; simp [nφ, u2, h]
theorem nφ_2r {φ : amSh} {p c n r : Nat} (h : φ.1 p = n) (h2 : r ≠ n + 1) : (nφ φ p c).2.1 p r = φ.2.1 p r := by subst h; simp [nφ, u2, h2]
theorem nφ_3r {φ : amSh} {p c n r : Nat} (h : φ.1 p = n) (h2 : r ≠ n + 1) : (nφ φ p c).2.2 p r = φ.2.2 p r := by subst h; simp [nφ, u2, h2]
theorem nφ_20 {φ : amSh} {p c n : Nat} (h : φ.1 p = n) : (nφ φ p c).2.1 p (n + 1) = 0 := by subst h; simp [nφ, u2]
theorem nφ_30 {φ : amSh} {p c n : Nat} (h : φ.1 p = n) : (nφ φ p c).2.2 p (n + 1) = c := by subst h; simp [nφ, u2]
theorem u2_op {α : Type} {f : Nat → Nat → α} {p r p' : Nat} {v : α} (h : p' ≠ p) : u2 f p r v p' = f p' := by funext r'; simp [u2, h]
theorem u2_or {α : Type} {f : Nat → Nat → α} {p r r' : Nat} {v : α} (h : r' ≠ r) : u2 f p r v p r' = f p r' := by simp [u2, h]
theorem u2_eq {α : Type} {f : Nat → Nat → α} {p r : Nat} {v : α} : u2 f p r v p r = v := by simp [u2]
