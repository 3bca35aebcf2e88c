/-! the operations of programs -/
abbrev amIn (i : Int32) (n : Nat) : Prop := ¬ (i < 0 ∨ n ≤ i.toNatClampNeg)
def u3 {α : Type} (f : Nat → Nat → Nat → α) (p r j : Nat) (v : α) : Nat → Nat → Nat → α := fun p' r' j' => if p' = p ∧ r' = r ∧ j' = j then v else f p' r' j'
def u2 {α : Type} (f : Nat → Nat → α) (p r : Nat) (v : α) : Nat → Nat → α := fun p' r' => if p' = p ∧ r' = r then v else f p' r'
def gI (p r j : Nat) : am0 Int32 := fun _ S => if r = 0 then none else some (S.1 p r j, S)
def gR (p r j : Nat) : am0 Nat := fun _ S => if r = 0 then none else some (S.2.2 p r j, S)
def gC (p r s : Nat) : am0 Unit := fun φ S => if r ≠ 0 ∧ s < φ.2.1 p r then some ((), S) else none
def gIs (cs : List Nat) (p r j : Nat) : am0 Int32 := fun φ S => if r ≠ 0 ∧ amK φ p r ∈ cs then some (S.1 p r j, S) else none
def gRs (cs : List Nat) (p r j : Nat) : am0 Nat := fun φ S => if r ≠ 0 ∧ amK φ p r ∈ cs then some (S.2.2 p r j, S) else none
def pI (p r j : Nat) (v : Int32) : am0 Unit := fun _ S => if r = 0 then none else some ((), (u3 S.1 p r j v, S.2))
def pIs (cs : List Nat) (p r j : Nat) (v : Int32) : am0 Unit := fun φ S => if r ≠ 0 ∧ amK φ p r ∈ cs then some ((), (u3 S.1 p r j v, S.2)) else none
def pR (p r j : Nat) (v : Nat) : am0 Unit := fun _ S => if r = 0 then none else some ((), (S.1, S.2.1, u3 S.2.2 p r j v))
def pRs (cs : List Nat) (p r j : Nat) (v : Nat) : am0 Unit := fun φ S => if r ≠ 0 ∧ amK φ p r ∈ cs then some ((), (S.1, S.2.1, u3 S.2.2 p r j v)) else none
def rI (p r : Nat) (i : Int32) : am0 Int32 := fun _ S => if r ≠ 0 ∧ amIn i (am_pl p r) then some (S.1 p r i.toNatClampNeg, S) else none
def wI (p r : Nat) (i v : Int32) : am0 Unit := fun _ S => if r ≠ 0 ∧ amIn i (am_pl p r) then some ((), (u3 S.1 p r i.toNatClampNeg v, S.2)) else none
def rR (p r : Nat) (i : Int32) : am0 Nat := fun _ S => if r ≠ 0 ∧ amIn i (am_pl p r) then some (S.2.2 p r i.toNatClampNeg, S) else none
def wR (p r : Nat) (i : Int32) (v : Nat) : am0 Unit := fun _ S => if r ≠ 0 ∧ amIn i (am_pl p r) then some ((), (S.1, S.2.1, u3 S.2.2 p r i.toNatClampNeg v)) else none
def rG (p r : Nat) (i : Int32) : am0 Nat := fun _ S => if r ≠ 0 ∧ amIn i (am_pl p r) then some (i.toNatClampNeg + 1, S) else none
def rD (p r : Nat) (i : Int32) : am0 UInt64 := fun _ S => if r ≠ 0 ∧ amIn i (am_pl p r) then some (S.2.1 p r i.toNatClampNeg, S) else none
def wD (p r : Nat) (i : Int32) (v : UInt64) : am0 Unit := fun _ S => if r ≠ 0 ∧ amIn i (am_pl p r) then some ((), (S.1, u3 S.2.1 p r i.toNatClampNeg v, S.2.2)) else none
def gd (c : Prop) [Decidable c] : am0 Unit := fun _ S => if c then some ((), S) else none
abbrev nz (v : Int32) : am0 Unit := gd (¬ v = 0)
abbrev nn (r : Nat) : am0 Unit := gd (¬ r = 0)
abbrev zg (v : Int32) : am0 Unit := gd (v = 0 ∨ v = 1)
def vc {α : Type} (p r : Nat) (f : Nat → am0 α) : am0 α := fun φ S => if r = 0 then none else f (amK φ p r) φ S
def vc1 {α : Type} (p r : Nat) (f : Nat → am1 α) : am1 α := fun φ S => if r = 0 then none else f (amK φ p r) φ S
/-- a new object of pool p, class c, n fields -/
def nw (p c n : Nat) : am1 Nat := fun φ S =>
  some (φ.1 p + 1, (fun q => if q = p then φ.1 p + 1 else φ.1 q, u2 φ.2.1 p (φ.1 p + 1) 0, u2 φ.2.2 p (φ.1 p + 1) c),
    (u2 S.1 p (φ.1 p + 1) (fun _ => 0), u2 S.2.1 p (φ.1 p + 1) (fun _ => 0), u2 S.2.2 p (φ.1 p + 1) (fun _ => 0)), 1, n)
/-- a new array of pool p -/
def nwA (p : Nat) (n : Int32) : am1 Nat := fun φ S => if n = Int32.ofNat (am_pl p (φ.1 p + 1)) then
  some (φ.1 p + 1, (fun q => if q = p then φ.1 p + 1 else φ.1 q, u2 φ.2.1 p (φ.1 p + 1) 0, u2 φ.2.2 p (φ.1 p + 1) 0),
    (u2 S.1 p (φ.1 p + 1) (fun _ => 0), u2 S.2.1 p (φ.1 p + 1) (fun _ => 0), u2 S.2.2 p (φ.1 p + 1) (fun _ => 0)), 1, am_pl p (φ.1 p + 1)) else none
/-- a final field gets its array (or blaze): the s-th of the object's constants -/
def pC (p r s e v : Nat) : am1 Unit := fun φ S => if r ≠ 0 ∧ φ.2.1 p r = s ∧ v = e then some ((), (φ.1, u2 φ.2.1 p r (s + 1), φ.2.2), S, 0, 0) else none
theorem bd1_up_some {α β : Type} {m : am0 α} {g : α → am1 β} {φ : amSh} {S : amSt} {q : β × amSh × amSt × Nat × Nat} (h : bd1 (up m) g φ S = some q) : ∃ a S1, m φ S = some (a, S1) ∧ g a φ S1 = some q := by
  unfold bd1 up at h
  rcases hm : m φ S with _ | ⟨a, S1⟩
  · rw [hm] at h; cases h
  · rw [hm] at h
    dsimp only at h
    rw [amAc_0] at h
    exact ⟨a, S1, rfl, h⟩
theorem bd1_some {α β : Type} {m : am1 α} {g : α → am1 β} {φ : amSh} {S : amSt} {b : β} {φ' : amSh} {S' : amSt} {k n : Nat} (h : bd1 m g φ S = some (b, φ', S', k, n)) : ∃ a φ1 S1 k1 n1 k2 n2, m φ S = some (a, φ1, S1, k1, n1) ∧ g a φ1 S1 = some (b, φ', S', k2, n2) ∧ k = k1 + k2 ∧ n = n1 + n2 := by
  unfold bd1 at h
  rcases hm : m φ S with _ | ⟨a, φ1, S1, k1, n1⟩
  · rw [hm] at h; cases h
  · rw [hm] at h
    dsimp only at h
    rcases hg : g a φ1 S1 with _ | ⟨b2, φ2, S2, k2, n2⟩
    · rw [hg] at h; cases h
    · rw [hg] at h
      cases h
      exact ⟨a, φ1, S1, k1, n1, k2, n2, rfl, hg, rfl, rfl⟩
section am5
variable {X : amX} {cc : ByteArray} {own : String} {nL F L : Nat} {rtp : Option FieldType} {β : Type} {enc : β → Option Value} {pc : Nat} {l : List (Nat × Value)} {st : List Value}
theorem wu_ {α γ : Type} {m : am0 α} {f : α → am0 γ} {K : γ → am1 β} (h : WG X enc pc l st (bd1 (up m) fun a => bd1 (up (f a)) K)) : WG X enc pc l st (bd1 (up (bd m f)) K) := by rw [bd1_up_bd]; exact h
theorem wv_ {α γ : Type} {m : am1 α} {f : α → am1 γ} {K : γ → am1 β} (h : WG X enc pc l st (bd1 m fun a => bd1 (f a) K)) : WG X enc pc l st (bd1 (bd1 m f) K) := by rw [bd1_assoc]; exact h
theorem wu_rt {α : Type} {a : α} {K : α → am1 β} (h : WG X enc pc l st (K a)) : WG X enc pc l st (bd1 (up (rt a)) K) := by rw [bd1_up_rt]; exact h
theorem wv_rt {α : Type} {a : α} {K : α → am1 β} (h : WG X enc pc l st (K a)) : WG X enc pc l st (bd1 (rt1 a) K) := by rw [bd1_rt1]; exact h
theorem wu_t {α : Type} {c : Prop} [Decidable c] {A B : am0 α} {K : α → am1 β} (h : c) (k : WG X enc pc l st (bd1 (up A) K)) : WG X enc pc l st (bd1 (up (if c then A else B)) K) := by rw [if_pos h]; exact k
theorem wu_f {α : Type} {c : Prop} [Decidable c] {A B : am0 α} {K : α → am1 β} (h : ¬ c) (k : WG X enc pc l st (bd1 (up B) K)) : WG X enc pc l st (bd1 (up (if c then A else B)) K) := by rw [if_neg h]; exact k
theorem wv_t {α : Type} {c : Prop} [Decidable c] {A B : am1 α} {K : α → am1 β} (h : c) (k : WG X enc pc l st (bd1 A K)) : WG X enc pc l st (bd1 (if c then A else B) K) := by rw [if_pos h]; exact k
theorem wv_f {α : Type} {c : Prop} [Decidable c] {A B : am1 α} {K : α → am1 β} (h : ¬ c) (k : WG X enc pc l st (bd1 B K)) : WG X enc pc l st (bd1 (if c then A else B) K) := by rw [if_neg h]; exact k
theorem wg_gd {c : Prop} [Decidable c] {g : Unit → am1 β} (k : c → WG X enc pc l st (g ())) : WG X enc pc l st (bd1 (up (gd c)) g) := by
  obtain ⟨⟨p, lc, e, R, s⟩, ⟨m, args, below, meth, c⟩, ⟨D, dA, ad0, φ0, A⟩, ⟨Q, fin⟩⟩ := X
  intro φ S b φ' S' kc ks hP hf ad H locs cells slots ls hI hc hs hv hvl hl
  obtain ⟨a, S1, hm, hg⟩ := bd1_up_some hP
  unfold gd at hm
  split at hm
  · rename_i hcc
    cases hm
    exact k hcc φ S b φ' S' kc ks hg hf ad H locs cells slots ls hI hc hs hv hvl hl
  · cases hm
/-- loops: the loop's program under a continuation -/
theorem wu_lp {α γ : Type} {F0 : (α → am0 γ) → α → am0 γ} {K : γ → am1 β} {pcl : Nat} {lo : α → List (Nat × Value)} {so : α → List Value} (h : ∀ rec : α → am0 γ, (∀ x, WG X enc pcl (lo x) (so x) (bd1 (up (rec x)) K)) → ∀ x, WG X enc pcl (lo x) (so x) (bd1 (up (F0 rec x)) K)) : ∀ (n : Nat) (x : α), WG X enc pcl (lo x) (so x) (bd1 (up (alp F0 n x)) K) := by
  intro n
  induction n with
  | zero =>
    intro x
    obtain ⟨⟨p, lc, e, R, s⟩, ⟨m, args, below, meth, c⟩, ⟨D, dA, ad0, φ0, A⟩, ⟨Q, fin⟩⟩ := X
    intro φ S b φ' S' kc ks hP
    obtain ⟨a, S1, hm, -⟩ := bd1_up_some hP
    cases hm
  | succ n ih =>
    intro x
    exact h (alp F0 n) ih x
theorem wv_lp {α γ : Type} {F0 : (α → am1 γ) → α → am1 γ} {K : γ → am1 β} {pcl : Nat} {lo : α → List (Nat × Value)} {so : α → List Value} (h : ∀ rec : α → am1 γ, (∀ x, WG X enc pcl (lo x) (so x) (bd1 (rec x) K)) → ∀ x, WG X enc pcl (lo x) (so x) (bd1 (F0 rec x) K)) : ∀ (n : Nat) (x : α), WG X enc pcl (lo x) (so x) (bd1 (alp1 F0 n x) K) := by
  intro n
  induction n with
  | zero =>
    intro x
    obtain ⟨⟨p, lc, e, R, s⟩, ⟨m, args, below, meth, c⟩, ⟨D, dA, ad0, φ0, A⟩, ⟨Q, fin⟩⟩ := X
    intro φ S b φ' S' kc ks hP
    obtain ⟨a, φ1, S1, k1, n1, k2, n2, hm, -⟩ := bd1_some hP
    cases hm
  | succ n ih =>
    intro x
    exact h (alp1 F0 n) ih x
end am5
/-! fields -/
theorem amFs_get {φ : amSh} {S : amSt} {p r : Nat} : ∀ (es : List (Nat × Nat × Nat)) (j i : Nat), (amFs φ S p r j es)[i]? = es[i]?.map (amF φ S p r (j + i)) := by
  intro es
  induction es with
  | nil => intro j i; simp [amFs]
  | cons e es ih =>
    intro j i
    cases i with
    | zero => simp [amFs]
    | succ i => simp only [amFs, List.getElem?_cons_succ]; rw [ih]; congr 2; omega
theorem amFs_set {φ φ' : amSh} {S S' : amSt} {p r j : Nat} {es : List (Nat × Nat × Nat)} {e : Nat × Nat × Nat} (hj : es[j]? = some e) (h : ∀ i x, es[i]? = some x → i ≠ j → amF φ' S' p r i x = amF φ S p r i x) : amFs φ' S' p r 0 es = (amFs φ S p r 0 es).set j (amF φ' S' p r j e) := by
  apply List.ext_getElem?
  intro i
  rw [amFs_get, List.getElem?_set, amFs_get]
  have hlen : (amFs φ S p r 0 es).length = es.length := by
    have : ∀ (es : List (Nat × Nat × Nat)) (j : Nat), (amFs φ S p r j es).length = es.length := by
      intro es
      induction es with
      | nil => intro j; rfl
      | cons a t ih => intro j; simp [amFs, ih]
    exact this es 0
  by_cases hi : j = i
  · subst hi
    rw [if_pos rfl, if_pos (by rw [hlen]; exact (List.getElem?_eq_some_iff.mp hj).1), hj]
    simp
  · rw [if_neg hi]
    cases hx : es[i]? with
    | none => rfl
    | some x => simp [h i x hx (Ne.symm hi)]
theorem va_P1 {D : va_G} {cl : List vw_C} {q : Nat × va_E} {H : Heap} (h : va_at D cl q H) : va_P D cl [q] H := by
  intro k x hx
  cases k with
  | zero => cases hx; exact h
  | succ k => simp at hx
/-- what a field's instruction stands on: own class, pool index, pool, place, entry, classes -/
def amFd (own : String) (idx p j : Nat) (en : Nat × Nat × Nat) (cs : List Nat) : Prop := p < 250 ∧ am_pk p = 0 ∧ ∀ c ∈ cs, ∃ (C : String) (T : u_T) (n : Nat) (ref : String), am_cl[c]? = some (C, T, n) ∧ j < n ∧ (am_lay c)[j]? = some en ∧ (∀ w ∈ u_ws C T n, w ∈ lw_all) ∧
  (Cond.fieldLink own idx ref (T j).2.1 (T j).2.2.1 ∈ lw_all ∨ ∃ host, Cond.fieldLinkNest own idx ref (T j).2.1 (T j).2.2.1 host ∈ lw_tbl) ∧ ((T j).1 = ref ∨ Cond.sameField ref (T j).1 (T j).2.1 (T j).2.2.1 ∈ lw_all)
def amFp (own : String) (idx p j : Nat) (en : Nat × Nat × Nat) (cs : List Nat) (ty : FieldType) (fi : Bool) : Prop := amFd own idx p j en cs ∧ ∀ c ∈ cs, ∀ (C : String) (T : u_T) (n : Nat), am_cl[c]? = some (C, T, n) → (∃ ty0 : Nat → FieldType, ∀ k, k < n → parseFieldDescriptor (T k).2.2.1 = some (ty0 k)) ∧ (∀ a, a < n → ∀ b, b < n → a ≠ b → (T a).2.1 ≠ (T b).2.1) ∧
  parseFieldDescriptor (T j).2.2.1 = some ty ∧ (T j).2.2.2 = fi ∧ (fi = true → (T j).1 = own ∧ ∃ ref, Cond.fieldLink own idx ref (T j).2.1 (T j).2.2.1 ∈ lw_all ∧ (T j).1 = ref)
