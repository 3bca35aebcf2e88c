/-! PURE: streets as a graph; feet -/
abbrev CSt : Type := (Nat) × (Nat → Nat) × (Nat → Nat) × (Nat → Nat) × (Nat → Nat) × (Nat → Int32) × (Nat → Nat → Nat)
def CSt.mk (n : Nat) (one : Nat → Nat) (oth : Nat → Nat) (len : Nat → Nat) (jam : Nat → Nat) (cl : Nat → Int32) (d : Nat → Nat → Nat) : CSt := (n, one, oth, len, jam, cl, d)
def CSt.n (c : CSt) : Nat := c.1
def CSt.one (c : CSt) : Nat → Nat := c.2.1
def CSt.oth (c : CSt) : Nat → Nat := c.2.2.1
def CSt.len (c : CSt) : Nat → Nat := c.2.2.2.1
def CSt.jam (c : CSt) : Nat → Nat := c.2.2.2.2.1
def CSt.cl (c : CSt) : Nat → Int32 := c.2.2.2.2.2.1
def CSt.d (c : CSt) : Nat → Nat → Nat := c.2.2.2.2.2.2
def CSt.s_n (c : CSt) (v : Nat) : CSt := CSt.mk v c.one c.oth c.len c.jam c.cl c.d
def CSt.s_one (c : CSt) (v : Nat → Nat) : CSt := CSt.mk c.n v c.oth c.len c.jam c.cl c.d
def CSt.s_oth (c : CSt) (v : Nat → Nat) : CSt := CSt.mk c.n c.one v c.len c.jam c.cl c.d
def CSt.s_len (c : CSt) (v : Nat → Nat) : CSt := CSt.mk c.n c.one c.oth v c.jam c.cl c.d
def CSt.s_jam (c : CSt) (v : Nat → Nat) : CSt := CSt.mk c.n c.one c.oth c.len v c.cl c.d
def CSt.s_cl (c : CSt) (v : Nat → Int32) : CSt := CSt.mk c.n c.one c.oth c.len c.jam v c.d
def CSt.s_d (c : CSt) (v : Nat → Nat → Nat) : CSt := CSt.mk c.n c.one c.oth c.len c.jam c.cl v
def Path (c : CSt) (a b n : Nat) : Prop := ∀ P : Nat → Nat → Prop, P a 0 → (∀ n s, P (c.one s) n → s < c.n → P (c.oth s) (n + c.len s)) → (∀ n s, P (c.oth s) n → s < c.n → P (c.one s) (n + c.len s)) → P b n
theorem Path.nil {c : CSt} {a : Nat} : Path c a a 0 := fun _ h _ _ => h
theorem Path.fw {c : CSt} {a n s : Nat} (h : Path c a (c.one s) n) (hs : s < c.n) : Path c a (c.oth s) (n + c.len s) := fun P h0 h1 h2 => h1 n s (h P h0 h1 h2) hs
theorem Path.bw {c : CSt} {a n s : Nat} (h : Path c a (c.oth s) n) (hs : s < c.n) : Path c a (c.one s) (n + c.len s) := fun P h0 h1 h2 => h2 n s (h P h0 h1 h2) hs
theorem Path.ind {c : CSt} {a : Nat} {motive : (b n : Nat) → Path c a b n → Prop} (nil : motive a 0 Path.nil) (fw : ∀ {n s : Nat} (p : Path c a (c.one s) n) (hs : s < c.n), motive _ _ p → motive _ _ (p.fw hs)) (bw : ∀ {n s : Nat} (p : Path c a (c.oth s) n) (hs : s < c.n), motive _ _ p → motive _ _ (p.bw hs)) {b n : Nat} (h : Path c a b n) : motive b n h := by
  have := h (fun b n => ∃ p : Path c a b n, motive b n p) ⟨Path.nil, nil⟩ (fun n s ⟨p, q⟩ hs => ⟨p.fw hs, fw p hs q⟩) (fun n s ⟨p, q⟩ hs => ⟨p.bw hs, bw p hs q⟩)
  obtain ⟨_, q⟩ := this
  exact q
theorem Path.app {c : CSt} {a b e n m : Nat} (h : Path c a b n) (h2 : Path c b e m) : Path c a e (n + m) := by
  induction h2 using Path.ind with
  | nil => exact h
  | fw _ hs ih => rw [← Nat.add_assoc]; exact .fw ih hs
  | bw _ hs ih => rw [← Nat.add_assoc]; exact .bw ih hs
theorem Path.rev {c : CSt} {a b n : Nat} (h : Path c a b n) : Path c b a n := by
  induction h using Path.ind with
  | nil => exact .nil
  | @fw n s _ hs ih =>
    have := Path.app (.bw (a := c.oth s) .nil hs) ih
    rw [Nat.zero_add, Nat.add_comm] at this
    exact this
  | @bw n s _ hs ih =>
    have := Path.app (.fw (a := c.one s) .nil hs) ih
    rw [Nat.zero_add, Nat.add_comm] at this
    exact this
def CSt.WF (c : CSt) : Prop := (c.n ≤ 40) ∧ (∀ s, s < c.n → c.one s < 20) ∧ (∀ s, s < c.n → c.oth s < 20) ∧ (∀ s, s < c.n → 1 ≤ c.len s ∧ c.len s ≤ 20) ∧ (∀ s p, s < c.n → p < 4 → 100 ≤ c.jam (4 * s + p) ∧ c.jam (4 * s + p) ≤ 400) ∧ (∀ s, c.n ≤ s → c.cl s = 0) ∧ (∀ a b, c.d a b ≤ 1000000) ∧ (∀ a b n, a < 20 → Path c a b n → c.d a b ≤ n) ∧ (∀ a b, a < 20 → b < 20 → c.d a b = 1000000 ∨ Path c a b (c.d a b))
theorem CSt.WF.hn {c : CSt} (h : CSt.WF c) : c.n ≤ 40 := And.left h
theorem CSt.WF.one {c : CSt} (h : CSt.WF c) : ∀ s, s < c.n → c.one s < 20 := And.left (And.right h)
theorem CSt.WF.oth {c : CSt} (h : CSt.WF c) : ∀ s, s < c.n → c.oth s < 20 := And.left (And.right (And.right h))
theorem CSt.WF.len {c : CSt} (h : CSt.WF c) : ∀ s, s < c.n → 1 ≤ c.len s ∧ c.len s ≤ 20 := And.left (And.right (And.right (And.right h)))
theorem CSt.WF.jam {c : CSt} (h : CSt.WF c) : ∀ s p, s < c.n → p < 4 → 100 ≤ c.jam (4 * s + p) ∧ c.jam (4 * s + p) ≤ 400 := And.left (And.right (And.right (And.right (And.right h))))
theorem CSt.WF.clo {c : CSt} (h : CSt.WF c) : ∀ s, c.n ≤ s → c.cl s = 0 := And.left (And.right (And.right (And.right (And.right (And.right h)))))
theorem CSt.WF.dle {c : CSt} (h : CSt.WF c) : ∀ a b, c.d a b ≤ 1000000 := And.left (And.right (And.right (And.right (And.right (And.right (And.right h))))))
theorem CSt.WF.dmin {c : CSt} (h : CSt.WF c) : ∀ a b n, a < 20 → Path c a b n → c.d a b ≤ n := And.left (And.right (And.right (And.right (And.right (And.right (And.right (And.right h)))))))
theorem CSt.WF.dsnd {c : CSt} (h : CSt.WF c) : ∀ a b, a < 20 → b < 20 → c.d a b = 1000000 ∨ Path c a b (c.d a b) := (And.right (And.right (And.right (And.right (And.right (And.right (And.right (And.right h))))))))
theorem CSt.WF.mk {c : CSt} (h_hn : c.n ≤ 40) (h_one : ∀ s, s < c.n → c.one s < 20) (h_oth : ∀ s, s < c.n → c.oth s < 20) (h_len : ∀ s, s < c.n → 1 ≤ c.len s ∧ c.len s ≤ 20) (h_jam : ∀ s p, s < c.n → p < 4 → 100 ≤ c.jam (4 * s + p) ∧ c.jam (4 * s + p) ≤ 400) (h_clo : ∀ s, c.n ≤ s → c.cl s = 0) (h_dle : ∀ a b, c.d a b ≤ 1000000) (h_dmin : ∀ a b n, a < 20 → Path c a b n → c.d a b ≤ n) (h_dsnd : ∀ a b, a < 20 → b < 20 → c.d a b = 1000000 ∨ Path c a b (c.d a b)) : CSt.WF c := And.intro h_hn (And.intro h_one (And.intro h_oth (And.intro h_len (And.intro h_jam (And.intro h_clo (And.intro h_dle (And.intro h_dmin (h_dsnd))))))))
theorem CSt.WF.d0 {c : CSt} (h : c.WF) {a : Nat} (ha : a < 20) : c.d a a = 0 := Nat.le_zero.mp (h.dmin a a 0 ha .nil)
theorem CSt.WF.sym {c : CSt} (h : c.WF) {a b : Nat} (ha : a < 20) (hb : b < 20) : c.d a b = c.d b a := by
  have := h.dle a b
  have := h.dle b a
  rcases h.dsnd a b ha hb with e | p
  · rcases h.dsnd b a hb ha with e' | p'
    · omega
    · have := h.dmin a b _ ha p'.rev; omega
  · have := h.dmin b a _ hb p.rev
    rcases h.dsnd b a hb ha with e' | p'
    · omega
    · have := h.dmin a b _ ha p'.rev; omega
theorem CSt.WF.tri {c : CSt} (h : c.WF) {a b e : Nat} (ha : a < 20) (hb : b < 20) (he : e < 20) : c.d a e ≤ c.d a b + c.d b e := by
  have := h.dle a e
  rcases h.dsnd a b ha hb with e1 | p1
  · omega
  · rcases h.dsnd b e hb he with e2 | p2
    · omega
    · exact h.dmin a e _ ha (p1.app p2)
theorem CSt.WF.fw {c : CSt} (h : c.WF) {a s : Nat} (ha : a < 20) (hs : s < c.n) : c.d a (c.oth s) ≤ c.d a (c.one s) + c.len s := by
  have := h.dle a (c.oth s)
  rcases h.dsnd a _ ha (h.one s hs) with e1 | p1
  · omega
  · exact h.dmin a _ _ ha (p1.fw hs)
theorem CSt.WF.bw {c : CSt} (h : c.WF) {a s : Nat} (ha : a < 20) (hs : s < c.n) : c.d a (c.one s) ≤ c.d a (c.oth s) + c.len s := by
  have := h.dle a (c.one s)
  rcases h.dsnd a _ ha (h.oth s hs) with e1 | p1
  · omega
  · exact h.dmin a _ _ ha (p1.bw hs)
/-- feet with the other 'never' -/
def CSt.d9 (c : CSt) (a b : Nat) : Nat := if c.d a b = 1000000 then 1000000000 else c.d a b
theorem d9_uniq {c : CSt} (h : c.WF) {a : Nat} (ha : a < 20) {f : Nat → Nat} (f0 : f a = 0) (snd : ∀ b, b < 20 → f b = 1000000000 ∨ (Path c a b (f b) ∧ f b ≤ 400)) (hle : ∀ b, f b ≤ 1000000000)
    (hf : ∀ s, s < c.n → f (c.oth s) ≤ f (c.one s) + c.len s) (hb : ∀ s, s < c.n → f (c.one s) ≤ f (c.oth s) + c.len s) {b : Nat} (hb2 : b < 20) : f b = c.d9 a b := by
  have hm : ∀ b n, Path c a b n → f b ≤ n := by
    intro b n p
    induction p using Path.ind with
    | nil => omega
    | fw _ hs ih => have := hf _ hs; omega
    | bw _ hs ih => have := hb _ hs; omega
  unfold CSt.d9
  have := h.dle a b
  rcases snd b hb2 with e | ⟨p, hl⟩
  · rcases h.dsnd a b ha hb2 with e2 | p2
    · rw [if_pos e2, e]
    · have h3 := hm b _ p2
      omega
  · have h3 := h.dmin a b _ ha p
    rw [if_neg (by omega)]
    rcases h.dsnd a b ha hb2 with e2 | p2
    · omega
    · have := hm b _ p2
      omega
/-! a new street -/
def CSt.add (c : CSt) (a1 a2 l : Nat) (D : Nat → Nat → Nat) : CSt := CSt.mk (c.n + 1) (pup c.one c.n a1) (pup c.oth c.n a2) (pup c.len c.n l) (fun k => if 4 * c.n ≤ k ∧ k < 4 * c.n + 4 then 100 else c.jam k) c.cl D
theorem Path.lift {c : CSt} {a1 a2 l : Nat} {D : Nat → Nat → Nat} {a b n : Nat} (h : Path c a b n) : Path (c.add a1 a2 l D) a b n := by
  induction h using Path.ind with
  | nil => exact .nil
  | @fw n s _ hs ih =>
    have e1 : (c.add a1 a2 l D).one s = c.one s := pup_ne (by omega)
    have e2 : (c.add a1 a2 l D).oth s = c.oth s := pup_ne (by omega)
    have e3 : (c.add a1 a2 l D).len s = c.len s := pup_ne (by omega)
    rw [← e1] at ih
    have := Path.fw ih (show s < c.n + 1 by omega)
    rw [e2, e3] at this
    exact this
  | @bw n s _ hs ih =>
    have e1 : (c.add a1 a2 l D).one s = c.one s := pup_ne (by omega)
    have e2 : (c.add a1 a2 l D).oth s = c.oth s := pup_ne (by omega)
    have e3 : (c.add a1 a2 l D).len s = c.len s := pup_ne (by omega)
    rw [← e2] at ih
    have := Path.bw ih (show s < c.n + 1 by omega)
    rw [e1, e3] at this
    exact this
theorem Path.new12 {c : CSt} {a1 a2 l : Nat} {D : Nat → Nat → Nat} : Path (c.add a1 a2 l D) a1 a2 l := by
  have e1 : (c.add a1 a2 l D).one c.n = a1 := pup_eq
  have e2 : (c.add a1 a2 l D).oth c.n = a2 := pup_eq
  have e3 : (c.add a1 a2 l D).len c.n = l := pup_eq
  have := Path.fw (c := c.add a1 a2 l D) (a := a1) (s := c.n) (n := 0) (by rw [e1]; exact .nil) (Nat.lt_succ_self _)
  rw [e2, e3, Nat.zero_add] at this
  exact this
/-- the feet through the new street -/
def viaN (c : CSt) (a1 a2 l a b : Nat) : Nat := min (c.d a b) (min (c.d a a1 + l + c.d a2 b) (c.d a a2 + l + c.d a1 b))
theorem viaN_le {c : CSt} (h : c.WF) {a1 a2 l : Nat} {D : Nat → Nat → Nat} (h1 : a1 < 20) (h2 : a2 < 20) {a : Nat} (ha : a < 20) {b n : Nat} (p : Path (c.add a1 a2 l D) a b n) : viaN c a1 a2 l a b ≤ n := by
  have z1 := h.d0 h1
  have z2 := h.d0 h2
  induction p using Path.ind with
  | nil => unfold viaN; have := h.d0 ha; omega
  | @fw n s _ hs ih =>
    by_cases e : s = c.n
    · subst e
      have e1 : (c.add a1 a2 l D).one c.n = a1 := pup_eq
      have e2 : (c.add a1 a2 l D).oth c.n = a2 := pup_eq
      have e3 : (c.add a1 a2 l D).len c.n = l := pup_eq
      rw [e1] at ih
      rw [e2, e3]
      unfold viaN at ih ⊢
      omega
    · have hs2 : s < c.n := by have : s < c.n + 1 := hs; omega
      have e1 : (c.add a1 a2 l D).one s = c.one s := pup_ne e
      have e2 : (c.add a1 a2 l D).oth s = c.oth s := pup_ne e
      have e3 : (c.add a1 a2 l D).len s = c.len s := pup_ne e
      rw [e1] at ih
      rw [e2, e3]
      have q1 := h.fw ha hs2
      have q2 := h.fw h1 hs2
      have q3 := h.fw h2 hs2
      unfold viaN at ih ⊢
      omega
  | @bw n s _ hs ih =>
    by_cases e : s = c.n
    · subst e
      have e1 : (c.add a1 a2 l D).one c.n = a1 := pup_eq
      have e2 : (c.add a1 a2 l D).oth c.n = a2 := pup_eq
      have e3 : (c.add a1 a2 l D).len c.n = l := pup_eq
      rw [e2] at ih
      rw [e1, e3]
      unfold viaN at ih ⊢
      omega
    · have hs2 : s < c.n := by have : s < c.n + 1 := hs; omega
      have e1 : (c.add a1 a2 l D).one s = c.one s := pup_ne e
      have e2 : (c.add a1 a2 l D).oth s = c.oth s := pup_ne e
      have e3 : (c.add a1 a2 l D).len s = c.len s := pup_ne e
      rw [e2] at ih
      rw [e1, e3]
      have q1 := h.bw ha hs2
      have q2 := h.bw h1 hs2
      have q3 := h.bw h2 hs2
      unfold viaN at ih ⊢
      omega
/-- what a matrix of feet must keep while it is gone over -/
def Snd (c : CSt) (a1 a2 l : Nat) (D : Nat → Nat → Nat) : Prop := ∀ a b, a < 20 → b < 20 → D a b ≤ 1000000 ∧ (D a b = 1000000 ∨ ∀ D', Path (c.add a1 a2 l D') a b (D a b))
theorem Path.swapD {c : CSt} {a1 a2 l : Nat} {D D' : Nat → Nat → Nat} {a b n : Nat} (h : Path (c.add a1 a2 l D) a b n) : Path (c.add a1 a2 l D') a b n := by
  induction h using Path.ind with
  | nil => exact .nil
  | fw _ hs ih => exact Path.fw (c := c.add a1 a2 l D') ih hs
  | bw _ hs ih => exact Path.bw (c := c.add a1 a2 l D') ih hs
theorem add_WF {c : CSt} (h : c.WF) {a1 a2 l : Nat} (hc : c.n < 40) (h1 : a1 < 20) (h2 : a2 < 20) (hl : 1 ≤ l ∧ l ≤ 20) {D : Nat → Nat → Nat} (hs : Snd c a1 a2 l D) (hD : ∀ a b, a < 20 → b < 20 → D a b ≤ viaN c a1 a2 l a b) (hout : ∀ a b, ¬ (a < 20 ∧ b < 20) → D a b = 0) : (c.add a1 a2 l D).WF :=
  CSt.WF.mk
    (by show c.n + 1 ≤ 40; omega)
    (fun s hs => by
    have : s < c.n + 1 := hs
    show pup c.one c.n a1 s < 20
    unfold pup; split
    · exact h1
    · exact h.one s (by omega))
    (fun s hs => by
    have : s < c.n + 1 := hs
    show pup c.oth c.n a2 s < 20
    unfold pup; split
    · exact h2
    · exact h.oth s (by omega))
    (fun s hs => by
    have : s < c.n + 1 := hs
    show 1 ≤ pup c.len c.n l s ∧ pup c.len c.n l s ≤ 20
    unfold pup; split
    · exact hl
    · exact h.len s (by omega))
    (fun s p hs hp => by
    have : s < c.n + 1 := hs
    show 100 ≤ (if 4 * c.n ≤ 4 * s + p ∧ 4 * s + p < 4 * c.n + 4 then 100 else c.jam (4 * s + p)) ∧ (if 4 * c.n ≤ 4 * s + p ∧ 4 * s + p < 4 * c.n + 4 then 100 else c.jam (4 * s + p)) ≤ 400
    split
    · omega
    · exact h.jam s p (by omega) hp)
    (fun s hs => h.clo s (by have : c.n + 1 ≤ s := hs; omega))
    (fun a b => by
    by_cases e : a < 20 ∧ b < 20
    · exact (hs a b e.1 e.2).1
    · show D a b ≤ 1000000; rw [hout a b e]; omega)
    (fun a b n ha p => by
    by_cases e : b < 20
    · exact Nat.le_trans (hD a b ha e) (viaN_le h h1 h2 ha p)
    · show D a b ≤ n; rw [hout a b (fun z => e z.2)]; omega)
    (fun a b ha hb => by
    rcases (hs a b ha hb).2 with e | p
    · exact Or.inl e
    · exact Or.inr (p D))
/-- the matrix after its new street is laid in -/
def D0 (c : CSt) (a1 a2 l : Nat) : Nat → Nat → Nat := fun a b => if (a = a1 ∧ b = a2) ∨ (a = a2 ∧ b = a1) then min (c.d a1 a2) l else c.d a b
theorem D0_snd {c : CSt} (h : c.WF) {a1 a2 l : Nat} (h1 : a1 < 20) (h2 : a2 < 20) (hl : l ≤ 20) : Snd c a1 a2 l (D0 c a1 a2 l) := by
  intro a b ha hb
  have q := h.dle a b
  have q1 := h.dle a1 a2
  have old : ∀ {a b : Nat}, a < 20 → b < 20 → c.d a b = 1000000 ∨ ∀ D', Path (c.add a1 a2 l D') a b (c.d a b) := fun ha hb => by
    rcases h.dsnd _ _ ha hb with e | p
    · exact Or.inl e
    · exact Or.inr fun D' => p.lift
  unfold D0
  split
  · rename_i e
    refine ⟨by omega, ?_⟩
    by_cases hm : c.d a1 a2 ≤ l
    · rw [Nat.min_eq_left hm]
      rcases e with ⟨rfl, rfl⟩ | ⟨rfl, rfl⟩
      · exact old ha hb
      · rw [h.sym h1 h2]; exact old ha hb
    · rw [Nat.min_eq_right (by omega)]
      rcases e with ⟨rfl, rfl⟩ | ⟨rfl, rfl⟩
      · exact Or.inr fun D' => Path.new12
      · exact Or.inr fun D' => Path.new12.rev
  · exact ⟨q, old ha hb⟩
/-- phases of the triple loop -/
theorem via_of {c : CSt} (h : c.WF) {a1 a2 l : Nat} (h1 : a1 < 20) (h2 : a2 < 20) (hne : a1 ≠ a2) (D : Nat → Nat → Nat → Nat) (hD0 : D 0 = D0 c a1 a2 l) (hle : ∀ k a b, k < 20 → a < 20 → b < 20 → D (k + 1) a b ≤ D k a b ∧ D (k + 1) a b ≤ D k a k + D k k b) :
    ∀ a b, a < 20 → b < 20 → D 20 a b ≤ viaN c a1 a2 l a b := by
  have mono : ∀ m k a b, k + m ≤ 20 → a < 20 → b < 20 → D (k + m) a b ≤ D k a b := by
    intro m
    induction m with
    | zero => intros; exact Nat.le_refl _
    | succ m ih => intro k a b hk ha hb; exact Nat.le_trans (hle (k + m) a b (by omega) ha hb).1 (ih k a b (by omega) ha hb)
  have mono2 : ∀ j k a b, j ≤ k → k ≤ 20 → a < 20 → b < 20 → D k a b ≤ D j a b := fun j k a b hjk hk ha hb => by
    have := mono (k - j) j a b (by omega) ha hb
    rwa [show j + (k - j) = k by omega] at this
  have base : ∀ k a b, k ≤ 20 → a < 20 → b < 20 → D k a b ≤ c.d a b := fun k a b hk ha hb => by
    refine Nat.le_trans (mono2 0 k a b (by omega) hk ha hb) ?_
    rw [hD0]
    unfold D0
    split
    · rename_i e
      rcases e with ⟨rfl, rfl⟩ | ⟨rfl, rfl⟩
      · omega
      · rw [h.sym h1 h2]; omega
    · exact Nat.le_refl _
  have e12 : ∀ k, k ≤ 20 → D k a1 a2 ≤ l ∧ D k a2 a1 ≤ l := fun k hk => by
    have p1 := mono2 0 k a1 a2 (by omega) hk h1 h2
    have p2 := mono2 0 k a2 a1 (by omega) hk h2 h1
    rw [hD0] at p1 p2
    have q1 : D0 c a1 a2 l a1 a2 ≤ l := by simp [D0]; omega
    have q2 : D0 c a1 a2 l a2 a1 ≤ l := by simp [D0]; omega
    omega
  intro a b ha hb
  have r0 := base 20 a b (by omega) ha hb
  unfold viaN
  rcases Nat.lt_or_gt_of_ne hne with hlt | hlt
  · have f1 := (hle a1 a a2 h1 ha h2).2
    have f2 := base a1 a a1 (by omega) ha h1
    have f3 := (e12 a1 (by omega)).1
    have f4 := mono2 (a1 + 1) a2 a a2 (by omega) (by omega) ha h2
    have f5 := (hle a2 a b h2 ha hb).2
    have f6 := base a2 a2 b (by omega) h2 hb
    have f7 := mono2 (a2 + 1) 20 a b (by omega) (by omega) ha hb
    have g1 := (hle a1 a2 b h1 h2 hb).2
    have g2 := (e12 a1 (by omega)).2
    have g3 := base a1 a1 b (by omega) h1 hb
    have g4 := mono2 (a1 + 1) a2 a2 b (by omega) (by omega) h2 hb
    have g5 := base a2 a a2 (by omega) ha h2
    omega
  · have f1 := (hle a2 a a1 h2 ha h1).2
    have f2 := base a2 a a2 (by omega) ha h2
    have f3 := (e12 a2 (by omega)).2
    have f4 := mono2 (a2 + 1) a1 a a1 (by omega) (by omega) ha h1
    have f5 := (hle a1 a b h1 ha hb).2
    have f6 := base a1 a1 b (by omega) h1 hb
    have f7 := mono2 (a1 + 1) 20 a b (by omega) (by omega) ha hb
    have g1 := (hle a2 a1 b h2 h1 hb).2
    have g2 := (e12 a2 (by omega)).1
    have g3 := base a2 a2 b (by omega) h2 hb
    have g4 := mono2 (a2 + 1) a1 a1 b (by omega) (by omega) h1 hb
    have g5 := base a1 a a1 (by omega) ha h1
    omega
