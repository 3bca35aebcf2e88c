/-! PURE: frames: which cells a program may write -/
def ky (p r j : Nat) : Nat := if p < 20 then 1000 * (p + 1) + j else if p = 107 then 100000 + r else p
def sm (S S1 : amSt) (p r j : Nat) : Prop := S1.1 p r j = S.1 p r j ∧ S1.2.1 p r j = S.2.1 p r j ∧ S1.2.2 p r j = S.2.2 p r j
theorem sm.rf {S : amSt} {p r j : Nat} : sm S S p r j := ⟨rfl, rfl, rfl⟩
theorem sm.tr {S S1 S2 : amSt} {p r j : Nat} (h : sm S S1 p r j) (h2 : sm S1 S2 p r j) : sm S S2 p r j := ⟨h2.1.trans h.1, h2.2.1.trans h.2.1, h2.2.2.trans h.2.2⟩
def Fr {β : Type} (L : List Nat) (m : am0 β) : Prop := ∀ φ S b S1, m φ S = some (b, S1) → ∀ p r j, ky p r j ∉ L → sm S S1 p r j
def f1 (L : List Nat) (φ : amSh) (S : amSt) (φ1 : amSh) (S1 : amSt) : Prop := (∀ p, φ.1 p ≤ φ1.1 p ∧ (200000 + p ∉ L → φ1.1 p = φ.1 p)) ∧ ∀ p r, r ≤ φ.1 p → φ1.2.2 p r = φ.2.2 p r ∧ φ.2.1 p r ≤ φ1.2.1 p r ∧ ∀ j, ky p r j ∉ L → sm S S1 p r j
def Fr1 {β : Type} (L : List Nat) (m : am1 β) : Prop := ∀ φ S b φ1 S1 k n, m φ S = some (b, φ1, S1, k, n) → f1 L φ S φ1 S1
theorem f1.rf {L : List Nat} {φ : amSh} {S : amSt} : f1 L φ S φ S := ⟨fun _ => ⟨Nat.le_refl _, fun _ => rfl⟩, fun _ _ _ => ⟨rfl, Nat.le_refl _, fun _ _ => sm.rf⟩⟩
theorem f1.tr {L : List Nat} {φ φ1 φ2 : amSh} {S S1 S2 : amSt} (h : f1 L φ S φ1 S1) (h2 : f1 L φ1 S1 φ2 S2) : f1 L φ S φ2 S2 :=
  ⟨fun p => ⟨Nat.le_trans (h.1 p).1 (h2.1 p).1, fun hp => ((h2.1 p).2 hp).trans ((h.1 p).2 hp)⟩, fun p r hr => by
    obtain ⟨a1, a2, a3⟩ := h.2 p r hr
    obtain ⟨b1, b2, b3⟩ := h2.2 p r (Nat.le_trans hr (h.1 p).1)
    exact ⟨b1.trans a1, Nat.le_trans a2 b2, fun j hj => (a3 j hj).tr (b3 j hj)⟩⟩
section
variable {α β γ : Type} {L : List Nat}
theorem Fr.mono {M : List Nat} {m : am0 β} (h : Fr L m) (hs : ∀ x ∈ L, x ∈ M) : Fr M m := fun φ S b S1 e p r j hk => h φ S b S1 e p r j fun hh => hk (hs _ hh)
theorem Fr1.mono {M : List Nat} {m : am1 β} (h : Fr1 L m) (hs : ∀ x ∈ L, x ∈ M) : Fr1 M m := fun φ S b φ1 S1 k n e =>
  ⟨fun p => ⟨((h φ S b φ1 S1 k n e).1 p).1, fun hp => ((h φ S b φ1 S1 k n e).1 p).2 fun hh => hp (hs _ hh)⟩, fun p r hr => by
    obtain ⟨a1, a2, a3⟩ := (h φ S b φ1 S1 k n e).2 p r hr
    exact ⟨a1, a2, fun j hj => a3 j fun hh => hj (hs _ hh)⟩⟩
theorem Fr.hrt {b : β} : Fr L (rt b) := fun φ S b' S1 e p r j _ => by cases e; exact sm.rf
theorem Fr.hfl : Fr L (fl0 : am0 β) := fun φ S b' S1 e => by cases e
theorem Fr.hbd {m : am0 α} {f : α → am0 β} (h : Fr L m) (h2 : ∀ a, Fr L (f a)) : Fr L (bd m f) := fun φ S b S1 e p r j hk => by
  unfold bd at e
  rcases hm : m φ S with _ | ⟨a, S2⟩
  · rw [hm] at e; cases e
  · rw [hm] at e; exact (h φ S a S2 hm p r j hk).tr (h2 a φ S2 b S1 e p r j hk)
theorem Fr.hite {c : Prop} [Decidable c] {a b : am0 β} (h : Fr L a) (h2 : Fr L b) : Fr L (if c then a else b) := by split <;> assumption
theorem Fr.hjn {r : α → am0 γ} {f : (α → am0 γ) → am0 γ} (hr : ∀ a, Fr L (r a)) (hf : ∀ k : α → am0 γ, (∀ a, Fr L (k a)) → Fr L (f k)) : Fr L (jn r f) := hf r hr
theorem Fr.halp {F : (α → am0 β) → α → am0 β} (h : ∀ rec : α → am0 β, (∀ x, Fr L (rec x)) → ∀ x, Fr L (F rec x)) (n : Nat) : ∀ x, Fr L (alp F n x) := by
  induction n with
  | zero => exact fun x => Fr.hfl
  | succ n ih => exact fun x => h _ ih x
theorem Fr.hof_ro {m : am0 β} (h : ∀ φ S b S1, m φ S = some (b, S1) → S1 = S) : Fr L m := fun φ S b S1 e p r j _ => by rw [h φ S b S1 e]; exact sm.rf
theorem Fr.hvc {p r : Nat} {f : Nat → am0 α} (h : ∀ c, Fr L (f c)) : Fr L (vc p r f) := fun φ S b S1 e => by
  unfold vc at e
  split at e
  · cases e
  · exact h _ φ S b S1 e
theorem Fr.hgd {c : Prop} [Decidable c] : Fr L (gd c) := Fr.hof_ro fun φ S b S1 e => by unfold gd at e; split at e <;> cases e; rfl
theorem Fr.hgM : Fr L gM := Fr.hof_ro fun φ S b S1 e => by unfold gM at e; split at e <;> cases e; rfl
theorem Fr.hgI {p r j : Nat} : Fr L (gI p r j) := Fr.hof_ro fun φ S b S1 e => by unfold gI at e; split at e <;> cases e; rfl
theorem Fr.hgR {p r j : Nat} : Fr L (gR p r j) := Fr.hof_ro fun φ S b S1 e => by unfold gR at e; split at e <;> cases e; rfl
theorem Fr.hgR5 {p r j : Nat} : Fr L (gR5 p r j) := Fr.hof_ro fun φ S b S1 e => by unfold gR5 at e; split at e <;> cases e; rfl
theorem Fr.hgC {p r j : Nat} : Fr L (gC p r j) := Fr.hof_ro fun φ S b S1 e => by unfold gC at e; split at e <;> cases e; rfl
theorem Fr.hgIs {cs : List Nat} {p r j : Nat} : Fr L (gIs cs p r j) := Fr.hof_ro fun φ S b S1 e => by unfold gIs at e; split at e <;> cases e; rfl
theorem Fr.hgRs {cs : List Nat} {p r j : Nat} : Fr L (gRs cs p r j) := Fr.hof_ro fun φ S b S1 e => by unfold gRs at e; split at e <;> cases e; rfl
theorem Fr.hrI {p r : Nat} {i : Int32} : Fr L (rI p r i) := Fr.hof_ro fun φ S b S1 e => by unfold rI at e; split at e <;> cases e; rfl
theorem Fr.hrR {p r : Nat} {i : Int32} : Fr L (rR p r i) := Fr.hof_ro fun φ S b S1 e => by unfold rR at e; split at e <;> cases e; rfl
theorem Fr.hrG {p r : Nat} {i : Int32} : Fr L (rG p r i) := Fr.hof_ro fun φ S b S1 e => by unfold rG at e; split at e <;> cases e; rfl
theorem Fr.hrD {p r : Nat} {i : Int32} : Fr L (rD p r i) := Fr.hof_ro fun φ S b S1 e => by unfold rD at e; split at e <;> cases e; rfl
theorem Fr.hrF {p r : Nat} {i : Int32} : Fr L (rF p r i) := Fr.hof_ro fun φ S b S1 e => by unfold rF at e; split at e <;> cases e; rfl
theorem Fr.hsB {r : Nat} {i : Int32} : Fr L (sB r i) := Fr.hof_ro fun φ S b S1 e => by unfold sB at e; split at e <;> cases e; rfl
theorem Fr.hck {cs : List Nat} {q r : Nat} : Fr L (ck cs q r) := Fr.hof_ro fun φ S b S1 e => by unfold ck at e; split at e <;> cases e; rfl
theorem Fr.hio {cs : List Nat} {q r : Nat} : Fr L (io cs q r) := Fr.hof_ro fun φ S b S1 e => by unfold io at e; cases e; rfl
theorem sm_u3 {S : amSt} {p r j p' r' j' : Nat} {v : Int32} (h : ky p r j ≠ ky p' r' j') : sm S (u3 S.1 p r j v, S.2) p' r' j' := by
  refine ⟨?_, rfl, rfl⟩
  simp only [u3]
  rw [if_neg]
  rintro ⟨rfl, rfl, rfl⟩
  exact h rfl
theorem Fr.hpI {p r j : Nat} {v : Int32} (h : ky p r j ∈ L) : Fr L (pI p r j v) := fun φ S b S1 e p' r' j' hk => by
  unfold pI at e
  split at e
  · cases e
  · cases e; exact sm_u3 fun z => hk (z ▸ h)
theorem Fr.hpIs {cs : List Nat} {p r j : Nat} {v : Int32} (h : ky p r j ∈ L) : Fr L (pIs cs p r j v) := fun φ S b S1 e p' r' j' hk => by
  unfold pIs at e
  split at e
  · cases e; exact sm_u3 fun z => hk (z ▸ h)
  · cases e
theorem sm_r3 {S : amSt} {p r j p' r' j' : Nat} {v : Nat} (h : ky p r j ≠ ky p' r' j') : sm S (S.1, S.2.1, u3 S.2.2 p r j v) p' r' j' := by
  refine ⟨rfl, rfl, ?_⟩
  simp only [u3]
  rw [if_neg]
  rintro ⟨rfl, rfl, rfl⟩
  exact h rfl
theorem Fr.hpR {p r j : Nat} {v : Nat} (h : ky p r j ∈ L) : Fr L (pR p r j v) := fun φ S b S1 e p' r' j' hk => by
  unfold pR at e
  split at e
  · cases e
  · cases e; exact sm_r3 fun z => hk (z ▸ h)
theorem Fr.hpR5 {p r j : Nat} {v : Nat} (h : ky p r j ∈ L) : Fr L (pR5 p r j v) := fun φ S b S1 e p' r' j' hk => by
  unfold pR5 at e
  split at e
  · cases e
  · cases e; exact sm_r3 fun z => hk (z ▸ h)
theorem Fr.hpRs {cs : List Nat} {p r j : Nat} {v : Nat} (h : ky p r j ∈ L) : Fr L (pRs cs p r j v) := fun φ S b S1 e p' r' j' hk => by
  unfold pRs at e
  split at e
  · cases e; exact sm_r3 fun z => hk (z ▸ h)
  · cases e
theorem Fr.hwI {p r : Nat} {i v : Int32} (h : ∀ j, ky p r j ∈ L) : Fr L (wI p r i v) := fun φ S b S1 e p' r' j' hk => by
  unfold wI at e
  split at e
  · cases e; exact sm_u3 fun z => hk (z ▸ h _)
  · cases e
theorem Fr.hwR {p r : Nat} {i : Int32} {v : Nat} (h : ∀ j, ky p r j ∈ L) : Fr L (wR p r i v) := fun φ S b S1 e p' r' j' hk => by
  unfold wR at e
  split at e
  · cases e; exact sm_r3 fun z => hk (z ▸ h _)
  · cases e
theorem sm_d3 {S : amSt} {p r j p' r' j' : Nat} {v : UInt64} (h : ky p r j ≠ ky p' r' j') : sm S (S.1, u3 S.2.1 p r j v, S.2.2) p' r' j' := by
  refine ⟨rfl, ?_, rfl⟩
  simp only [u3]
  rw [if_neg]
  rintro ⟨rfl, rfl, rfl⟩
  exact h rfl
theorem Fr.hwD {p r : Nat} {i : Int32} {v : UInt64} (h : ∀ j, ky p r j ∈ L) : Fr L (wD p r i v) := fun φ S b S1 e p' r' j' hk => by
  unfold wD at e
  split at e
  · cases e; exact sm_d3 fun z => hk (z ▸ h _)
  · cases e
theorem Fr.hwF {p r : Nat} {i : Int32} {v : UInt32} (h : ∀ j, ky p r j ∈ L) : Fr L (wF p r i v) := fun φ S b S1 e p' r' j' hk => by
  unfold wF at e
  split at e
  · cases e; exact sm_d3 fun z => hk (z ▸ h _)
  · cases e
theorem Fr.hcpI {ok : Int32 → Bool} {p0 r0 p1 r1 : Nat} {sp dp n : Int32} (h : ∀ j, ky p1 r1 j ∈ L) : Fr L (cpI ok p0 r0 sp p1 r1 dp n) := fun φ S b S1 e p' r' j' hk => by
  unfold cpI at e
  split at e
  · cases e
    refine ⟨?_, rfl, rfl⟩
    simp only [u2]
    by_cases hh : p' = p1 ∧ r' = r1
    · obtain ⟨rfl, rfl⟩ := hh
      exact absurd (h j') hk
    · rw [if_neg hh]
  · cases e
theorem Fr.hbdx {m : am0 (Option α)} {g : am0 β} {f : α → am0 β} (h : Fr L m) (hg : Fr L g) (h2 : ∀ a, Fr L (f a)) : Fr L (bdx m g f) := Fr.hbd h fun o => by
  cases o with
  | none => exact hg
  | some a => exact h2 a
theorem Fr1.hrt {b : β} : Fr1 L (rt1 b) := fun φ S b' φ1 S1 k n e => by cases e; exact f1.rf
theorem Fr1.hfl : Fr1 L (fl1 : am1 β) := fun φ S b' φ1 S1 k n e => by cases e
theorem Fr1.hbd {m : am1 α} {f : α → am1 β} (h : Fr1 L m) (h2 : ∀ a, Fr1 L (f a)) : Fr1 L (bd1 m f) := fun φ S b φ1 S1 k n e => by
  unfold bd1 at e
  rcases hm : m φ S with _ | ⟨a, φ2, S2, k1, n1⟩
  · rw [hm] at e; cases e
  · rw [hm] at e
    dsimp only at e
    rcases hf : f a φ2 S2 with _ | ⟨b2, φ3, S3, k2, n2⟩
    · rw [hf] at e; cases e
    · rw [hf] at e
      simp only [amAc, Option.some.injEq, Prod.mk.injEq] at e
      obtain ⟨rfl, rfl, rfl, _, _⟩ := e
      exact (h φ S a φ2 S2 k1 n1 hm).tr (h2 a φ2 S2 b2 φ3 S3 k2 n2 hf)
theorem Fr1.hup {m : am0 β} (h : Fr L m) : Fr1 L (up m) := fun φ S b φ1 S1 k n e => by
  unfold up at e
  rcases hm : m φ S with _ | ⟨a, S2⟩
  · rw [hm] at e; cases e
  · rw [hm] at e
    cases e
    exact ⟨fun _ => ⟨Nat.le_refl _, fun _ => rfl⟩, fun p r _ => ⟨rfl, Nat.le_refl _, fun j hj => h φ S _ _ hm p r j hj⟩⟩
theorem Fr1.hite {c : Prop} [Decidable c] {a b : am1 β} (h : Fr1 L a) (h2 : Fr1 L b) : Fr1 L (if c then a else b) := by split <;> assumption
theorem Fr1.hjn {r : α → am1 γ} {f : (α → am1 γ) → am1 γ} (hr : ∀ a, Fr1 L (r a)) (hf : ∀ k : α → am1 γ, (∀ a, Fr1 L (k a)) → Fr1 L (f k)) : Fr1 L (jn1 r f) := hf r hr
theorem Fr1.halp {F : (α → am1 β) → α → am1 β} (h : ∀ rec : α → am1 β, (∀ x, Fr1 L (rec x)) → ∀ x, Fr1 L (F rec x)) (n : Nat) : ∀ x, Fr1 L (alp1 F n x) := by
  induction n with
  | zero => exact fun x => Fr1.hfl
  | succ n ih => exact fun x => h _ ih x
theorem Fr1.hbdx {m : am1 (Option α)} {g : am1 β} {f : α → am1 β} (h : Fr1 L m) (hg : Fr1 L g) (h2 : ∀ a, Fr1 L (f a)) : Fr1 L (bdx1 m g f) := Fr1.hbd h fun o => by
  cases o with
  | none => exact hg
  | some a => exact h2 a
theorem f1_new {φ : amSh} {S : amSt} {p c : Nat} (h : 200000 + p ∈ L) : f1 L φ S ((fun q => if q = p then φ.1 p + 1 else φ.1 q, u2 φ.2.1 p (φ.1 p + 1) 0, u2 φ.2.2 p (φ.1 p + 1) c)) ((u2 S.1 p (φ.1 p + 1) (fun _ => 0), u2 S.2.1 p (φ.1 p + 1) (fun _ => 0), u2 S.2.2 p (φ.1 p + 1) (fun _ => 0))) := by
  refine ⟨fun q => ⟨?_, fun hq => ?_⟩, fun q r hr => ?_⟩
  · by_cases e : q = p
    · subst e; simp
    · simp [e]
  · have : q ≠ p := fun z => hq (z ▸ h)
    simp [this]
  · have e : ¬ (q = p ∧ r = φ.1 p + 1) := by rintro ⟨rfl, rfl⟩; omega
    refine ⟨?_, ?_, fun j _ => ⟨?_, ?_, ?_⟩⟩ <;> simp [u2, e]
theorem Fr1.hnw {p c n : Nat} (h : 200000 + p ∈ L) : Fr1 L (nw p c n) := fun φ S b φ1 S1 k n e => by
  unfold nw at e; cases e; exact f1_new h
theorem Fr1.hnwA {p : Nat} {n : Int32} (h : 200000 + p ∈ L) : Fr1 L (nwA p n) := fun φ S b φ1 S1 k n e => by
  unfold nwA at e
  split at e
  · cases e; exact f1_new h
  · cases e
theorem Fr1.hpC {p r s e v : Nat} : Fr1 L (pC p r s e v) := fun φ S b φ1 S1 k n z => by
  unfold pC at z
  split at z
  · rename_i hh
    cases z
    refine ⟨fun _ => ⟨Nat.le_refl _, fun _ => rfl⟩, fun q i _ => ⟨rfl, ?_, fun _ _ => sm.rf⟩⟩
    simp only [u2]
    split
    · rename_i h2
      obtain ⟨rfl, rfl⟩ := h2
      omega
    · exact Nat.le_refl _
  · cases z
end
theorem kyA {p r : Nat} {L : List Nat} (h1 : ¬ p < 20) (h2 : p ≠ 107) (h : p ∈ L) (j : Nat) : ky p r j ∈ L := by
  unfold ky; rw [if_neg h1, if_neg h2]; exact h
theorem kyT {r : Nat} {L : List Nat} (h : 100000 + r ∈ L) (j : Nat) : ky 107 r j ∈ L := h
theorem kyO {p r j : Nat} {L : List Nat} (h1 : p < 20) (h : 1000 * (p + 1) + j ∈ L) : ky p r j ∈ L := by
  unfold ky; rw [if_pos h1]; exact h
def FrS (L : List Nat) (S S1 : amSt) : Prop := ∀ p r j, ky p r j ∉ L → sm S S1 p r j
theorem Fr.s {β : Type} {L : List Nat} {m : am0 β} (h : Fr L m) {φ : amSh} {S S1 : amSt} {b : β} (e : m φ S = some (b, S1)) : FrS L S S1 := h φ S b S1 e
theorem FrS.tr {L : List Nat} {S S1 S2 : amSt} (h : FrS L S S1) (h2 : FrS L S1 S2) : FrS L S S2 := fun p r j hk => (h p r j hk).tr (h2 p r j hk)
theorem FrS.rf {L : List Nat} {S : amSt} : FrS L S S := fun _ _ _ _ => sm.rf
theorem FrS.mono {L M : List Nat} {S S1 : amSt} (h : FrS L S S1) (hs : ∀ x ∈ L, x ∈ M) : FrS M S S1 := fun p r j hk => h p r j fun hh => hk (hs _ hh)
theorem FrS.i {L : List Nat} {S S1 : amSt} (h : FrS L S S1) (p r j : Nat) (hk : ky p r j ∉ L) : S1.1 p r j = S.1 p r j := (h p r j hk).1
theorem FrS.r {L : List Nat} {S S1 : amSt} (h : FrS L S S1) (p r j : Nat) (hk : ky p r j ∉ L) : S1.2.2 p r j = S.2.2 p r j := (h p r j hk).2.2
theorem FrS.d {L : List Nat} {S S1 : amSt} (h : FrS L S S1) (p r j : Nat) (hk : ky p r j ∉ L) : S1.2.1 p r j = S.2.1 p r j := (h p r j hk).2.1
theorem bdRF {α β : Type} {m : am0 α} {f : α → am0 β} {φ : amSh} {S : amSt} {P : Option (β × amSt) → Prop} {Q : α → amSt → Prop} {L : List Nat} (hF : Fr L m) (h : Rs Q (m φ S)) (hf : ∀ a S1, Q a S1 → FrS L S S1 → P (f a φ S1)) : P (bd m f φ S) := by
  obtain ⟨a, S1, e, q⟩ := h
  rw [bd_of e]
  exact hf a S1 q (hF.s e)
theorem Rs.fr {β : Type} {m : am0 β} {φ : amSh} {S : amSt} {Q : β → amSt → Prop} {L : List Nat} (hF : Fr L m) (h : Rs Q (m φ S)) : Rs (fun b S1 => Q b S1 ∧ FrS L S S1) (m φ S) := by
  obtain ⟨a, S1, e, q⟩ := h
  exact ⟨a, S1, e, q, hF.s e⟩
theorem kyN {p r j : Nat} {L : List Nat} (h1 : ¬ p < 20) (h2 : p ≠ 107) (h : p ∉ L) : ky p r j ∉ L := by
  unfold ky; rw [if_neg h1, if_neg h2]; exact h
