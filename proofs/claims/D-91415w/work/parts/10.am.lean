/-! ===== AM: the abstract machine. A store by pools (pool p, object number r = 1, 2 ..; 0 is null), programs over it, and the judgement that the machine runs as the program says ===== -/
abbrev amSh : Type := (Nat → Nat) × (Nat → Nat → Nat) × (Nat → Nat → Nat)
abbrev amSt : Type := (Nat → Nat → Nat → Int32) × (Nat → Nat → Nat → UInt64) × (Nat → Nat → Nat → Nat)
abbrev am1 (β : Type) : Type := amSh → amSt → Option (β × amSh × amSt × Nat × Nat)
abbrev am0 (β : Type) : Type := amSh → amSt → Option (β × amSt)
def rt {β : Type} (b : β) : am0 β := fun _ S => some (b, S)
def bd {α β : Type} (m : am0 α) (f : α → am0 β) : am0 β := fun φ S => match m φ S with
  | none => none
  | some (a, S1) => f a φ S1
def amAc {β : Type} (k n : Nat) (o : Option (β × amSh × amSt × Nat × Nat)) : Option (β × amSh × amSt × Nat × Nat) := match o with
  | none => none
  | some (b, φ, S, k1, n1) => some (b, φ, S, k + k1, n + n1)
def rt1 {β : Type} (b : β) : am1 β := fun φ S => some (b, φ, S, 0, 0)
def bd1 {α β : Type} (m : am1 α) (f : α → am1 β) : am1 β := fun φ S => match m φ S with
  | none => none
  | some (a, φ1, S1, k, n) => amAc k n (f a φ1 S1)
def up {β : Type} (m : am0 β) : am1 β := fun φ S => match m φ S with
  | none => none
  | some (b, S1) => some (b, φ, S1, 0, 0)
def fl0 {β : Type} : am0 β := fun _ _ => none
def fl1 {β : Type} : am1 β := fun _ _ => none
/-- loops: n is more than enough -/
def alp {α β : Type} (F : (α → am0 β) → α → am0 β) : Nat → α → am0 β
  | 0, _ => fl0
  | n + 1, x => F (alp F n) x
def alp1 {α β : Type} (F : (α → am1 β) → α → am1 β) : Nat → α → am1 β
  | 0, _ => fl1
  | n + 1, x => F (alp1 F n) x
theorem amAc_0 {β : Type} (o : Option (β × amSh × amSt × Nat × Nat)) : amAc 0 0 o = o := by
  rcases o with _ | ⟨b, φ, S, k, n⟩
  · rfl
  · simp [amAc]
theorem amAc_ac {β : Type} (k n k1 n1 : Nat) (o : Option (β × amSh × amSt × Nat × Nat)) : amAc k n (amAc k1 n1 o) = amAc (k + k1) (n + n1) o := by
  rcases o with _ | ⟨b, φ, S, k2, n2⟩
  · rfl
  · simp [amAc, Nat.add_assoc]
theorem bd1_up_rt {α β : Type} (a : α) (k : α → am1 β) : bd1 (up (rt a)) k = k a := by
  funext φ S
  simp [bd1, up, rt, amAc_0]
theorem bd1_rt1 {α β : Type} (a : α) (k : α → am1 β) : bd1 (rt1 a) k = k a := by
  funext φ S
  simp [bd1, rt1, amAc_0]
theorem bd1_up_bd {α γ β : Type} (m : am0 α) (f : α → am0 γ) (k : γ → am1 β) : bd1 (up (bd m f)) k = bd1 (up m) (fun a => bd1 (up (f a)) k) := by
  funext φ S
  simp only [bd1, up, bd]
  cases h : m φ S with
  | none => rfl
  | some q =>
    obtain ⟨a, S1⟩ := q
    dsimp only
    cases h2 : f a φ S1 with
    | none => simp [amAc]
    | some q2 => simp [amAc_0]
theorem bd1_assoc {α γ β : Type} (m : am1 α) (f : α → am1 γ) (k : γ → am1 β) : bd1 (bd1 m f) k = bd1 m (fun a => bd1 (f a) k) := by
  funext φ S
  simp only [bd1]
  cases h : m φ S with
  | none => rfl
  | some q =>
    obtain ⟨a, φ1, S1, k1, n1⟩ := q
    dsimp only
    cases h2 : f a φ1 S1 with
    | none => simp [amAc]
    | some q2 =>
      obtain ⟨b, φ2, S2, k2, n2⟩ := q2
      simp only [amAc]
      rw [show (match k b φ2 S2 with | none => none | some (b, φ, S, k1_1, n1_1) => some (b, φ, S, k1 + k2 + k1_1, n1 + n2 + n1_1)) = amAc (k1 + k2) (n1 + n2) (k b φ2 S2) from rfl, ← amAc_ac]
      rfl
/-! abstract values: a reference is rid p r; the address map ad says where it lies -/
def rid (p r : Nat) : Nat := r * 256 + p
theorem rid_inj {p r p' r' : Nat} (hp : p < 256) (hp' : p' < 256) (h : rid p r = rid p' r') : p = p' ∧ r = r' := by
  unfold rid at h
  omega
def cn (ad : Nat → Nat) (v : Value) : Value := match v with
  | .ref n => if n < 256 then .null else .ref (ad n)
  | w => w
theorem cn_rid {ad : Nat → Nat} {p r : Nat} (h : r ≠ 0) : cn ad (.ref (rid p r)) = .ref (ad (rid p r)) := by
  have : ¬ rid p r < 256 := by unfold rid; omega
  simp [cn, this]
theorem cn_nul {ad : Nat → Nat} {p : Nat} (h : p < 256) : cn ad (.ref (rid p 0)) = .null := by
  have : rid p 0 < 256 := by unfold rid; omega
  simp [cn, this]
theorem cn_cat (ad : Nat → Nat) (v : Value) : (cn ad v).category = v.category := by
  cases v with
  | ref n =>
    by_cases h : n < 256
    · simp [cn, h, Value.category]
    · simp [cn, h, Value.category]
  | _ => rfl
def rad (ad : Nat → Nat) (t r : Nat) : Option Nat := if r = 0 then none else some (ad (rid t r))
theorem cn_rad {ad : Nat → Nat} {p r : Nat} (h : p < 256) : cn ad (.ref (rid p r)) = va_rf (rad ad p r) := by
  by_cases hr : r = 0
  · subst hr
    rw [cn_nul h]
    simp [rad, va_rf]
  · rw [cn_rid hr]
    simp [rad, hr, va_rf]
/-- a value is of this shape: references are to objects that are there -/
def amV (φ : amSh) (v : Value) : Prop := match v with
  | .ref n => ∃ p r, n = rid p r ∧ p < 256 ∧ r ≤ φ.1 p
  | _ => True
theorem amV_r {φ : amSh} {p r : Nat} (hp : p < 256) (h : amV φ (.ref (rid p r))) : r ≤ φ.1 p := by
  obtain ⟨p', r', e, h1, h2⟩ := h
  obtain ⟨rfl, rfl⟩ := rid_inj hp h1 e
  exact h2
theorem amV_mk {φ : amSh} {p r : Nat} (hp : p < 256) (h : r ≤ φ.1 p) : amV φ (.ref (rid p r)) := ⟨p, r, rfl, hp, h⟩
/-- the shape has grown; the addresses of what was there are the same -/
def amE (ad0 : Nat → Nat) (φ0 : amSh) (ad : Nat → Nat) (φ : amSh) : Prop := (∀ p, φ0.1 p ≤ φ.1 p) ∧ ∀ p r, p < 256 → 0 < r → r ≤ φ0.1 p → ad (rid p r) = ad0 (rid p r)
theorem amE.rf {ad : Nat → Nat} {φ : amSh} : amE ad φ ad φ := ⟨fun _ => Nat.le_refl _, fun _ _ _ _ _ => rfl⟩
theorem amE.tr {ad0 ad1 ad2 : Nat → Nat} {φ0 φ1 φ2 : amSh} (h : amE ad0 φ0 ad1 φ1) (h2 : amE ad1 φ1 ad2 φ2) : amE ad0 φ0 ad2 φ2 :=
  ⟨fun p => Nat.le_trans (h.1 p) (h2.1 p), fun p r hp h0 hr => (h2.2 p r hp h0 (Nat.le_trans hr (h.1 p))).trans (h.2 p r hp h0 hr)⟩
theorem amV.up {φ0 φ1 : amSh} {ad0 ad1 : Nat → Nat} {v : Value} (h : amV φ0 v) (e : amE ad0 φ0 ad1 φ1) : amV φ1 v := by
  cases v with
  | ref n =>
    obtain ⟨p, r, h1, h2, h3⟩ := h
    exact ⟨p, r, h1, h2, Nat.le_trans h3 (e.1 p)⟩
  | _ => trivial
theorem amV.cn {φ0 φ1 : amSh} {ad0 ad1 : Nat → Nat} {v : Value} (h : amV φ0 v) (e : amE ad0 φ0 ad1 φ1) : cn ad1 v = cn ad0 v := by
  cases v with
  | ref n =>
    obtain ⟨p, r, rfl, h2, h3⟩ := h
    by_cases hr : r = 0
    · subst hr
      rw [cn_nul h2, cn_nul h2]
    · rw [cn_rid hr, cn_rid hr, e.2 p r h2 (Nat.pos_of_ne_zero hr) h3]
  | _ => rfl
/-! the store's picture in the heap: am_cl (classes), am_tys (element types), am_lay (fields of a class), am_pk, am_pt, am_pl, am_pg, am_kl (a pool's kind, element type, lengths, target, classes) come with the names -/
def amK (φ : amSh) (p r : Nat) : Nat := match am_kl p with
  | [c] => c
  | _ => φ.2.2 p r
def amF (φ : amSh) (S : amSt) (p r j : Nat) (e : Nat × Nat × Nat) : Value := match e with
  | (0, _, _) => .int (S.1 p r j)
  | (1, t, _) => .ref (rid t (S.2.2 p r j))
  | (2, t, s) => if s < φ.2.1 p r then .ref (rid t r) else .ref (rid t 0)
  | (3, t, s) => if s < φ.2.1 p r then .ref (rid t (2 * r - 1)) else .ref (rid t 0)
  | (4, t, s) => if s < φ.2.1 p r then .ref (rid t (2 * r)) else .ref (rid t 0)
  | (_, t, b) => if φ.1 255 = 0 then .ref (rid t (S.2.2 p r j)) else .ref (rid t b)
def amFs (φ : amSh) (S : amSt) (p r : Nat) : Nat → List (Nat × Nat × Nat) → List Value
  | _, [] => []
  | j, e :: es => amF φ S p r j e :: amFs φ S p r (j + 1) es
def amEn (dA : Nat → ClassId) (ad : Nat → Nat) (φ : amSh) (S : amSt) (p r : Nat) : va_E := match am_pk p with
  | 0 => .inr (amK φ p r, (amFs φ S p r 0 (am_lay (amK φ p r))).map (cn ad))
  | 1 => .inl (dA (am_pt p), am_pl p r, .inl (S.1 p r))
  | 2 => .inl (dA (am_pt p), am_pl p r, .inr (.inr (.inr (.inr fun j => rad ad (am_pg p) (S.2.2 p r j)))))
  | 3 => .inl (dA (am_pt p), am_pl p r, .inr (.inr (.inr (.inr fun j => if j < am_pl p r then some (ad (rid (am_pg p) (j + 1))) else none))))
  | 4 => .inl (dA (am_pt p), am_pl p r, .inr (.inr (.inl fun j => (S.2.1 p r j).toUInt32)))
  | 5 => .inl (dA (am_pt p), am_pl p r, .inr (.inr (.inr (.inl (S.2.1 p r)))))
  | _ => .inl (dA (am_pt p), am_pl p r, .inr (.inl fun j => (S.2.1 p r j).toInt64))
def amVE (φ : amSh) (S : amSt) (p r : Nat) : Prop := match am_pk p with
  | 0 => amK φ p r ∈ am_kl p ∧ ∀ v ∈ amFs φ S p r 0 (am_lay (amK φ p r)), amV φ v
  | 2 => ∀ j, S.2.2 p r j ≤ φ.1 (am_pg p)
  | 3 => ∀ j, j < am_pl p r → j + 1 ≤ φ.1 (am_pg p)
  | _ => True
def amOk (φ : amSh) (p r : Nat) : Prop := p < 250 ∧ 0 < r ∧ r ≤ φ.1 p
def amW (D : va_G) (dA : Nat → ClassId) (ad : Nat → Nat) (φ : amSh) (S : amSt) (H : Heap) : Prop :=
  (∀ p r, amOk φ p r → va_at D am_cl (ad (rid p r), amEn dA ad φ S p r) H) ∧
  (∀ p r p' r', amOk φ p r → amOk φ p' r' → ad (rid p r) = ad (rid p' r') → p = p' ∧ r = r') ∧
  (∀ p r, amOk φ p r → amVE φ S p r)
theorem amFs_congr {φ φ' : amSh} {S S' : amSt} {p r : Nat} (h0 : φ'.1 255 = φ.1 255) (h1 : S'.1 p r = S.1 p r) (h2 : S'.2.2 p r = S.2.2 p r) (h3 : φ'.2.1 p r = φ.2.1 p r) : ∀ (es : List (Nat × Nat × Nat)) (j : Nat), amFs φ' S' p r j es = amFs φ S p r j es := by
  intro es
  induction es with
  | nil => intro j; rfl
  | cons e es ih =>
    intro j
    simp only [amFs]
    rw [ih]
    congr 1
    unfold amF
    rw [h0, h1, h2, h3]
theorem amEn_congr {dA : Nat → ClassId} {ad : Nat → Nat} {φ φ' : amSh} {S S' : amSt} {p r : Nat} (h0 : φ'.1 255 = φ.1 255) (h1 : S'.1 p r = S.1 p r) (h4 : S'.2.1 p r = S.2.1 p r) (h2 : S'.2.2 p r = S.2.2 p r) (h3 : φ'.2.1 p r = φ.2.1 p r) (h5 : φ'.2.2 p r = φ.2.2 p r) : amEn dA ad φ' S' p r = amEn dA ad φ S p r := by
  have hK : amK φ' p r = amK φ p r := by unfold amK; rw [h5]
  unfold amEn
  rw [hK, amFs_congr h0 h1 h2 h3, h1, h4, h2]
theorem amV_n {φ φ' : amSh} (h : ∀ p, φ.1 p ≤ φ'.1 p) {v : Value} (hv : amV φ v) : amV φ' v := by
  cases v with
  | ref n =>
    obtain ⟨p, r, h1, h2, h3⟩ := hv
    exact ⟨p, r, h1, h2, Nat.le_trans h3 (h p)⟩
  | _ => trivial
theorem amVE_congr {φ φ' : amSh} {S S' : amSt} {p r : Nat} (hn : ∀ p, φ.1 p ≤ φ'.1 p) (h0 : φ'.1 255 = φ.1 255) (h1 : S'.1 p r = S.1 p r) (h2 : S'.2.2 p r = S.2.2 p r) (h3 : φ'.2.1 p r = φ.2.1 p r) (h5 : φ'.2.2 p r = φ.2.2 p r) (h : amVE φ S p r) : amVE φ' S' p r := by
  have hK : amK φ' p r = amK φ p r := by unfold amK; rw [h5]
  unfold amVE at h ⊢
  rw [hK, amFs_congr h0 h1 h2 h3, h2]
  split
  · rename_i e
    rw [e] at h
    exact ⟨h.1, fun v hv => amV_n hn (h.2 v hv)⟩
  · rename_i e
    rw [e] at h
    exact fun j => Nat.le_trans (h j) (hn _)
  · rename_i e
    rw [e] at h
    exact fun j hj => Nat.le_trans (h j hj) (hn _)
  · trivial
/-- one object is changed -/
theorem amW.set {D : va_G} {dA : Nat → ClassId} {ad : Nat → Nat} {φ φ' : amSh} {S S' : amSt} {H H1 : Heap} (h : amW D dA ad φ S H) {p r : Nat} (hp : amOk φ p r) (hn : φ'.1 = φ.1)
    (hS : ∀ p' r', ¬ (p' = p ∧ r' = r) → S'.1 p' r' = S.1 p' r' ∧ S'.2.1 p' r' = S.2.1 p' r' ∧ S'.2.2 p' r' = S.2.2 p' r' ∧ φ'.2.1 p' r' = φ.2.1 p' r' ∧ φ'.2.2 p' r' = φ.2.2 p' r')
    (e1 : va_at D am_cl (ad (rid p r), amEn dA ad φ' S' p r) H1) (oq : ∀ q : Nat, q ≠ ad (rid p r) → H1[q]? = H[q]?) (hv : amVE φ' S' p r) : amW D dA ad φ' S' H1 := by
  have hok : ∀ p r, amOk φ' p r → amOk φ p r := fun p r h => by unfold amOk at *; rw [hn] at h; exact h
  refine ⟨fun p' r' h' => ?_, fun p1 r1 p2 r2 g1 g2 => h.2.1 p1 r1 p2 r2 (hok _ _ g1) (hok _ _ g2), fun p' r' h' => ?_⟩
  · by_cases he : p' = p ∧ r' = r
    · obtain ⟨rfl, rfl⟩ := he
      exact e1
    · obtain ⟨q1, q2, q3, q4, q5⟩ := hS p' r' he
      rw [amEn_congr (by rw [hn]) q1 q2 q3 q4 q5]
      refine (h.1 p' r' (hok _ _ h')).kept (oq _ fun z => he ?_)
      exact h.2.1 p' r' p r (hok _ _ h') hp z
  · by_cases he : p' = p ∧ r' = r
    · obtain ⟨rfl, rfl⟩ := he
      exact hv
    · obtain ⟨q1, q2, q3, q4, q5⟩ := hS p' r' he
      exact amVE_congr (fun p => by rw [hn]; exact Nat.le_refl _) (by rw [hn]) q1 q3 q4 q5 (h.2.2 p' r' (hok _ _ h'))
/-- the old objects under a new address map -/
theorem amEn_ad {dA : Nat → ClassId} {ad ad' : Nat → Nat} {φ φ' : amSh} {S : amSt} {p r : Nat} (hg : am_pg p < 256) (e : amE ad φ ad' φ') (h : amVE φ S p r) : amEn dA ad' φ S p r = amEn dA ad φ S p r := by
  unfold amVE at h
  unfold amEn
  split
  · rename_i k
    rw [k] at h
    congr 2
    exact List.map_congr_left fun v hv => (h.2 v hv).cn e
  · rfl
  · rename_i k
    rw [k] at h
    congr 7
    funext j
    unfold rad
    by_cases hr : S.2.2 p r j = 0
    · rw [if_pos hr, if_pos hr]
    · rw [if_neg hr, if_neg hr, e.2 _ _ hg (Nat.pos_of_ne_zero hr) (h j)]
  · rename_i k
    rw [k] at h
    congr 7
    funext j
    by_cases hj : j < am_pl p r
    · rw [if_pos hj, if_pos hj, e.2 _ _ hg (Nat.succ_pos j) (h j hj)]
    · rw [if_neg hj, if_neg hj]
  · rfl
  · rfl
  · rfl
/-- a new object -/
theorem amW.new {D : va_G} {dA : Nat → ClassId} {ad : Nat → Nat} {φ φ' : amSh} {S S' : amSt} {H H1 : Heap} (h : amW D dA ad φ S H) {p q : Nat} (hp : p < 250) (hq : H.size ≤ q) (hg : ∀ p, p < 250 → am_pg p < 256)
    (hn : ∀ p', φ'.1 p' = if p' = p then φ.1 p + 1 else φ.1 p')
    (hS : ∀ p' r', ¬ (p' = p ∧ r' = φ.1 p + 1) → S'.1 p' r' = S.1 p' r' ∧ S'.2.1 p' r' = S.2.1 p' r' ∧ S'.2.2 p' r' = S.2.2 p' r' ∧ φ'.2.1 p' r' = φ.2.1 p' r' ∧ φ'.2.2 p' r' = φ.2.2 p' r')
    (o1 : ∀ x : Nat, x < H.size → H1[x]? = H[x]?) (e1 : va_at D am_cl (q, amEn dA (fun n => if n = rid p (φ.1 p + 1) then q else ad n) φ' S' p (φ.1 p + 1)) H1) (hv : amVE φ' S' p (φ.1 p + 1)) :
    amW D dA (fun n => if n = rid p (φ.1 p + 1) then q else ad n) φ' S' H1 ∧ amE ad φ (fun n => if n = rid p (φ.1 p + 1) then q else ad n) φ' := by
  have hle : ∀ p', φ.1 p' ≤ φ'.1 p' := fun p' => by
    rw [hn]
    by_cases e : p' = p
    · rw [if_pos e, e]; omega
    · rw [if_neg e]; exact Nat.le_refl _
  have hE : amE ad φ (fun n => if n = rid p (φ.1 p + 1) then q else ad n) φ' := by
    refine ⟨hle, fun p' r' hp' h0 hr => ?_⟩
    dsimp only
    rw [if_neg]
    intro e
    obtain ⟨rfl, rfl⟩ := rid_inj hp' (by omega) e
    omega
  have hold : ∀ p' r', amOk φ' p' r' → ¬ (p' = p ∧ r' = φ.1 p + 1) → amOk φ p' r' := by
    intro p' r' ⟨g1, g2, g3⟩ hne
    refine ⟨g1, g2, ?_⟩
    rw [hn] at g3
    by_cases e : p' = p
    · rw [if_pos e] at g3
      subst e
      have : r' ≠ φ.1 p' + 1 := fun z => hne ⟨rfl, z⟩
      omega
    · rw [if_neg e] at g3
      exact g3
  have hlt : ∀ p' r', amOk φ p' r' → ad (rid p' r') < H.size := fun p' r' g => (h.1 p' r' g).lt
  refine ⟨⟨fun p' r' h' => ?_, fun p1 r1 p2 r2 g1 g2 he => ?_, fun p' r' h' => ?_⟩, hE⟩
  · by_cases he : p' = p ∧ r' = φ.1 p + 1
    · obtain ⟨rfl, rfl⟩ := he
      dsimp only
      rw [if_pos rfl]
      exact e1
    · have hk := hold p' r' h' he
      obtain ⟨q1, q2, q3, q4, q5⟩ := hS p' r' he
      rw [amEn_congr (by rw [hn, if_neg (by omega)]) q1 q2 q3 q4 q5, amEn_ad (hg p' h'.1) hE (h.2.2 p' r' hk)]
      have e2 : (fun n => if n = rid p (φ.1 p + 1) then q else ad n) (rid p' r') = ad (rid p' r') := hE.2 p' r' (by have := h'.1; omega) h'.2.1 hk.2.2
      rw [e2]
      exact (h.1 p' r' hk).kept (o1 _ (hlt _ _ hk))
  · by_cases c1 : p1 = p ∧ r1 = φ.1 p + 1
    · by_cases c2 : p2 = p ∧ r2 = φ.1 p + 1
      · exact ⟨c1.1.trans c2.1.symm, c1.2.trans c2.2.symm⟩
      · exfalso
        have k2 := hold _ _ g2 c2
        have e2 : (fun n => if n = rid p (φ.1 p + 1) then q else ad n) (rid p2 r2) = ad (rid p2 r2) := hE.2 p2 r2 (by have := g2.1; omega) g2.2.1 k2.2.2
        rw [e2] at he
        obtain ⟨rfl, rfl⟩ := c1
        dsimp only at he
        rw [if_pos rfl] at he
        have := hlt _ _ k2
        omega
    · have k1 := hold _ _ g1 c1
      have e1' : (fun n => if n = rid p (φ.1 p + 1) then q else ad n) (rid p1 r1) = ad (rid p1 r1) := hE.2 p1 r1 (by have := g1.1; omega) g1.2.1 k1.2.2
      rw [e1'] at he
      by_cases c2 : p2 = p ∧ r2 = φ.1 p + 1
      · exfalso
        obtain ⟨rfl, rfl⟩ := c2
        dsimp only at he
        rw [if_pos rfl] at he
        have := hlt _ _ k1
        omega
      · have k2 := hold _ _ g2 c2
        have e2 : (fun n => if n = rid p (φ.1 p + 1) then q else ad n) (rid p2 r2) = ad (rid p2 r2) := hE.2 p2 r2 (by have := g2.1; omega) g2.2.1 k2.2.2
        rw [e2] at he
        exact h.2.1 _ _ _ _ k1 k2 he
  · by_cases he : p' = p ∧ r' = φ.1 p + 1
    · obtain ⟨rfl, rfl⟩ := he
      exact hv
    · obtain ⟨q1, q2, q3, q4, q5⟩ := hS p' r' he
      exact amVE_congr hle (by rw [hn, if_neg (by omega)]) q1 q3 q4 q5 (h.2.2 p' r' (hold p' r' h' he))
