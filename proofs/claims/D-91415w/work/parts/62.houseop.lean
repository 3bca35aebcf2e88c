/-! PURE: questions about houses -/
theorem th0 {S : amSt} : FrS [2000] S (u3 S.1 1 1 0 0, S.2) := fun p r j hk => sm_u3 fun z => hk (z ▸ by decide)
theorem sp_X1_isHouse {c : CHo} (w : c.WF) {φ : amSh} {S : amSt} (hR : RCho c φ S) {a : Int32} : p_X1_isHouse a φ S = some (if inN a c.n then 1 else 0, S) := by
  have hn := w.hn
  unfold p_X1_isHouse
  rw [bd_gI1, hR.n, bd_of sp_X1_in]
  by_cases h : inN a c.n
  · have : ¬ out a 0 (iN c.n - 1) := fun z => (out_n (by omega)).mp z h
    rw [if_neg this, if_pos h, bd_gd (Or.inr rfl), rt_ap]
  · have : out a 0 (iN c.n - 1) := (out_n (by omega)).mpr h
    rw [if_pos this, if_neg h, bd_gd (Or.inl rfl), rt_ap]
theorem sp_X3_isHouse {c : CHo} {φ : amSh} {S : amSt} (hR : RMho c S) {a : Int32} : p_X3_isHouse a φ S = some (if inN a c.n then 1 else 0, S) := by
  unfold p_X3_isHouse
  by_cases h1 : a < 0
  · simp [inN, h1, jn_ap, rt_ap]
  · by_cases h2 : a < iN c.n
    · have h3 : ¬ iN c.n ≤ a := by rw [i32_nle]; exact fun z => z h2
      rw [if_pos ⟨h1, h2⟩, jn_ap, ite_ap, if_neg h1, bd_gI1, hR.n, ite_ap, if_neg h3, rt_ap]
    · have h3 : iN c.n ≤ a := by rw [i32_nle]; exact h2
      rw [if_neg (fun z => h2 z.2), jn_ap, ite_ap, if_neg h1, bd_gI1, hR.n, ite_ap, if_pos h3]; exact rt_ap
/-- a floor, a room of a house, by its argument -/
abbrev isFl (c : CHo) (a1 a2 : Int32) : Prop := inN a1 c.n ∧ inN a2 (c.fl a1.toNatClampNeg)
abbrev isRm (c : CHo) (a1 a2 : Int32) : Prop := inN a1 c.n ∧ inN a2 (c.fl a1.toNatClampNeg * c.wd a1.toNatClampNeg)
theorem isFl.ex {c : CHo} (w : c.WF) {a1 a2 : Int32} (h : isFl c a1 a2) : ∃ x f, x < c.n ∧ f < c.fl x ∧ a1 = iN x ∧ a2 = iN f := by
  have hn := w.hn
  obtain ⟨x, hx, rfl⟩ := h.1.ex (by omega)
  have h2 := h.2
  rw [iN_nat (by omega)] at h2
  have := w.fl x hx
  obtain ⟨f, hf, rfl⟩ := h2.ex (by omega)
  exact ⟨x, f, hx, hf, rfl, rfl⟩
theorem isRm.ex {c : CHo} (w : c.WF) {a1 a2 : Int32} (h : isRm c a1 a2) : ∃ x k, x < c.n ∧ k < c.fl x * c.wd x ∧ a1 = iN x ∧ a2 = iN k := by
  have hn := w.hn
  obtain ⟨x, hx, rfl⟩ := h.1.ex (by omega)
  have h2 := h.2
  rw [iN_nat (by omega)] at h2
  have := w.fw hx
  obtain ⟨f, hf, rfl⟩ := h2.ex (by omega)
  exact ⟨x, f, hx, hf, rfl, rfl⟩
theorem in_n {a : Int32} {n : Nat} (hn : n < 2147483648) {φ : amSh} {S : amSt} : p_X1_in a 0 (iN n - 1) φ S = some (if inN a n then 1 else 0, S) := by
  rw [sp_X1_in]
  by_cases h : inN a n
  · rw [if_neg (fun z => (out_n hn).mp z h), if_pos h]
  · rw [if_pos ((out_n hn).mpr h), if_neg h]
theorem sp_X1_isFloor {c : CHo} (w : c.WF) {φ : amSh} {S : amSt} (hφ : φ.1 255 ≠ 0) (hR : RCho c φ S) {a1 a2 : Int32} : p_X1_isFloor a1 a2 φ S = some (if isFl c a1 a2 then 1 else 0, S) := by
  have hn := w.hn
  unfold p_X1_isFloor
  by_cases h1 : inN a1 c.n
  · obtain ⟨x, hx, rfl⟩ := h1.ex (by omega)
    have hfl := w.fl x hx
    have en : (iN x).toNatClampNeg = x := iN_nat (by omega)
    rw [bd_gM hφ, bd_of (sp_X1_isHouse w hR), ip h1, jn_ap]
    simp only [i10, if_false]
    rw [rR24_1 (by omega), hR.obj x hx, bd_gI (by omega), hR.fl x hx, bd_of (in_n (by omega))]
    by_cases h2 : inN a2 (c.fl x)
    · rw [ip h2, ip (show isFl c (iN x) a2 from ⟨h1, by rw [en]; exact h2⟩)]; rfl
    · rw [iq h2, iq (show ¬ isFl c (iN x) a2 from fun z => h2 (by have := z.2; rw [en] at this; exact this))]; rfl
  · rw [bd_gM hφ, bd_of (sp_X1_isHouse w hR), iq h1, iq (show ¬ isFl c a1 a2 from fun z => h1 z.1)]; rfl
theorem sp_X3_isFloor {c : CHo} (w : c.WF) {φ : amSh} {S : amSt} (hφ : φ.1 255 ≠ 0) (hR : RMho c S) {a1 a2 : Int32} : p_X3_isFloor a1 a2 φ S = some (if isFl c a1 a2 then 1 else 0, S) := by
  have hn := w.hn
  unfold p_X3_isFloor
  by_cases h1 : inN a1 c.n
  · obtain ⟨x, hx, rfl⟩ := h1.ex (by omega)
    have hfl := w.fl x hx
    have en : (iN x).toNatClampNeg = x := iN_nat (by omega)
    rw [bd_gM hφ, bd_of (sp_X3_isHouse hR), ip h1, jn_ap]
    simp only [i10, if_false]
    by_cases h0 : a2 < 0
    · rw [if_pos h0, iq (show ¬ isFl c (iN x) a2 from fun z => z.2.1 h0)]; rfl
    · rw [if_neg h0, rI64_1 (by omega), hR.fl x hx]
      by_cases h2 : a2 < iN (c.fl x)
      · have h3 : ¬ iN (c.fl x) ≤ a2 := by rw [i32_nle]; exact fun z => z h2
        rw [if_neg h3, ip (show isFl c (iN x) a2 from ⟨h1, h0, by rw [en]; exact h2⟩)]; rfl
      · have h3 : iN (c.fl x) ≤ a2 := by rw [i32_nle]; exact h2
        rw [if_pos h3, iq (show ¬ isFl c (iN x) a2 from fun z => h2 (by have := z.2.2; rw [en] at this; exact this))]; rfl
  · rw [bd_gM hφ, bd_of (sp_X3_isHouse hR), iq h1, iq (show ¬ isFl c a1 a2 from fun z => h1 z.1)]; rfl
theorem sp_X1_isRoom {c : CHo} (w : c.WF) {φ : amSh} {S : amSt} (hφ : φ.1 255 ≠ 0) (hR : RCho c φ S) {a1 a2 : Int32} : p_X1_isRoom a1 a2 φ S = some (if isRm c a1 a2 then 1 else 0, S) := by
  have hn := w.hn
  unfold p_X1_isRoom
  by_cases h1 : inN a1 c.n
  · obtain ⟨x, hx, rfl⟩ := h1.ex (by omega)
    have hfw := w.fw hx
    have en : (iN x).toNatClampNeg = x := iN_nat (by omega)
    rw [bd_gM hφ, bd_of (sp_X1_isHouse w hR), ip h1, jn_ap]
    simp only [i10, if_false]
    rw [rR24_1 (by omega), hR.obj x hx, bd_nn (by omega), bd_of (sp_X5_all hR hx), bd_of (in_n (by omega))]
    by_cases h2 : inN a2 (c.fl x * c.wd x)
    · rw [ip h2, ip (show isRm c (iN x) a2 from ⟨h1, by rw [en]; exact h2⟩)]; rfl
    · rw [iq h2, iq (show ¬ isRm c (iN x) a2 from fun z => h2 (by have := z.2; rw [en] at this; exact this))]; rfl
  · rw [bd_gM hφ, bd_of (sp_X1_isHouse w hR), iq h1, iq (show ¬ isRm c a1 a2 from fun z => h1 z.1)]; rfl
theorem sp_X3_isRoom {c : CHo} (w : c.WF) {φ : amSh} {S : amSt} (hφ : φ.1 255 ≠ 0) (hR : RMho c S) {a1 a2 : Int32} : p_X3_isRoom a1 a2 φ S = some (if isRm c a1 a2 then 1 else 0, S) := by
  have hn := w.hn
  unfold p_X3_isRoom
  by_cases h1 : inN a1 c.n
  · obtain ⟨x, hx, rfl⟩ := h1.ex (by omega)
    have en : (iN x).toNatClampNeg = x := iN_nat (by omega)
    rw [bd_gM hφ, bd_of (sp_X3_isHouse hR), ip h1, jn_ap]
    simp only [i10, if_false]
    by_cases h0 : a2 < 0
    · rw [if_pos h0, iq (show ¬ isRm c (iN x) a2 from fun z => z.2.1 h0)]; rfl
    · rw [if_neg h0, rI64_1 (by omega), rI65_1 (by omega), hR.fl x hx, hR.wd x hx, iN_mul]
      by_cases h2 : a2 < iN (c.fl x * c.wd x)
      · have h3 : ¬ iN (c.fl x * c.wd x) ≤ a2 := by rw [i32_nle]; exact fun z => z h2
        rw [if_neg h3, ip (show isRm c (iN x) a2 from ⟨h1, h0, by rw [en]; exact h2⟩)]; rfl
      · have h3 : iN (c.fl x * c.wd x) ≤ a2 := by rw [i32_nle]; exact h2
        rw [if_pos h3, iq (show ¬ isRm c (iN x) a2 from fun z => h2 (by have := z.2.2; rw [en] at this; exact this))]; rfl
  · rw [bd_gM hφ, bd_of (sp_X3_isHouse hR), iq h1, iq (show ¬ isRm c a1 a2 from fun z => h1 z.1)]; rfl
/-! what a room is like -/
def roomOp (c : CHo) (b : CBz) (a1 a2 a3 : Int32) : Int32 :=
  if isRm c a1 a2 then (if a3 = 0 then b.heat (24 * a1.toNatClampNeg + a2.toNatClampNeg) else if a3 = 1 then b.stuff (24 * a1.toNatClampNeg + a2.toNatClampNeg) else if a3 = 2 then b01 (brn c b a1.toNatClampNeg a2.toNatClampNeg) else -1) else -1
theorem op_X1_room {c : CHo} (w : c.WF) {b : CBz} {φ : amSh} {S : amSt} (hφ : φ.1 255 ≠ 0) (hR : RCho c φ S) (hb : RCbk b c.n false S) {a1 a2 a3 : Int32} : p_X1_room a1 a2 a3 φ S = some (roomOp c b a1 a2 a3, S) := by
  have hn := w.hn
  unfold p_X1_room roomOp
  rw [bd_gM hφ, bd_of (sp_X1_isRoom w hφ hR)]
  by_cases h : isRm c a1 a2
  · rw [ip h, if_pos h]
    simp only [i10, if_false]
    obtain ⟨x, k, hx, hk, rfl, rfl⟩ := isRm.ex w h
    have hfw := w.fw hx
    have hst := hR.stb x hx
    have hst3 := hR.stg x hx
    have hbx : RCb1 b x (2 * (x + 1) - 1) S := hb x hx
    rw [iN_nat (by omega), iN_nat (by omega)]
    rw [rR24_1 (by omega), hR.obj x hx]
    have g2 := fun {β : Type} {f : Unit → am0 β} => bd_gC (f := f) (S := S) (show x + 1 ≠ 0 by omega) (show 2 < φ.2.1 3 (x + 1) by omega)
    by_cases c0 : a3 = 0
    · rw [if_pos c0, if_pos c0, g2, bd_gC (by omega) (show 0 < φ.2.1 4 (2 * (x + 1) - 1) by omega), rI145 (by omega) (by omega), hbx.heat k (by omega), rt_ap]
    · rw [if_neg c0, if_neg c0]
      by_cases c1 : a3 = 1
      · rw [if_pos c1, if_pos c1, g2, bd_gC (by omega) (show 1 < φ.2.1 4 (2 * (x + 1) - 1) by omega), rI146 (by omega) (by omega), hbx.stuff k (by omega), rt_ap]
      · rw [if_neg c1, if_neg c1]
        by_cases c2 : a3 = 2
        · rw [if_pos c2, if_pos c2, g2, bd_nn (by omega), bd_of (sp_X5_burns w hR hx hbx (by omega) hst hk)]
          cases brn c b x k <;> rfl
        · rw [if_neg c2, if_neg c2, rt_ap]
  · rw [iq h, if_neg h]; rfl
theorem op_X3_room {c : CHo} (w : c.WF) {b : CBz} {φ : amSh} {S : amSt} (hφ : φ.1 255 ≠ 0) (hR0 : RMho c S) (hb0 : RMbz b S) {a1 a2 a3 : Int32} : p_X3_room a1 a2 a3 φ S = some (roomOp c b a1 a2 a3, (u3 S.1 1 1 0 0, S.2)) := by
  have hn := w.hn
  have hR := hR0.fr th0 (by decide)
  have hb := hb0.fr th0 (by decide)
  unfold p_X3_room roomOp
  rw [bd_gM hφ, bd_pI1, bd_of (sp_X3_isRoom w hφ hR)]
  by_cases h : isRm c a1 a2
  · rw [ip h, if_pos h]
    simp only [i10, if_false]
    obtain ⟨x, k, hx, hk, rfl, rfl⟩ := isRm.ex w h
    have hfw := w.fw hx
    rw [iN_nat (by omega), iN_nat (by omega), iN_Lmul, iN_add]
    by_cases c0 : a3 = 0
    · rw [if_pos c0, if_pos c0, rI74_1 (by omega), hb.heat _ (by omega), rt_ap]
    · rw [if_neg c0, if_neg c0]
      by_cases c1 : a3 = 1
      · rw [if_pos c1, if_pos c1, rI75_1 (by omega), hb.stuff _ (by omega), rt_ap]
      · rw [if_neg c1, if_neg c1]
        by_cases c2 : a3 = 2
        · rw [if_pos c2, if_pos c2, bd_of (sp_X3_burns w hφ hR hb hx hk)]
          cases brn c b x k <;> rfl
        · rw [if_neg c2, if_neg c2, rt_ap]
  · rw [iq h, if_neg h]; rfl
/-! what a floor is like -/
def floorOp (c : CHo) (b : CBz) (a1 a2 a3 : Int32) : Int32 :=
  if isFl c a1 a2 then (if a3 = 0 then b.bnt (6 * a1.toNatClampNeg + a2.toNatClampNeg) else if a3 = 1 then (if b.fal (6 * a1.toNatClampNeg + a2.toNatClampNeg) = 0 then 0 else 1) else if a3 = 2 then c.ppl (6 * a1.toNatClampNeg + a2.toNatClampNeg) else if a3 = 3 then loadS b a1.toNatClampNeg a2.toNatClampNeg else -1) else -1
theorem op_X1_floored {c : CHo} (w : c.WF) {b : CBz} {φ : amSh} {S : amSt} (hφ : φ.1 255 ≠ 0) (hR : RCho c φ S) (hb : RCbk b c.n false S) {a1 a2 a3 : Int32} : p_X1_floored a1 a2 a3 φ S = some (floorOp c b a1 a2 a3, S) := by
  have hn := w.hn
  unfold p_X1_floored floorOp
  rw [bd_gM hφ, bd_of (sp_X1_isFloor w hφ hR)]
  by_cases h : isFl c a1 a2
  · rw [ip h, if_pos h]
    simp only [i10, if_false]
    obtain ⟨x, f, hx, hf, rfl, rfl⟩ := isFl.ex w h
    have hfl := w.fl x hx
    have hst := hR.stb x hx
    have hst3 := hR.stg x hx
    have hbx : RCb1 b x (2 * (x + 1) - 1) S := hb x hx
    rw [iN_nat (by omega), iN_nat (by omega)]
    rw [rR24_1 (by omega), hR.obj x hx]
    have g2 := fun {β : Type} {f : Unit → am0 β} => bd_gC (f := f) (S := S) (show x + 1 ≠ 0 by omega) (show 2 < φ.2.1 3 (x + 1) by omega)
    by_cases c0 : a3 = 0
    · rw [if_pos c0, if_pos c0, g2, bd_gC (by omega) (show 3 < φ.2.1 4 (2 * (x + 1) - 1) by omega), rI148 (by omega) (by omega), hbx.bnt f (by omega), rt_ap]
    · rw [if_neg c0, if_neg c0]
      by_cases c1 : a3 = 1
      · rw [if_pos c1, if_pos c1, g2, bd_gC (by omega) (show 4 < φ.2.1 4 (2 * (x + 1) - 1) by omega), rI149 (by omega) (by omega), hbx.fal f (by omega)]
        by_cases q : b.fal (6 * x + f) = 0
        · rw [if_pos q, if_pos q, rt_ap]
        · rw [if_neg q, if_neg q, rt_ap]
      · rw [if_neg c1, if_neg c1]
        by_cases c2 : a3 = 2
        · rw [if_pos c2, if_pos c2, bd_gC (by omega) (show 0 < φ.2.1 3 (x + 1) by omega), rI143 (by omega) (by omega), hR.ppl x f hx (by omega), rt_ap]
        · rw [if_neg c2, if_neg c2]
          by_cases c3 : a3 = 3
          · rw [if_pos c3, if_pos c3, g2, bd_nn (by omega), bd_of (sp_X5_load hbx (by omega) hst (by omega)), rt_ap]
          · rw [if_neg c3, if_neg c3, rt_ap]
  · rw [iq h, if_neg h]; rfl
theorem op_X3_floored {c : CHo} (w : c.WF) {b : CBz} {φ : amSh} {S : amSt} (hφ : φ.1 255 ≠ 0) (hR0 : RMho c S) (hb0 : RMbz b S) {a1 a2 a3 : Int32} : p_X3_floored a1 a2 a3 φ S = some (floorOp c b a1 a2 a3, (u3 S.1 1 1 0 0, S.2)) := by
  have hn := w.hn
  have hR := hR0.fr th0 (by decide)
  have hb := hb0.fr th0 (by decide)
  unfold p_X3_floored floorOp
  rw [bd_gM hφ, bd_pI1, bd_of (sp_X3_isFloor w hφ hR)]
  by_cases h : isFl c a1 a2
  · rw [ip h, if_pos h]
    simp only [i10, if_false]
    obtain ⟨x, f, hx, hf, rfl, rfl⟩ := isFl.ex w h
    have hfl := w.fl x hx
    rw [iN_nat (by omega), iN_nat (by omega), iN_Lmul, iN_add, bd_rt]
    by_cases c0 : a3 = 0
    · rw [if_pos c0, if_pos c0, rI79_1 (by omega), hb.bnt _ (by omega), rt_ap]
    · rw [if_neg c0, if_neg c0]
      by_cases c1 : a3 = 1
      · rw [if_pos c1, if_pos c1, rI82_1 (by omega), hb.fal _ (by omega)]
        by_cases q : b.fal (6 * x + f) = 0
        · rw [if_pos q, if_pos q, rt_ap]
        · rw [if_neg q, if_neg q, rt_ap]
      · rw [if_neg c1, if_neg c1]
        by_cases c2 : a3 = 2
        · rw [if_pos c2, if_pos c2, rI80_1 (by omega), hR.ppl _ (by omega), rt_ap]
        · rw [if_neg c2, if_neg c2]
          by_cases c3 : a3 = 3
          · rw [if_pos c3, if_pos c3, bd_of (sp_X3_loadOf hφ hb (by omega) (by omega)), rt_ap]
          · rw [if_neg c3, if_neg c3, rt_ap]
  · rw [iq h, if_neg h]; rfl
