/-! arrays -/
def amAr (p kd : Nat) (ty : FieldType) : Prop := p < 250 ∧ am_pk p = kd ∧ am_tys[am_pt p]? = some ty
theorem amKK.va1 {D : va_G} {dA : Nat → ClassId} {U : State} {i : Nat} {ty : FieldType} (h : amKK D dA U) (hi : am_tys[i]? = some ty) : va_K D am_cl [(dA i, ty)] U := by
  refine ⟨h.1, fun k q hk => ?_⟩
  cases k with
  | zero => cases hk; exact h.2.1 i ty hi
  | succ k => simp at hk
section am9
variable {D : va_G} {dA : Nat → ClassId} {ad : Nat → Nat} {φ : amSh} {S : amSt} {q r : Nat} {H : Heap}
theorem am_enI (hk : am_pk q = 1) : amEn dA ad φ S q r = .inl (dA (am_pt q), am_pl q r, .inl (S.1 q r)) := by unfold amEn; rw [hk]; rfl
theorem am_enR (hk : am_pk q = 2) : amEn dA ad φ S q r = .inl (dA (am_pt q), am_pl q r, .inr (.inr (.inr (.inr fun j => rad ad (am_pg q) (S.2.2 q r j))))) := by unfold amEn; rw [hk]; rfl
theorem am_enG (hk : am_pk q = 3) : amEn dA ad φ S q r = .inl (dA (am_pt q), am_pl q r, .inr (.inr (.inr (.inr fun j => if j < am_pl q r then some (ad (rid (am_pg q) (j + 1))) else none)))) := by unfold amEn; rw [hk]; rfl
theorem am_enF (hk : am_pk q = 4) : amEn dA ad φ S q r = .inl (dA (am_pt q), am_pl q r, .inr (.inr (.inl fun j => (S.2.1 q r j).toUInt32))) := by unfold amEn; rw [hk]; rfl
theorem am_enD (hk : am_pk q = 5) : amEn dA ad φ S q r = .inl (dA (am_pt q), am_pl q r, .inr (.inr (.inr (.inl (S.2.1 q r))))) := by unfold amEn; rw [hk]; rfl
theorem am_ve1 (hk : am_pk q = 1) : amVE φ S q r := by unfold amVE; rw [hk]; trivial
theorem am_ve5 (hk : am_pk q = 5) : amVE φ S q r := by unfold amVE; rw [hk]; trivial
theorem am_ve4 (hk : am_pk q = 4) : amVE φ S q r := by unfold amVE; rw [hk]; trivial
theorem am_ve2 (hk : am_pk q = 2) : amVE φ S q r = ∀ j, S.2.2 q r j ≤ φ.1 (am_pg q) := by unfold amVE; rw [hk]; rfl
theorem am_ve3 (hk : am_pk q = 3) : amVE φ S q r = ∀ j, j < am_pl q r → j + 1 ≤ φ.1 (am_pg q) := by unfold amVE; rw [hk]; rfl
end am9
def rF (p r : Nat) (i : Int32) : am0 UInt32 := fun _ S => if r ≠ 0 ∧ amIn i (am_pl p r) then some ((S.2.1 p r i.toNatClampNeg).toUInt32, S) else none
def wF (p r : Nat) (i : Int32) (v : UInt32) : am0 Unit := fun _ S => if r ≠ 0 ∧ amIn i (am_pl p r) then some ((), (S.1, u3 S.2.1 p r i.toNatClampNeg v.toUInt64, S.2.2)) else none
section am10
variable {X : amX} {cc : ByteArray} {own : String} {nL F L : Nat} {rtp : Option FieldType} {β : Type} {enc : β → Option Value} {pc : Nat} {l : List (Nat × Value)} {st : List Value}
theorem wg_rI {q r : Nat} {i : Int32} {g : Int32 → am1 β} (hX : amOK X cc own nL F L rtp) (hA0 : amAr q 1 .int) (hdg : decode cc pc = .ok (.iaload, 1)) (k : ∀ v : Int32, WG X enc (pc + 1) l (.int v :: st) (g v)) : WG X enc pc l (.int i :: .ref (rid q r) :: st) (bd1 (up (rI q r i)) g) := by
  obtain ⟨⟨p, lc, e, R, s⟩, ⟨m, args, below, meth, c⟩, ⟨D, dA, ad0, φ0, A⟩, ⟨Q, fin⟩⟩ := X
  intro φ S b φ' S' kc ks hP hf ad H locs cells slots ls hI hc hs hv hvl hl
  obtain ⟨a1, S1, hm, hg⟩ := bd1_up_some hP
  unfold rI at hm
  split at hm
  · rename_i h0
    cases hm
    have hq := hA0.1
    have ho : amOk φ q r := ⟨hq, Nat.pos_of_ne_zero h0.1, amV_r (by omega) hv.2.1⟩
    have hat := hI.1.1 q r ho
    rw [am_enI hA0.2.1] at hat
    rw [List.map_cons, List.map_cons, cn_rid h0.1]
    exact va_iald hX.1 hX.2.1 (hX.2.2.2.2.2.2.2.2.1.va1 hA0.2.2) (va_P1 hat) 0 0 rfl rfl h0.2 hdg (k _ φ S b φ' S' kc ks hg hf ad H locs cells slots ls hI hc hs ⟨trivial, hv.2.2⟩ hvl hl)
  · cases hm
theorem wg_rB {q r : Nat} {i : Int32} {g : Int32 → am1 β} (hX : amOK X cc own nL F L rtp) (hA0 : amAr q 1 .byte) (hdg : decode cc pc = .ok (.baload, 1)) (k : ∀ v : Int32, WG X enc (pc + 1) l (.int v :: st) (g v)) : WG X enc pc l (.int i :: .ref (rid q r) :: st) (bd1 (up (rI q r i)) g) := by
  obtain ⟨⟨p, lc, e, R, s⟩, ⟨m, args, below, meth, c⟩, ⟨D, dA, ad0, φ0, A⟩, ⟨Q, fin⟩⟩ := X
  intro φ S b φ' S' kc ks hP hf ad H locs cells slots ls hI hc hs hv hvl hl
  obtain ⟨a1, S1, hm, hg⟩ := bd1_up_some hP
  unfold rI at hm
  split at hm
  · rename_i h0
    cases hm
    have hq := hA0.1
    have ho : amOk φ q r := ⟨hq, Nat.pos_of_ne_zero h0.1, amV_r (by omega) hv.2.1⟩
    have hat := hI.1.1 q r ho
    rw [am_enI hA0.2.1] at hat
    rw [List.map_cons, List.map_cons, cn_rid h0.1]
    exact va_bald hX.1 hX.2.1 (hX.2.2.2.2.2.2.2.2.1.va1 hA0.2.2) (va_P1 hat) 0 0 rfl rfl h0.2 hdg (k _ φ S b φ' S' kc ks hg hf ad H locs cells slots ls hI hc hs ⟨trivial, hv.2.2⟩ hvl hl)
  · cases hm
theorem wg_rZ {q r : Nat} {i : Int32} {g : Int32 → am1 β} (hX : amOK X cc own nL F L rtp) (hA0 : amAr q 1 .boolean) (hdg : decode cc pc = .ok (.baload, 1)) (k : ∀ v : Int32, WG X enc (pc + 1) l (.int v :: st) (g v)) : WG X enc pc l (.int i :: .ref (rid q r) :: st) (bd1 (up (rI q r i)) g) := by
  obtain ⟨⟨p, lc, e, R, s⟩, ⟨m, args, below, meth, c⟩, ⟨D, dA, ad0, φ0, A⟩, ⟨Q, fin⟩⟩ := X
  intro φ S b φ' S' kc ks hP hf ad H locs cells slots ls hI hc hs hv hvl hl
  obtain ⟨a1, S1, hm, hg⟩ := bd1_up_some hP
  unfold rI at hm
  split at hm
  · rename_i h0
    cases hm
    have hq := hA0.1
    have ho : amOk φ q r := ⟨hq, Nat.pos_of_ne_zero h0.1, amV_r (by omega) hv.2.1⟩
    have hat := hI.1.1 q r ho
    rw [am_enI hA0.2.1] at hat
    rw [List.map_cons, List.map_cons, cn_rid h0.1]
    exact va_zald hX.1 hX.2.1 (hX.2.2.2.2.2.2.2.2.1.va1 hA0.2.2) (va_P1 hat) 0 0 rfl rfl h0.2 hdg (k _ φ S b φ' S' kc ks hg hf ad H locs cells slots ls hI hc hs ⟨trivial, hv.2.2⟩ hvl hl)
  · cases hm
theorem wg_rS {q r : Nat} {i : Int32} {g : Int32 → am1 β} (hX : amOK X cc own nL F L rtp) (hA0 : amAr q 1 .short) (hdg : decode cc pc = .ok (.saload, 1)) (k : ∀ v : Int32, WG X enc (pc + 1) l (.int v :: st) (g v)) : WG X enc pc l (.int i :: .ref (rid q r) :: st) (bd1 (up (rI q r i)) g) := by
  obtain ⟨⟨p, lc, e, R, s⟩, ⟨m, args, below, meth, c⟩, ⟨D, dA, ad0, φ0, A⟩, ⟨Q, fin⟩⟩ := X
  intro φ S b φ' S' kc ks hP hf ad H locs cells slots ls hI hc hs hv hvl hl
  obtain ⟨a1, S1, hm, hg⟩ := bd1_up_some hP
  unfold rI at hm
  split at hm
  · rename_i h0
    cases hm
    have hq := hA0.1
    have ho : amOk φ q r := ⟨hq, Nat.pos_of_ne_zero h0.1, amV_r (by omega) hv.2.1⟩
    have hat := hI.1.1 q r ho
    rw [am_enI hA0.2.1] at hat
    rw [List.map_cons, List.map_cons, cn_rid h0.1]
    exact va_sald hX.1 hX.2.1 (hX.2.2.2.2.2.2.2.2.1.va1 hA0.2.2) (va_P1 hat) 0 0 rfl rfl h0.2 hdg (k _ φ S b φ' S' kc ks hg hf ad H locs cells slots ls hI hc hs ⟨trivial, hv.2.2⟩ hvl hl)
  · cases hm
theorem wg_rD {q r : Nat} {i : Int32} {g : UInt64 → am1 β} (hX : amOK X cc own nL F L rtp) (hA0 : amAr q 5 .double) (hdg : decode cc pc = .ok (.daload, 1)) (k : ∀ v : UInt64, WG X enc (pc + 1) l (.double v :: st) (g v)) : WG X enc pc l (.int i :: .ref (rid q r) :: st) (bd1 (up (rD q r i)) g) := by
  obtain ⟨⟨p, lc, e, R, s⟩, ⟨m, args, below, meth, c⟩, ⟨D, dA, ad0, φ0, A⟩, ⟨Q, fin⟩⟩ := X
  intro φ S b φ' S' kc ks hP hf ad H locs cells slots ls hI hc hs hv hvl hl
  obtain ⟨a1, S1, hm, hg⟩ := bd1_up_some hP
  unfold rD at hm
  split at hm
  · rename_i h0
    cases hm
    have hq := hA0.1
    have ho : amOk φ q r := ⟨hq, Nat.pos_of_ne_zero h0.1, amV_r (by omega) hv.2.1⟩
    have hat := hI.1.1 q r ho
    rw [am_enD hA0.2.1] at hat
    rw [List.map_cons, List.map_cons, cn_rid h0.1]
    exact va_dald hX.1 hX.2.1 (hX.2.2.2.2.2.2.2.2.1.va1 hA0.2.2) (va_P1 hat) 0 0 rfl rfl h0.2 hdg (k _ φ S b φ' S' kc ks hg hf ad H locs cells slots ls hI hc hs ⟨trivial, hv.2.2⟩ hvl hl)
  · cases hm
theorem wg_rF {q r : Nat} {i : Int32} {g : UInt32 → am1 β} (hX : amOK X cc own nL F L rtp) (hA0 : amAr q 4 .float) (hdg : decode cc pc = .ok (.faload, 1)) (k : ∀ v : UInt32, WG X enc (pc + 1) l (.float v :: st) (g v)) : WG X enc pc l (.int i :: .ref (rid q r) :: st) (bd1 (up (rF q r i)) g) := by
  obtain ⟨⟨p, lc, e, R, s⟩, ⟨m, args, below, meth, c⟩, ⟨D, dA, ad0, φ0, A⟩, ⟨Q, fin⟩⟩ := X
  intro φ S b φ' S' kc ks hP hf ad H locs cells slots ls hI hc hs hv hvl hl
  obtain ⟨a1, S1, hm, hg⟩ := bd1_up_some hP
  unfold rF at hm
  split at hm
  · rename_i h0
    cases hm
    have hq := hA0.1
    have ho : amOk φ q r := ⟨hq, Nat.pos_of_ne_zero h0.1, amV_r (by omega) hv.2.1⟩
    have hat := hI.1.1 q r ho
    rw [am_enF hA0.2.1] at hat
    rw [List.map_cons, List.map_cons, cn_rid h0.1]
    exact va_fald hX.1 hX.2.1 (hX.2.2.2.2.2.2.2.2.1.va1 hA0.2.2) (va_P1 hat) 0 0 rfl rfl h0.2 hdg (k _ φ S b φ' S' kc ks hg hf ad H locs cells slots ls hI hc hs ⟨trivial, hv.2.2⟩ hvl hl)
  · cases hm
theorem wg_wI {q r : Nat} {i : Int32} {x : Int32} {g : Unit → am1 β} (hX : amOK X cc own nL F L rtp) (hA0 : amAr q 1 .int)  (hdg : decode cc pc = .ok (.iastore, 1)) (k : WG X enc (pc + 1) l st (g ())) : WG X enc pc l (.int x :: .int i :: .ref (rid q r) :: st) (bd1 (up (wI q r i x)) g) := by
  obtain ⟨⟨p, lc, e, R, s⟩, ⟨m, args, below, meth, c⟩, ⟨D, dA, ad0, φ0, A⟩, ⟨Q, fin⟩⟩ := X
  intro φ S b φ' S' kc ks hP hf ad H locs cells slots ls hI hc hs hv hvl hl
  obtain ⟨a1, S1, hm, hg⟩ := bd1_up_some hP
  unfold wI at hm
  split at hm
  · rename_i h0
    cases hm
    have hq := hA0.1
    have hk := hA0.2.1
    have ho : amOk φ q r := ⟨hq, Nat.pos_of_ne_zero h0.1, amV_r (by omega) hv.2.2.1⟩
    have hat := hI.1.1 q r ho
    rw [am_enI hk] at hat
    rw [List.map_cons, List.map_cons, List.map_cons, cn_rid h0.1]
    refine W.iast hX.1 hX.2.1 hat ((hX.2.2.2.2.2.2.2.2.1.2.1 _ _ hA0.2.2).1 _ (fun j => .int (S.1 q r j))) (fun h => by cases h) (by show ¬ (i < 0 ∨ (arrV _ _ _).slots.size ≤ _); rw [arrV_size]; exact h0.2) rfl rfl hdg fun H1 e1 z oq => ?_
    refine k φ (u3 S.1 q r i.toNatClampNeg x, S.2) b φ' S' kc ks hg hf ad H1 _ cells slots ls (hI.put ho rfl (fun p' r' hne => ⟨u3_other hne, rfl, rfl, rfl, rfl⟩) ?_ z oq (am_ve1 hk)) hc hs hv.2.2.2 hvl hl
    rw [am_enI hk]
    show H1[ad (rid q r)]? = some (vp_cell _ _)
    rw [e1]
    rw [vp_cell_i, vp_cell_i, arrV_store]
    congr 2
    funext j
    unfold updV
    dsimp only
    rw [u3_self]
    dsimp only
    by_cases hj : j = i.toNatClampNeg
    · rw [if_pos hj, if_pos hj]
    · rw [if_neg hj, if_neg hj]
  · cases hm
theorem wg_wB {q r : Nat} {i : Int32} {x : Int32} {g : Unit → am1 β} (hX : amOK X cc own nL F L rtp) (hA0 : amAr q 1 .byte)  (hdg : decode cc pc = .ok (.bastore, 1)) (k : WG X enc (pc + 1) l st (g ())) : WG X enc pc l (.int x :: .int i :: .ref (rid q r) :: st) (bd1 (up (wI q r i x.toInt8.toInt32)) g) := by
  obtain ⟨⟨p, lc, e, R, s⟩, ⟨m, args, below, meth, c⟩, ⟨D, dA, ad0, φ0, A⟩, ⟨Q, fin⟩⟩ := X
  intro φ S b φ' S' kc ks hP hf ad H locs cells slots ls hI hc hs hv hvl hl
  obtain ⟨a1, S1, hm, hg⟩ := bd1_up_some hP
  unfold wI at hm
  split at hm
  · rename_i h0
    cases hm
    have hq := hA0.1
    have hk := hA0.2.1
    have ho : amOk φ q r := ⟨hq, Nat.pos_of_ne_zero h0.1, amV_r (by omega) hv.2.2.1⟩
    have hat := hI.1.1 q r ho
    rw [am_enI hk] at hat
    rw [List.map_cons, List.map_cons, List.map_cons, cn_rid h0.1]
    refine W.bast hX.1 hX.2.1 hat ((hX.2.2.2.2.2.2.2.2.1.2.1 _ _ hA0.2.2).1 _ (fun j => .int (S.1 q r j))) (fun h => by cases h) (by show ¬ (i < 0 ∨ (arrV _ _ _).slots.size ≤ _); rw [arrV_size]; exact h0.2) rfl rfl hdg fun H1 e1 z oq => ?_
    refine k φ (u3 S.1 q r i.toNatClampNeg x.toInt8.toInt32, S.2) b φ' S' kc ks hg hf ad H1 _ cells slots ls (hI.put ho rfl (fun p' r' hne => ⟨u3_other hne, rfl, rfl, rfl, rfl⟩) ?_ z oq (am_ve1 hk)) hc hs hv.2.2.2 hvl hl
    rw [am_enI hk]
    show H1[ad (rid q r)]? = some (vp_cell _ _)
    rw [e1]
    rw [vp_cell_i, vp_cell_i, arrV_store]
    congr 2
    funext j
    unfold updV
    dsimp only
    rw [u3_self]
    dsimp only
    by_cases hj : j = i.toNatClampNeg
    · rw [if_pos hj, if_pos hj]
      rfl
    · rw [if_neg hj, if_neg hj]
  · cases hm
theorem wg_wS {q r : Nat} {i : Int32} {x : Int32} {g : Unit → am1 β} (hX : amOK X cc own nL F L rtp) (hA0 : amAr q 1 .short)  (hdg : decode cc pc = .ok (.sastore, 1)) (k : WG X enc (pc + 1) l st (g ())) : WG X enc pc l (.int x :: .int i :: .ref (rid q r) :: st) (bd1 (up (wI q r i x.toInt16.toInt32)) g) := by
  obtain ⟨⟨p, lc, e, R, s⟩, ⟨m, args, below, meth, c⟩, ⟨D, dA, ad0, φ0, A⟩, ⟨Q, fin⟩⟩ := X
  intro φ S b φ' S' kc ks hP hf ad H locs cells slots ls hI hc hs hv hvl hl
  obtain ⟨a1, S1, hm, hg⟩ := bd1_up_some hP
  unfold wI at hm
  split at hm
  · rename_i h0
    cases hm
    have hq := hA0.1
    have hk := hA0.2.1
    have ho : amOk φ q r := ⟨hq, Nat.pos_of_ne_zero h0.1, amV_r (by omega) hv.2.2.1⟩
    have hat := hI.1.1 q r ho
    rw [am_enI hk] at hat
    rw [List.map_cons, List.map_cons, List.map_cons, cn_rid h0.1]
    refine W.sast hX.1 hX.2.1 hat ((hX.2.2.2.2.2.2.2.2.1.2.1 _ _ hA0.2.2).1 _ (fun j => .int (S.1 q r j))) (fun h => by cases h) (by show ¬ (i < 0 ∨ (arrV _ _ _).slots.size ≤ _); rw [arrV_size]; exact h0.2) rfl rfl hdg fun H1 e1 z oq => ?_
    refine k φ (u3 S.1 q r i.toNatClampNeg x.toInt16.toInt32, S.2) b φ' S' kc ks hg hf ad H1 _ cells slots ls (hI.put ho rfl (fun p' r' hne => ⟨u3_other hne, rfl, rfl, rfl, rfl⟩) ?_ z oq (am_ve1 hk)) hc hs hv.2.2.2 hvl hl
    rw [am_enI hk]
    show H1[ad (rid q r)]? = some (vp_cell _ _)
    rw [e1]
    rw [vp_cell_i, vp_cell_i, arrV_store]
    congr 2
    funext j
    unfold updV
    dsimp only
    rw [u3_self]
    dsimp only
    by_cases hj : j = i.toNatClampNeg
    · rw [if_pos hj, if_pos hj]
      rfl
    · rw [if_neg hj, if_neg hj]
  · cases hm
theorem wg_wZ {q r : Nat} {i : Int32} {x : Int32} {g : Unit → am1 β} (hX : amOK X cc own nL F L rtp) (hA0 : amAr q 1 .boolean) (hz : x = 0 ∨ x = 1) (hdg : decode cc pc = .ok (.bastore, 1)) (k : WG X enc (pc + 1) l st (g ())) : WG X enc pc l (.int x :: .int i :: .ref (rid q r) :: st) (bd1 (up (wI q r i x)) g) := by
  obtain ⟨⟨p, lc, e, R, s⟩, ⟨m, args, below, meth, c⟩, ⟨D, dA, ad0, φ0, A⟩, ⟨Q, fin⟩⟩ := X
  intro φ S b φ' S' kc ks hP hf ad H locs cells slots ls hI hc hs hv hvl hl
  obtain ⟨a1, S1, hm, hg⟩ := bd1_up_some hP
  unfold wI at hm
  split at hm
  · rename_i h0
    cases hm
    have hq := hA0.1
    have hk := hA0.2.1
    have ho : amOk φ q r := ⟨hq, Nat.pos_of_ne_zero h0.1, amV_r (by omega) hv.2.2.1⟩
    have hat := hI.1.1 q r ho
    rw [am_enI hk] at hat
    rw [List.map_cons, List.map_cons, List.map_cons, cn_rid h0.1]
    refine W.zast hX.1 hX.2.1 hat ((hX.2.2.2.2.2.2.2.2.1.2.1 _ _ hA0.2.2).1 _ (fun j => .int (S.1 q r j))) (fun h => by cases h) (by show ¬ (i < 0 ∨ (arrV _ _ _).slots.size ≤ _); rw [arrV_size]; exact h0.2) rfl rfl hdg fun H1 e1 z oq => ?_
    refine k φ (u3 S.1 q r i.toNatClampNeg x, S.2) b φ' S' kc ks hg hf ad H1 _ cells slots ls (hI.put ho rfl (fun p' r' hne => ⟨u3_other hne, rfl, rfl, rfl, rfl⟩) ?_ z oq (am_ve1 hk)) hc hs hv.2.2.2 hvl hl
    rw [am_enI hk]
    show H1[ad (rid q r)]? = some (vp_cell _ _)
    rw [e1]
    rw [vp_cell_i, vp_cell_i, arrV_store]
    congr 2
    funext j
    unfold updV
    dsimp only
    rw [u3_self]
    dsimp only
    by_cases hj : j = i.toNatClampNeg
    · rw [if_pos hj, if_pos hj]
      exact (am_z01 hz).1
    · rw [if_neg hj, if_neg hj]
  · cases hm
theorem wg_wD {q r : Nat} {i : Int32} {x : UInt64} {g : Unit → am1 β} (hX : amOK X cc own nL F L rtp) (hA0 : amAr q 5 .double)  (hdg : decode cc pc = .ok (.dastore, 1)) (k : WG X enc (pc + 1) l st (g ())) : WG X enc pc l (.double x :: .int i :: .ref (rid q r) :: st) (bd1 (up (wD q r i x)) g) := by
  obtain ⟨⟨p, lc, e, R, s⟩, ⟨m, args, below, meth, c⟩, ⟨D, dA, ad0, φ0, A⟩, ⟨Q, fin⟩⟩ := X
  intro φ S b φ' S' kc ks hP hf ad H locs cells slots ls hI hc hs hv hvl hl
  obtain ⟨a1, S1, hm, hg⟩ := bd1_up_some hP
  unfold wD at hm
  split at hm
  · rename_i h0
    cases hm
    have hq := hA0.1
    have hk := hA0.2.1
    have ho : amOk φ q r := ⟨hq, Nat.pos_of_ne_zero h0.1, amV_r (by omega) hv.2.2.1⟩
    have hat := hI.1.1 q r ho
    rw [am_enD hk] at hat
    rw [List.map_cons, List.map_cons, List.map_cons, cn_rid h0.1]
    refine W.dast hX.1 hX.2.1 hat ((hX.2.2.2.2.2.2.2.2.1.2.1 _ _ hA0.2.2).1 _ (fun j => .double (S.2.1 q r j))) (fun h => by cases h) (by show ¬ (i < 0 ∨ (arrV _ _ _).slots.size ≤ _); rw [arrV_size]; exact h0.2) rfl rfl hdg fun H1 e1 z oq => ?_
    refine k φ (S.1, u3 S.2.1 q r i.toNatClampNeg x, S.2.2) b φ' S' kc ks hg hf ad H1 _ cells slots ls (hI.put ho rfl (fun p' r' hne => ⟨rfl, u3_other hne, rfl, rfl, rfl⟩) ?_ z oq (am_ve5 hk)) hc hs hv.2.2.2 hvl hl
    rw [am_enD hk]
    show H1[ad (rid q r)]? = some (vp_cell _ _)
    rw [e1]
    rw [vp_cell_d, vp_cell_d, arrV_store]
    congr 2
    funext j
    unfold updV
    dsimp only
    rw [u3_self]
    dsimp only
    by_cases hj : j = i.toNatClampNeg
    · rw [if_pos hj, if_pos hj]
    · rw [if_neg hj, if_neg hj]
  · cases hm
theorem wg_wF {q r : Nat} {i : Int32} {x : UInt32} {g : Unit → am1 β} (hX : amOK X cc own nL F L rtp) (hA0 : amAr q 4 .float)  (hdg : decode cc pc = .ok (.fastore, 1)) (k : WG X enc (pc + 1) l st (g ())) : WG X enc pc l (.float x :: .int i :: .ref (rid q r) :: st) (bd1 (up (wF q r i x)) g) := by
  obtain ⟨⟨p, lc, e, R, s⟩, ⟨m, args, below, meth, c⟩, ⟨D, dA, ad0, φ0, A⟩, ⟨Q, fin⟩⟩ := X
  intro φ S b φ' S' kc ks hP hf ad H locs cells slots ls hI hc hs hv hvl hl
  obtain ⟨a1, S1, hm, hg⟩ := bd1_up_some hP
  unfold wF at hm
  split at hm
  · rename_i h0
    cases hm
    have hq := hA0.1
    have hk := hA0.2.1
    have ho : amOk φ q r := ⟨hq, Nat.pos_of_ne_zero h0.1, amV_r (by omega) hv.2.2.1⟩
    have hat := hI.1.1 q r ho
    rw [am_enF hk] at hat
    rw [List.map_cons, List.map_cons, List.map_cons, cn_rid h0.1]
    refine W.fast hX.1 hX.2.1 hat ((hX.2.2.2.2.2.2.2.2.1.2.1 _ _ hA0.2.2).1 _ (fun j => .float ((fun k0 => (S.2.1 q r k0).toUInt32) j))) (fun h => by cases h) (by show ¬ (i < 0 ∨ (arrV _ _ _).slots.size ≤ _); rw [arrV_size]; exact h0.2) rfl rfl hdg fun H1 e1 z oq => ?_
    refine k φ (S.1, u3 S.2.1 q r i.toNatClampNeg x.toUInt64, S.2.2) b φ' S' kc ks hg hf ad H1 _ cells slots ls (hI.put ho rfl (fun p' r' hne => ⟨rfl, u3_other hne, rfl, rfl, rfl⟩) ?_ z oq (am_ve4 hk)) hc hs hv.2.2.2 hvl hl
    rw [am_enF hk]
    show H1[ad (rid q r)]? = some (vp_cell _ _)
    rw [e1]
    rw [vp_cell_f, vp_cell_f, arrV_store]
    congr 2
    funext j
    unfold updV
    dsimp only
    rw [u3_self]
    dsimp only
    by_cases hj : j = i.toNatClampNeg
    · rw [if_pos hj, if_pos hj]
      simp
    · rw [if_neg hj, if_neg hj]
  · cases hm
theorem wg_rR {q r : Nat} {i : Int32} {E : String} {g : Nat → am1 β} (hX : amOK X cc own nL F L rtp) (hA0 : amAr q 2 (.object E)) (ht : am_pg q < 256) (hdg : decode cc pc = .ok (.aaload, 1)) (k : ∀ v : Nat, WG X enc (pc + 1) l (.ref (rid (am_pg q) v) :: st) (g v)) : WG X enc pc l (.int i :: .ref (rid q r) :: st) (bd1 (up (rR q r i)) g) := by
  obtain ⟨⟨p, lc, e, R, s⟩, ⟨m, args, below, meth, c⟩, ⟨D, dA, ad0, φ0, A⟩, ⟨Q, fin⟩⟩ := X
  intro φ S b φ' S' kc ks hP hf ad H locs cells slots ls hI hc hs hv hvl hl
  obtain ⟨a1, S1, hm, hg⟩ := bd1_up_some hP
  unfold rR at hm
  split at hm
  · rename_i h0
    cases hm
    have hq := hA0.1
    have ho : amOk φ q r := ⟨hq, Nat.pos_of_ne_zero h0.1, amV_r (by omega) hv.2.1⟩
    have hat := hI.1.1 q r ho
    have hve := hI.1.2.2 q r ho
    rw [am_enR hA0.2.1] at hat
    rw [am_ve2 hA0.2.1] at hve
    rw [List.map_cons, List.map_cons, cn_rid h0.1]
    have k1 := k _ φ S b φ' S' kc ks hg hf ad H locs cells slots ls hI hc hs ⟨amV_mk ht (hve _), hv.2.2⟩ hvl hl
    rw [List.map_cons, cn_rad ht] at k1
    exact va_aldq hX.1 hX.2.1 (hX.2.2.2.2.2.2.2.2.1.va1 hA0.2.2) (va_P1 hat) 0 0 rfl rfl h0.2 hdg k1
  · cases hm
theorem wg_rG {q r : Nat} {i : Int32} {E : FieldType} {g : Nat → am1 β} (hX : amOK X cc own nL F L rtp) (hA0 : amAr q 3 (.array E)) (ht : am_pg q < 256) (hdg : decode cc pc = .ok (.aaload, 1)) (k : ∀ v : Nat, v ≠ 0 → WG X enc (pc + 1) l (.ref (rid (am_pg q) v) :: st) (g v)) : WG X enc pc l (.int i :: .ref (rid q r) :: st) (bd1 (up (rG q r i)) g) := by
  obtain ⟨⟨p, lc, e, R, s⟩, ⟨m, args, below, meth, c⟩, ⟨D, dA, ad0, φ0, A⟩, ⟨Q, fin⟩⟩ := X
  intro φ S b φ' S' kc ks hP hf ad H locs cells slots ls hI hc hs hv hvl hl
  obtain ⟨a1, S1, hm, hg⟩ := bd1_up_some hP
  unfold rG at hm
  split at hm
  · rename_i h0
    cases hm
    have hq := hA0.1
    have ho : amOk φ q r := ⟨hq, Nat.pos_of_ne_zero h0.1, amV_r (by omega) hv.2.1⟩
    have hat := hI.1.1 q r ho
    have hve := hI.1.2.2 q r ho
    rw [am_enG hA0.2.1] at hat
    rw [am_ve3 hA0.2.1] at hve
    have hlt : i.toNatClampNeg < am_pl q r := Nat.not_le.mp fun h => h0.2 (Or.inr h)
    rw [List.map_cons, List.map_cons, cn_rid h0.1]
    have k1 := k _ (Nat.succ_ne_zero _) φ S b φ' S' kc ks hg hf ad H locs cells slots ls hI hc hs ⟨amV_mk ht (hve _ hlt), hv.2.2⟩ hvl hl
    rw [List.map_cons, cn_rid (Nat.succ_ne_zero _)] at k1
    refine W.aald (v := .ref (ad (rid (am_pg q) (i.toNatClampNeg + 1)))) (ty := .array E) hX.1 hX.2.1 hat ((hX.2.2.2.2.2.2.2.2.1.2.1 _ _ hA0.2.2).1 _ (fun j => va_rf (if j < am_pl q r then some (ad (rid (am_pg q) (j + 1))) else none))) rfl (fun h => by cases h) (by show ¬ (i < 0 ∨ (arrV _ _ _).slots.size ≤ _); rw [arrV_size]; exact h0.2) (by show (arrV _ _ _).slots[_]? = _; rw [arrV_read _ _ hlt]; dsimp only; rw [if_pos hlt]; rfl) rfl rfl hdg k1
  · cases hm
/-- which classes may lie in an array of references -/
def amEl (q : Nat) (E : String) : Prop := am_pg q < 250 ∧ am_pk (am_pg q) = 0 ∧ ∀ c ∈ am_kl (am_pg q), ∃ (C : String) (T : u_T) (n : Nat), am_cl[c]? = some (C, T, n) ∧ (C = E ∨ Cond.castable C E ∈ lw_tbl)
theorem am_rad_up {ad : Nat → Nat} {t k : Nat} {f : Nat → Nat} {v : Nat} : (fun j => rad ad t (if j = k then v else f j)) = fun j => if j = k then rad ad t v else rad ad t (f j) := by
  funext j
  by_cases h : j = k
  · rw [if_pos h, if_pos h]
  · rw [if_neg h, if_neg h]
theorem wg_wR {q r v : Nat} {i : Int32} {E : String} {g : Unit → am1 β} (hX : amOK X cc own nL F L rtp) (hA0 : amAr q 2 (.object E)) (hE : amEl q E) (hdg : decode cc pc = .ok (.aastore, 1)) (k : WG X enc (pc + 1) l st (g ())) : WG X enc pc l (.ref (rid (am_pg q) v) :: .int i :: .ref (rid q r) :: st) (bd1 (up (wR q r i v)) g) := by
  obtain ⟨⟨p, lc, e, R, s⟩, ⟨m, args, below, meth, c⟩, ⟨D, dA, ad0, φ0, A⟩, ⟨Q, fin⟩⟩ := X
  intro φ S b φ' S' kc ks hP hf ad H locs cells slots ls hI hc hs hv hvl hl
  obtain ⟨a1, S1, hm, hg⟩ := bd1_up_some hP
  unfold wR at hm
  split at hm
  · rename_i h0
    cases hm
    have hq := hA0.1
    have hk := hA0.2.1
    have hg1 := hE.1
    have ho : amOk φ q r := ⟨hq, Nat.pos_of_ne_zero h0.1, amV_r (by omega) hv.2.2.1⟩
    have hvv : v ≤ φ.1 (am_pg q) := amV_r (by omega) hv.1
    have hat := hI.1.1 q r ho
    have hve := hI.1.2.2 q r ho
    rw [am_enR hk] at hat
    rw [am_ve2 hk] at hve
    have hlt : i.toNatClampNeg < am_pl q r := Nat.not_le.mp fun h => h0.2 (Or.inr h)
    have fin1 : ∀ (H1 : Heap), H1[ad (rid q r)]? = some ((vp_cell (dA (am_pt q)) (am_pl q r, .inr (.inr (.inr (.inr fun j => rad ad (am_pg q) (S.2.2 q r j)))))).setSlot i.toNatClampNeg (va_rf (rad ad (am_pg q) v))) → H1.size = H.size → (∀ x : Nat, x ≠ ad (rid q r) → H1[x]? = H[x]?) → W p lc e R s m args below meth c H1 (locs ++ [⟨ad (rid q r), i.toNatClampNeg⟩]) cells slots Q (F0 m (pc + 1) ls (st.map (cn ad))) := by
      intro H1 e1 z oq
      refine k φ (S.1, S.2.1, u3 S.2.2 q r i.toNatClampNeg v) b φ' S' kc ks hg hf ad H1 _ cells slots ls (hI.put ho rfl (fun p' r' hne => ⟨rfl, rfl, u3_other hne, rfl, rfl⟩) ?_ z oq ?_) hc hs hv.2.2.2 hvl hl
      · rw [am_enR hk]
        show H1[ad (rid q r)]? = some (vp_cell _ _)
        rw [e1]
        rw [vp_cell_q, vp_cell_q, arrV_store]
        congr 2
        funext j
        unfold updV
        dsimp only
        rw [u3_self]
        by_cases hj : j = i.toNatClampNeg
        · rw [if_pos hj]; simp only [if_pos hj]
        · rw [if_neg hj]; simp only [if_neg hj]
      · rw [am_ve2 hk]
        intro j
        dsimp only
        rw [u3_self]
        dsimp only
        by_cases hj : j = i.toNatClampNeg
        · rw [if_pos hj]; exact hvv
        · rw [if_neg hj]; exact hve j
    rw [List.map_cons, List.map_cons, List.map_cons, cn_rid h0.1, cn_rad (by omega)]
    by_cases hv0 : v = 0
    · have er : rad ad (am_pg q) v = none := by simp [rad, hv0]
      rw [er] at fin1 ⊢
      exact va_WaastN (C := E) hX.1 hX.2.1 hat ((hX.2.2.2.2.2.2.2.2.1.2.1 _ _ hA0.2.2).1 _ (fun j => va_rf (rad ad (am_pg q) (S.2.2 q r j)))) (fun h => by cases h) (by show ¬ (i < 0 ∨ (arrV _ _ _).slots.size ≤ _); rw [arrV_size]; exact h0.2) rfl rfl hdg fin1
    · have er : rad ad (am_pg q) v = some (ad (rid (am_pg q) v)) := by simp [rad, hv0]
      rw [er] at fin1 ⊢
      have ho2 : amOk φ (am_pg q) v := ⟨hg1, Nat.pos_of_ne_zero hv0, hvv⟩
      have hob := am_obj hI.1 ho2 hE.2.1
      obtain ⟨C, T, n, hcl, hce⟩ := hE.2.2 _ hob.2.1
      obtain ⟨r', hr', cellV, g1, g2, g3, -⟩ := hob.1
      have hrr : r' = (C, T, n) := Option.some.inj (hr'.symm.trans hcl)
      subst hrr
      have hKK := hX.2.2.2.2.2.2.2.2.1
      have hcls := (hKK.1 _ _ hcl).2
      obtain ⟨kA, comp, k1, k2, k3, -⟩ := (hKK.2.1 _ _ hA0.2.2).2
      obtain ⟨kE, hkE, -⟩ := Vm.findClass_spec k3
      obtain ⟨kC, hkC, -⟩ := hcls.2
      have hasg : s.vm.assignable (D.1 (amK φ (am_pg q) v)) comp = true := by
        rcases hce with h | h
        · have hh : D.1 (amK φ (am_pg q) v) = comp := Option.some.inj (hcls.1.symm.trans (by rw [← k3, ← h]))
          rw [← hh]
          exact va_asg _ _
        · obtain ⟨c0, t1, f1, f2, f3⟩ := Cond.castable_spec (va_Nw.use (A := args) rfl (hKK.2.2.1 _ h rfl))
          cases hcls.1.symm.trans f1
          cases k3.symm.trans f2
          exact f3
      exact W.aast hX.1 hX.2.1 hat (fun x h => by cases h) (fun h => by cases h) k1 k2 rfl hkE ⟨fun h => h0.2 (Or.inl h), by show _ < (arrV _ _ _).slots.size; rw [arrV_size]; exact hlt⟩ g1 (fun x h => by rw [g3] at h; cases h) (by rw [g2]; exact hkC) (by rw [g2]; exact hasg) rfl rfl hdg fin1
  · cases hm
/-- the length of an array -/
theorem wg_alen {q r kd : Nat} {ty : FieldType} {v : Int32} {P : am1 β} (hX : amOK X cc own nL F L rtp) (hA0 : amAr q kd ty) (hkd : kd = 1 ∨ kd = 3) (h0 : r ≠ 0) (hvl0 : Int32.ofNat (am_pl q r) = v) (hdg : decode cc pc = .ok (.arraylength, 1)) (k : WG X enc (pc + 1) l (.int v :: st) P) : WG X enc pc l (.ref (rid q r) :: st) P := by
  obtain ⟨⟨p, lc, e, R, s⟩, ⟨m, args, below, meth, c⟩, ⟨D, dA, ad0, φ0, A⟩, ⟨Q, fin⟩⟩ := X
  intro φ S b φ' S' kc ks hP hf ad H locs cells slots ls hI hc hs hv hvl hl
  have hq := hA0.1
  have ho : amOk φ q r := ⟨hq, Nat.pos_of_ne_zero h0, amV_r (by omega) hv.1⟩
  have hat := hI.1.1 q r ho
  rw [List.map_cons, cn_rid h0]
  rcases hkd with rfl | rfl
  · rw [am_enI hA0.2.1] at hat
    exact va_alen hX.1 hX.2.1 (hX.2.2.2.2.2.2.2.2.1.va1 hA0.2.2) (va_P1 hat) 0 0 rfl rfl hvl0 hdg (k φ S b φ' S' kc ks hP hf ad H locs cells slots ls hI hc hs ⟨trivial, hv.2⟩ hvl hl)
  · rw [am_enG hA0.2.1] at hat
    exact va_alen hX.1 hX.2.1 (hX.2.2.2.2.2.2.2.2.1.va1 hA0.2.2) (va_P1 hat) 0 0 rfl rfl hvl0 hdg (k φ S b φ' S' kc ks hP hf ad H locs cells slots ls hI hc hs ⟨trivial, hv.2⟩ hvl hl)
end am10
