/-! writing fields, arrays -/
theorem u3_other {α : Type} {f : Nat → Nat → Nat → α} {p r j : Nat} {v : α} {p' r' : Nat} (h : ¬ (p' = p ∧ r' = r)) : u3 f p r j v p' r' = f p' r' := by
  funext j'
  unfold u3
  rw [if_neg]
  exact fun e => h ⟨e.1, e.2.1⟩
theorem u3_self {α : Type} {f : Nat → Nat → Nat → α} {p r j : Nat} {v : α} : u3 f p r j v p r = fun j' => if j' = j then v else f p r j' := by
  funext j'
  unfold u3
  by_cases h : j' = j
  · rw [if_pos ⟨rfl, rfl, h⟩, if_pos h]
  · rw [if_neg (fun e => h e.2.2), if_neg h]
section am8
variable {X : amX} {cc : ByteArray} {own : String} {nL F L : Nat} {rtp : Option FieldType} {β : Type} {enc : β → Option Value} {pc : Nat} {l : List (Nat × Value)} {st : List Value}
/-- the world behind a changed field -/
theorem amI.put {D : va_G} {dA : Nat → ClassId} {ad0 : Nat → Nat} {φ0 : amSh} {A : Nat → Prop} {s : State} {ad : Nat → Nat} {φ φ' : amSh} {S S' : amSt} {H H1 : Heap} {locs : List Loc} (h : amI D dA ad0 φ0 A s ad φ S H locs) {p r i : Nat} (hp : amOk φ p r) (hn : φ'.1 = φ.1)
    (hS : ∀ p' r', ¬ (p' = p ∧ r' = r) → S'.1 p' r' = S.1 p' r' ∧ S'.2.1 p' r' = S.2.1 p' r' ∧ S'.2.2 p' r' = S.2.2 p' r' ∧ φ'.2.1 p' r' = φ.2.1 p' r' ∧ φ'.2.2 p' r' = φ.2.2 p' r')
    (e1 : va_at D am_cl (ad (rid p r), amEn dA ad φ' S' p r) H1) (z : H1.size = H.size) (oq : ∀ q : Nat, q ≠ ad (rid p r) → H1[q]? = H[q]?) (hv : amVE φ' S' p r) : amI D dA ad0 φ0 A s ad φ' S' H1 (locs ++ [⟨ad (rid p r), i⟩]) :=
  ⟨h.1.set hp hn hS e1 oq hv, fun p' r' h' => h.2.1 p' r' (by unfold amOk at *; rw [hn] at h'; exact h'), h.2.2.1.put z oq (h.2.1 p r hp), ⟨fun p' => by rw [hn]; exact h.2.2.2.1 p', h.2.2.2.2⟩⟩
theorem am_field_set {dA : Nat → ClassId} {ad : Nat → Nat} {φ φ' : amSh} {S S' : amSt} {p r j : Nat} {en : Nat × Nat × Nat} (hk : am_pk p = 0) (hK : amK φ' p r = amK φ p r) (hlay : (am_lay (amK φ p r))[j]? = some en) (h : ∀ i x, (am_lay (amK φ p r))[i]? = some x → i ≠ j → amF φ' S' p r i x = amF φ S p r i x) :
    amEn dA ad φ' S' p r = .inr (amK φ p r, ((amFs φ S p r 0 (am_lay (amK φ p r))).map (cn ad)).set j (cn ad (amF φ' S' p r j en))) := by
  rw [am_en hk, hK, amFs_set hlay h, List.map_set]
theorem am_field_ve {φ φ' : amSh} {S S' : amSt} {p r j : Nat} {en : Nat × Nat × Nat} (hk : am_pk p = 0) (hn : φ'.1 = φ.1) (hK : amK φ' p r = amK φ p r) (hlay : (am_lay (amK φ p r))[j]? = some en) (h : ∀ i x, (am_lay (amK φ p r))[i]? = some x → i ≠ j → amF φ' S' p r i x = amF φ S p r i x) (h0 : amK φ p r ∈ am_kl p ∧ ∀ v ∈ amFs φ S p r 0 (am_lay (amK φ p r)), amV φ v) (hv : amV φ (amF φ' S' p r j en)) : amVE φ' S' p r := by
  rw [am_ve hk, hK, amFs_set hlay h]
  refine ⟨h0.1, fun v hm => amV_n (φ := φ) (fun p => by rw [hn]; exact Nat.le_refl _) ?_⟩
  rcases List.mem_or_eq_of_mem_set hm with e | e
  · exact h0.2 v e
  · rw [e]; exact hv
theorem am_pI_gen {q r idx j a0 b0 : Nat} {cs : List Nat} {ty : FieldType} {fi : Bool} {v : Int32} {P0 : am1 β} (hX : amOK X cc own nL F L rtp) (hF : amFp own idx q j (0, a0, b0) cs ty fi) (hin : fi = true → X.2.1.2.2.2.1.name = "<init>") (hnar : narrow ty (.int v) = .int v) (hfit : fits ty (.int v) = true) (hdg : decode cc pc = .ok (.putfield idx, 3)) (k : WG X enc (pc + 3) l st P0)
    {P : am1 β} (hP0 : ∀ φ S res, P φ S = some res → r ≠ 0 ∧ (0 < r → r ≤ φ.1 q → amK φ q r ∈ am_kl q → amK φ q r ∈ cs) ∧ P0 φ (u3 S.1 q r j v, S.2) = some res) : WG X enc pc l (.int v :: .ref (rid q r) :: st) P := by
  obtain ⟨⟨p, lc, e, R, s⟩, ⟨m, args, below, meth, c⟩, ⟨D, dA, ad0, φ0, A⟩, ⟨Q, fin⟩⟩ := X
  intro φ S b φ' S' kc ks hP hf ad H locs cells slots ls hI hc hs hv hvl hl
  obtain ⟨h0, hcs, hg⟩ := hP0 _ _ _ hP
  have hq := hF.1.1
  have hk := hF.1.2.1
  have ho : amOk φ q r := ⟨hq, Nat.pos_of_ne_zero h0, amV_r (by omega) hv.2.1⟩
  have hob := am_obj hI.1 ho hk
  rw [List.map_cons, List.map_cons, cn_rid h0]
  refine am_putf (v := .int v) hX.1 hX.2.1 hX.2.2.2.2.1 hX.2.2.2.1 hX.2.2.2.2.2.2.2.2.1 hI.1 hF ho (hcs ho.2.1 ho.2.2 hob.2.1) hin hnar hfit hdg fun H1 i hlay e1 z oq => ?_
  have hoth : ∀ i x, (am_lay (amK φ q r))[i]? = some x → i ≠ j → amF φ (u3 S.1 q r j v, S.2) q r i x = amF φ S q r i x := by
    intro i x _ hi
    unfold amF
    dsimp only
    rw [u3_self]
    simp only [if_neg hi]
  have hself : amF φ (u3 S.1 q r j v, S.2) q r j (0, a0, b0) = .int v := by
    simp [amF, u3]
  refine k φ (u3 S.1 q r j v, S.2) b φ' S' kc ks hg hf ad H1 (locs ++ [⟨ad (rid q r), i⟩]) cells slots ls ?_ hc hs hv.2.2 hvl hl
  refine hI.put ho rfl (fun p' r' hne => ⟨u3_other hne, rfl, rfl, rfl, rfl⟩) ?_ z oq ?_
  · rw [am_field_set hk rfl hlay hoth, hself]
    exact e1
  · exact am_field_ve hk rfl rfl hlay hoth hob.2 (by rw [hself]; trivial)
theorem am_pR_gen {q r idx j t b0 : Nat} {cs : List Nat} {ty : FieldType} {fi : Bool} {v : Nat} {P0 : am1 β} (hX : amOK X cc own nL F L rtp) (hF : amFp own idx q j (1, t, b0) cs ty fi) (hin : fi = true → X.2.1.2.2.2.1.name = "<init>") (ht : t < 256) (hty : (∃ n, ty = .object n) ∨ ∃ t, ty = .array t) (hdg : decode cc pc = .ok (.putfield idx, 3)) (k : WG X enc (pc + 3) l st P0)
    {P : am1 β} (hP0 : ∀ φ S res, P φ S = some res → r ≠ 0 ∧ (0 < r → r ≤ φ.1 q → amK φ q r ∈ am_kl q → amK φ q r ∈ cs) ∧ P0 φ (S.1, S.2.1, u3 S.2.2 q r j v) = some res) : WG X enc pc l (.ref (rid t v) :: .ref (rid q r) :: st) P := by
  obtain ⟨⟨p, lc, e, R, s⟩, ⟨m, args, below, meth, c⟩, ⟨D, dA, ad0, φ0, A⟩, ⟨Q, fin⟩⟩ := X
  intro φ S b φ' S' kc ks hP hf ad H locs cells slots ls hI hc hs hv hvl hl
  obtain ⟨h0, hcs, hg⟩ := hP0 _ _ _ hP
  have hq := hF.1.1
  have hk := hF.1.2.1
  have ho : amOk φ q r := ⟨hq, Nat.pos_of_ne_zero h0, amV_r (by omega) hv.2.1⟩
  have hob := am_obj hI.1 ho hk
  have hnf : narrow ty (cn ad (.ref (rid t v))) = cn ad (.ref (rid t v)) ∧ fits ty (cn ad (.ref (rid t v))) = true := by
    rw [cn_rad ht]
    rcases hty with ⟨n, rfl⟩ | ⟨n, rfl⟩ <;> cases rad ad t v <;> exact ⟨rfl, rfl⟩
  rw [List.map_cons, List.map_cons, cn_rid h0]
  refine am_putf hX.1 hX.2.1 hX.2.2.2.2.1 hX.2.2.2.1 hX.2.2.2.2.2.2.2.2.1 hI.1 hF ho (hcs ho.2.1 ho.2.2 hob.2.1) hin hnf.1 hnf.2 hdg fun H1 i hlay e1 z oq => ?_
  have hoth : ∀ i x, (am_lay (amK φ q r))[i]? = some x → i ≠ j → amF φ (S.1, S.2.1, u3 S.2.2 q r j v) q r i x = amF φ S q r i x := by
    intro i x _ hi
    unfold amF
    dsimp only
    rw [u3_self]
    simp only [if_neg hi]
  have hself : amF φ (S.1, S.2.1, u3 S.2.2 q r j v) q r j (1, t, b0) = .ref (rid t v) := by
    simp [amF, u3]
  refine k φ (S.1, S.2.1, u3 S.2.2 q r j v) b φ' S' kc ks hg hf ad H1 (locs ++ [⟨ad (rid q r), i⟩]) cells slots ls ?_ hc hs hv.2.2 hvl hl
  refine hI.put ho rfl (fun p' r' hne => ⟨rfl, rfl, u3_other hne, rfl, rfl⟩) ?_ z oq ?_
  · rw [am_field_set hk rfl hlay hoth, hself]
    exact e1
  · exact am_field_ve hk rfl rfl hlay hoth hob.2 (by rw [hself]; exact hv.1)
theorem am_pR5_gen {q r idx j t b0 : Nat} {cs : List Nat} {ty : FieldType} {fi : Bool} {v : Nat} {P0 : am1 β} (hX : amOK X cc own nL F L rtp) (hF : amFp own idx q j (5, t, b0) cs ty fi) (hin : fi = true → X.2.1.2.2.2.1.name = "<init>") (ht : t < 256) (hty : (∃ n, ty = .object n) ∨ ∃ t, ty = .array t) (hdg : decode cc pc = .ok (.putfield idx, 3)) (k : WG X enc (pc + 3) l st P0)
    {P : am1 β} (hP0 : ∀ φ S res, P φ S = some res → r ≠ 0 ∧ φ.1 255 = 0 ∧ (0 < r → r ≤ φ.1 q → amK φ q r ∈ am_kl q → amK φ q r ∈ cs) ∧ P0 φ (S.1, S.2.1, u3 S.2.2 q r j v) = some res) : WG X enc pc l (.ref (rid t v) :: .ref (rid q r) :: st) P := by
  obtain ⟨⟨p, lc, e, R, s⟩, ⟨m, args, below, meth, c⟩, ⟨D, dA, ad0, φ0, A⟩, ⟨Q, fin⟩⟩ := X
  intro φ S b φ' S' kc ks hP hf ad H locs cells slots ls hI hc hs hv hvl hl
  obtain ⟨h0, hun, hcs, hg⟩ := hP0 _ _ _ hP
  have hq := hF.1.1
  have hk := hF.1.2.1
  have ho : amOk φ q r := ⟨hq, Nat.pos_of_ne_zero h0, amV_r (by omega) hv.2.1⟩
  have hob := am_obj hI.1 ho hk
  have hnf : narrow ty (cn ad (.ref (rid t v))) = cn ad (.ref (rid t v)) ∧ fits ty (cn ad (.ref (rid t v))) = true := by
    rw [cn_rad ht]
    rcases hty with ⟨n, rfl⟩ | ⟨n, rfl⟩ <;> cases rad ad t v <;> exact ⟨rfl, rfl⟩
  rw [List.map_cons, List.map_cons, cn_rid h0]
  refine am_putf hX.1 hX.2.1 hX.2.2.2.2.1 hX.2.2.2.1 hX.2.2.2.2.2.2.2.2.1 hI.1 hF ho (hcs ho.2.1 ho.2.2 hob.2.1) hin hnf.1 hnf.2 hdg fun H1 i hlay e1 z oq => ?_
  have hoth : ∀ i x, (am_lay (amK φ q r))[i]? = some x → i ≠ j → amF φ (S.1, S.2.1, u3 S.2.2 q r j v) q r i x = amF φ S q r i x := by
    intro i x _ hi
    unfold amF
    dsimp only
    rw [u3_self]
    simp only [if_neg hi]
  have hself : amF φ (S.1, S.2.1, u3 S.2.2 q r j v) q r j (5, t, b0) = .ref (rid t v) := by
    simp [amF, u3, hun]
  refine k φ (S.1, S.2.1, u3 S.2.2 q r j v) b φ' S' kc ks hg hf ad H1 (locs ++ [⟨ad (rid q r), i⟩]) cells slots ls ?_ hc hs hv.2.2 hvl hl
  refine hI.put ho rfl (fun p' r' hne => ⟨rfl, rfl, u3_other hne, rfl, rfl⟩) ?_ z oq ?_
  · rw [am_field_set hk rfl hlay hoth, hself]
    exact e1
  · exact am_field_ve hk rfl rfl hlay hoth hob.2 (by rw [hself]; exact hv.1)
theorem wg_pI {q r idx j a0 b0 : Nat} {fi : Bool} {v : Int32} {g : Unit → am1 β} (hX : amOK X cc own nL F L rtp) (hF : amFp own idx q j (0, a0, b0) (am_kl q) .int fi) (hin : fi = true → X.2.1.2.2.2.1.name = "<init>") (hdg : decode cc pc = .ok (.putfield idx, 3)) (k : WG X enc (pc + 3) l st (g ())) : WG X enc pc l (.int v :: .ref (rid q r) :: st) (bd1 (up (pI q r j v)) g) := by
  refine am_pI_gen hX hF hin rfl rfl hdg k fun φ S res h => ?_
  obtain ⟨a1, S1, hm, hg⟩ := bd1_up_some h
  unfold pI at hm
  split at hm
  · cases hm
  · rename_i h0
    cases hm
    exact ⟨h0, fun _ _ h => h, hg⟩
theorem wg_pIs {q r idx j a0 b0 : Nat} {cs : List Nat} {fi : Bool} {v : Int32} {g : Unit → am1 β} (hX : amOK X cc own nL F L rtp) (hF : amFp own idx q j (0, a0, b0) cs .int fi) (hin : fi = true → X.2.1.2.2.2.1.name = "<init>") (hdg : decode cc pc = .ok (.putfield idx, 3)) (k : WG X enc (pc + 3) l st (g ())) : WG X enc pc l (.int v :: .ref (rid q r) :: st) (bd1 (up (pIs cs q r j v)) g) := by
  refine am_pI_gen hX hF hin rfl rfl hdg k fun φ S res h => ?_
  obtain ⟨a1, S1, hm, hg⟩ := bd1_up_some h
  unfold pIs at hm
  split at hm
  · rename_i h0
    cases hm
    exact ⟨h0.1, fun _ _ _ => h0.2, hg⟩
  · cases hm
theorem am_z01 {v : Int32} (h : v = 0 ∨ v = 1) : narrow .boolean (.int v) = .int v ∧ fits .boolean (.int v) = true := by
  rcases h with rfl | rfl <;> exact ⟨by decide, by decide⟩
/-- a boolean field: the value is 0 or 1 -/
theorem wg_pZ {q r idx j a0 b0 : Nat} {fi : Bool} {v : Int32} {g : Unit → am1 β} (hX : amOK X cc own nL F L rtp) (hF : amFp own idx q j (0, a0, b0) (am_kl q) .boolean fi) (hin : fi = true → X.2.1.2.2.2.1.name = "<init>") (hz : v = 0 ∨ v = 1) (hdg : decode cc pc = .ok (.putfield idx, 3)) (k : WG X enc (pc + 3) l st (g ())) : WG X enc pc l (.int v :: .ref (rid q r) :: st) (bd1 (up (pI q r j v)) g) := by
  refine am_pI_gen hX hF hin (am_z01 hz).1 (am_z01 hz).2 hdg k fun φ S res h => ?_
  obtain ⟨a1, S1, hm, hg⟩ := bd1_up_some h
  unfold pI at hm
  split at hm
  · cases hm
  · rename_i h0
    cases hm
    exact ⟨h0, fun _ _ h => h, hg⟩
theorem wg_pZs {q r idx j a0 b0 : Nat} {cs : List Nat} {fi : Bool} {v : Int32} {g : Unit → am1 β} (hX : amOK X cc own nL F L rtp) (hF : amFp own idx q j (0, a0, b0) cs .boolean fi) (hin : fi = true → X.2.1.2.2.2.1.name = "<init>") (hz : v = 0 ∨ v = 1) (hdg : decode cc pc = .ok (.putfield idx, 3)) (k : WG X enc (pc + 3) l st (g ())) : WG X enc pc l (.int v :: .ref (rid q r) :: st) (bd1 (up (pIs cs q r j v)) g) := by
  refine am_pI_gen hX hF hin (am_z01 hz).1 (am_z01 hz).2 hdg k fun φ S res h => ?_
  obtain ⟨a1, S1, hm, hg⟩ := bd1_up_some h
  unfold pIs at hm
  split at hm
  · rename_i h0
    cases hm
    exact ⟨h0.1, fun _ _ _ => h0.2, hg⟩
  · cases hm
theorem wg_pR {q r idx j t b0 : Nat} {ty : FieldType} {fi : Bool} {v : Nat} {g : Unit → am1 β} (hX : amOK X cc own nL F L rtp) (hF : amFp own idx q j (1, t, b0) (am_kl q) ty fi) (hin : fi = true → X.2.1.2.2.2.1.name = "<init>") (ht : t < 256) (hty : (∃ n, ty = .object n) ∨ ∃ t, ty = .array t) (hdg : decode cc pc = .ok (.putfield idx, 3)) (k : WG X enc (pc + 3) l st (g ())) : WG X enc pc l (.ref (rid t v) :: .ref (rid q r) :: st) (bd1 (up (pR q r j v)) g) := by
  refine am_pR_gen hX hF hin ht hty hdg k fun φ S res h => ?_
  obtain ⟨a1, S1, hm, hg⟩ := bd1_up_some h
  unfold pR at hm
  split at hm
  · cases hm
  · rename_i h0
    cases hm
    exact ⟨h0, fun _ _ h => h, hg⟩
theorem wg_pR5 {q r idx j t b0 : Nat} {ty : FieldType} {fi : Bool} {v : Nat} {g : Unit → am1 β} (hX : amOK X cc own nL F L rtp) (hF : amFp own idx q j (5, t, b0) (am_kl q) ty fi) (hin : fi = true → X.2.1.2.2.2.1.name = "<init>") (ht : t < 256) (hty : (∃ n, ty = .object n) ∨ ∃ t, ty = .array t) (hdg : decode cc pc = .ok (.putfield idx, 3)) (k : WG X enc (pc + 3) l st (g ())) : WG X enc pc l (.ref (rid t v) :: .ref (rid q r) :: st) (bd1 (up (pR5 q r j v)) g) := by
  refine am_pR5_gen hX hF hin ht hty hdg k fun φ S res h => ?_
  obtain ⟨a1, S1, hm, hg⟩ := bd1_up_some h
  unfold pR5 at hm
  split at hm
  · cases hm
  · rename_i h0
    cases hm
    exact ⟨fun z => h0 (Or.inl z), Decidable.byContradiction fun z => h0 (Or.inr z), fun _ _ h => h, hg⟩
theorem wg_pRs {q r idx j t b0 : Nat} {cs : List Nat} {ty : FieldType} {fi : Bool} {v : Nat} {g : Unit → am1 β} (hX : amOK X cc own nL F L rtp) (hF : amFp own idx q j (1, t, b0) cs ty fi) (hin : fi = true → X.2.1.2.2.2.1.name = "<init>") (ht : t < 256) (hty : (∃ n, ty = .object n) ∨ ∃ t, ty = .array t) (hdg : decode cc pc = .ok (.putfield idx, 3)) (k : WG X enc (pc + 3) l st (g ())) : WG X enc pc l (.ref (rid t v) :: .ref (rid q r) :: st) (bd1 (up (pRs cs q r j v)) g) := by
  refine am_pR_gen hX hF hin ht hty hdg k fun φ S res h => ?_
  obtain ⟨a1, S1, hm, hg⟩ := bd1_up_some h
  unfold pRs at hm
  split at hm
  · rename_i h0
    cases hm
    exact ⟨h0.1, fun _ _ _ => h0.2, hg⟩
  · cases hm
end am8
