/-! new objects, constructors, classes' own ways -/
theorem am_kl1 {c q : Nat} {φ : amSh} {r : Nat} (hc : c ∈ am_kl q) (h : φ.2.2 q r = c) : amK φ q r = c := by
  unfold amK
  split
  · rename_i c' e
    rw [e] at hc
    exact (List.mem_singleton.mp hc).symm
  · exact h
def amDf (es : List (Nat × Nat × Nat)) : List Value := es.map fun e => if e.1 = 0 then .int 0 else .null
theorem am_zero {φ : amSh} {S : amSt} {ad : Nat → Nat} {q r : Nat} (h1 : S.1 q r = fun _ => 0) (h2 : S.2.2 q r = fun _ => 0) (h3 : φ.2.1 q r = 0) : ∀ (es : List (Nat × Nat × Nat)) (j : Nat), (∀ e ∈ es, (e.1 < 5 ∨ φ.1 255 = 0) ∧ e.2.1 < 256) → (amFs φ S q r j es).map (cn ad) = amDf es ∧ ∀ v ∈ amFs φ S q r j es, amV φ v := by
  intro es
  induction es with
  | nil => intro j _; exact ⟨rfl, fun v hv => by cases hv⟩
  | cons e es ih =>
    intro j he
    have h5 := he e List.mem_cons_self
    obtain ⟨i1, i2⟩ := ih (j + 1) (fun x hx => he x (List.mem_cons_of_mem _ hx))
    obtain ⟨kd, t, s0⟩ := e
    have key : amF φ S q r j (kd, t, s0) = if kd = 0 then .int 0 else .ref (rid t 0) := by
      rcases h5.1 with h6 | h6
      · have hk : kd = 0 ∨ kd = 1 ∨ kd = 2 ∨ kd = 3 ∨ kd = 4 := by have := h6; simp at this; omega
        rcases hk with rfl | rfl | rfl | rfl | rfl <;> simp [amF, h1, h2, h3]
      · match kd with
        | 0 => simp [amF, h1]
        | 1 => simp [amF, h2]
        | 2 => simp [amF, h3]
        | 3 => simp [amF, h3]
        | 4 => simp [amF, h3]
        | n + 5 => simp [amF, h2, h6]
    refine ⟨?_, ?_⟩
    · simp only [amFs, List.map_cons, amDf]
      rw [key, i1]
      congr 1
      by_cases hk : kd = 0
      · rw [if_pos hk]; simp [hk, cn]
      · rw [if_neg hk, cn_nul h5.2]; simp [hk]
    · intro v hv
      simp only [amFs] at hv
      rcases List.mem_cons.mp hv with e | e
      · rw [e, key]
        by_cases hk : kd = 0
        · rw [if_pos hk]; trivial
        · rw [if_neg hk]; exact amV_mk h5.2 (Nat.zero_le _)
      · exact i2 v e
theorem am_pgs : ∀ p, p < 250 → am_pg p < 256 := by decide +kernel
theorem u2_self {α : Type} {f : Nat → Nat → α} {p r : Nat} {v : α} : u2 f p r v p r = v := by simp [u2]
theorem u2_other {α : Type} {f : Nat → Nat → α} {p r : Nat} {v : α} {p' r' : Nat} (h : ¬ (p' = p ∧ r' = r)) : u2 f p r v p' r' = f p' r' := by
  unfold u2
  rw [if_neg h]
/-- the world with a new object -/
theorem amI.new {D : va_G} {dA : Nat → ClassId} {ad0 : Nat → Nat} {φ0 : amSh} {A : Nat → Prop} {s : State} {ad : Nat → Nat} {φ : amSh} {S : amSt} {H H1 : Heap} {locs : List Loc} (hI : amI D dA ad0 φ0 A s ad φ S H locs) (hA : ∀ q : Nat, s.heap.size ≤ q → A q) {p c : Nat} (hp : p < 250) {ad' : Nat → Nat} {φ' : amSh} {S' : amSt} (had : ad' = fun n => if n = rid p (φ.1 p + 1) then H.size else ad n)
    (hφ : φ' = (fun q => if q = p then φ.1 p + 1 else φ.1 q, u2 φ.2.1 p (φ.1 p + 1) 0, u2 φ.2.2 p (φ.1 p + 1) c)) (hS : S' = (u2 S.1 p (φ.1 p + 1) (fun _ => 0), u2 S.2.1 p (φ.1 p + 1) (fun _ => 0), u2 S.2.2 p (φ.1 p + 1) (fun _ => 0)))
    (o1 : ∀ x : Nat, x < H.size → H1[x]? = H[x]?) (z1 : H1.size = H.size + 1) (e1 : va_at D am_cl (H.size, amEn dA ad' φ' S' p (φ.1 p + 1)) H1) (hv : amVE φ' S' p (φ.1 p + 1)) :
    amI D dA ad0 φ0 A s ad' φ' S' H1 locs ∧ amE ad φ ad' φ' := by
  subst had
  obtain ⟨hW1, hE1⟩ := hI.1.new (φ' := φ') (S' := S') hp (Nat.le_refl H.size) am_pgs (by subst hφ; intro p'; rfl) (by
    subst hφ; subst hS
    intro p' r' hne
    exact ⟨u2_other hne, u2_other hne, u2_other hne, u2_other hne, u2_other hne⟩) o1 e1 hv
  refine ⟨⟨hW1, fun p' r' h' => ?_, ⟨Nat.le_trans hI.2.2.1.1 (by omega), fun x h1 h2 => (o1 x (Nat.lt_of_lt_of_le h1 hI.2.2.1.1)).trans (hI.2.2.1.2.1 x h1 h2), hI.2.2.1.2.2⟩, hI.2.2.2.tr hE1⟩, hE1⟩
  dsimp only
  by_cases he : rid p' r' = rid p (φ.1 p + 1)
  · rw [if_pos he]
    exact hA _ hI.2.2.1.1
  · rw [if_neg he]
    refine hI.2.1 p' r' ⟨h'.1, h'.2.1, ?_⟩
    have h3 := h'.2.2
    subst hφ
    dsimp only at h3
    by_cases hpp : p' = p
    · rw [if_pos hpp] at h3
      subst hpp
      have : r' ≠ φ.1 p' + 1 := fun z => he (by rw [z])
      omega
    · rw [if_neg hpp] at h3
      exact h3
section am18
variable {X : amX} {cc : ByteArray} {own : String} {nL F L : Nat} {rtp : Option FieldType} {β : Type} {enc : β → Option Value} {pc : Nat} {l : List (Nat × Value)} {st : List Value}
/-- what a 'new' stands on -/
def amNw (own : String) (idx q c n : Nat) : Prop := q < 250 ∧ am_pk q = 0 ∧ c ∈ am_kl q ∧ ∃ (C : String) (T : u_T) (ty : Nat → FieldType), am_cl[c]? = some (C, T, n) ∧ (∀ w ∈ u_ws C T n, w ∈ lw_all) ∧ (∀ k, k < n → parseFieldDescriptor (T k).2.2.1 = some (ty k)) ∧ Cond.classLink own idx C ∈ lw_all ∧ Cond.instantiable C n ∈ lw_all ∧ Cond.initialized C ∈ lw_all ∧ (∀ j, j < n → defaultValue (ty j) = (amDf (am_lay c)).getD j .null) ∧ (∀ e ∈ am_lay c, e.1 < 5 ∧ e.2.1 < 256)
theorem wg_nw {q c n idx : Nat} {g : Nat → am1 β} (hX : amOK X cc own nL F L rtp) (hN : amNw own idx q c n) (hdg : decode cc pc = .ok (.new idx, 3)) (k : ∀ r : Nat, WG X enc (pc + 3) l (.ref (rid q r) :: st) (g r)) : WG X enc pc l st (bd1 (nw q c n) g) := by
  obtain ⟨⟨p, lc, e, R, s⟩, ⟨m, args, below, meth, c0⟩, ⟨D, dA, ad0, φ0, A⟩, ⟨Q, fin⟩⟩ := X
  intro φ S b φ' S' kc ks hP hf ad H locs cells slots ls hI hc hs hv hvl hl
  obtain ⟨a1, φ1, S1, k1, n1, k2, n2, hm, hg, rfl, rfl⟩ := bd1_some hP
  obtain ⟨hx, hb, hml, hown, hts, hlk, hRf, hRl, hKK, hA, hrt, hQ, hlc, hCo⟩ := hX
  obtain ⟨hq, hk, hcm, C, T, ty, hcl, hin, hty, w1, w2, w3, hdf, hen⟩ := hN
  unfold nw at hm
  cases hm
  have hKn := hKK.1 c _ hcl
  refine W.newcK hx hb hown (hts _ w1) (hts _ w2) (hts _ w3) (g := F0 m pc ls (st.map (cn ad))) rfl hdg (by omega) (by omega) hKn.2.1 rfl fun H1 kC hkC e1 z1 o1 => ?_
  have hz := am_zero (φ := (fun x => if x = q then φ.1 q + 1 else φ.1 x, u2 φ.2.1 q (φ.1 q + 1) 0, u2 φ.2.2 q (φ.1 q + 1) c)) (S := (u2 S.1 q (φ.1 q + 1) (fun _ => 0), u2 S.2.1 q (φ.1 q + 1) (fun _ => 0), u2 S.2.2 q (φ.1 q + 1) (fun _ => 0))) (ad := fun x => if x = rid q (φ.1 q + 1) then H.size else ad x) (q := q) (r := φ.1 q + 1) u2_self u2_self u2_self (am_lay c) 0 (fun e he => ⟨Or.inl (hen e he).1, (hen e he).2⟩)
  have hcc : amK (fun x => if x = q then φ.1 q + 1 else φ.1 x, u2 φ.2.1 q (φ.1 q + 1) 0, u2 φ.2.2 q (φ.1 q + 1) c) q (φ.1 q + 1) = c := am_kl1 hcm u2_self
  obtain ⟨hI1, hE1⟩ := hI.new (H1 := H1) hA hq rfl rfl rfl o1 z1 (by
    rw [am_en hk, hcc, hz.1]
    exact ⟨_, hcl, (u_born ty hts hin hKn hkC e1 hty).to hdf⟩) (by
    rw [am_ve hk, hcc]
    exact ⟨hcm, hz.2⟩)
  have k3 := k (φ.1 q + 1) _ _ b φ' S' k2 n2 hg hf _ H1 locs (cells + 1) (slots + n) ls hI1 (by omega) (by omega) ⟨amV_mk (by omega) (by simp), amVs_up hE1 hv⟩ (amVl_up hE1 hvl) (by rw [amCl_cn hE1 hvl]; exact hl)
  rw [List.map_cons, amVs_cn hE1 hv, cn_rid (Nat.succ_ne_zero _)] at k3
  simp only [if_pos] at k3
  exact k3
/-- a big object: its arrays come later -/
def nw5 (p c n : Nat) : am1 Nat := fun φ S => if φ.1 255 = 0 then nw p c n φ S else none
def amNw5 (own : String) (idx q c n : Nat) : Prop := q < 250 ∧ am_pk q = 0 ∧ c ∈ am_kl q ∧ ∃ (C : String) (T : u_T) (ty : Nat → FieldType), am_cl[c]? = some (C, T, n) ∧ (∀ w ∈ u_ws C T n, w ∈ lw_all) ∧ (∀ k, k < n → parseFieldDescriptor (T k).2.2.1 = some (ty k)) ∧ Cond.classLink own idx C ∈ lw_all ∧ Cond.instantiable C n ∈ lw_all ∧ Cond.initialized C ∈ lw_all ∧ (∀ j, j < n → defaultValue (ty j) = (amDf (am_lay c)).getD j .null) ∧ (∀ e ∈ am_lay c, e.2.1 < 256)
theorem wg_nw5 {q c n idx : Nat} {g : Nat → am1 β} (hX : amOK X cc own nL F L rtp) (hN : amNw5 own idx q c n) (hdg : decode cc pc = .ok (.new idx, 3)) (k : ∀ r : Nat, WG X enc (pc + 3) l (.ref (rid q r) :: st) (g r)) : WG X enc pc l st (bd1 (nw5 q c n) g) := by
  obtain ⟨⟨p, lc, e, R, s⟩, ⟨m, args, below, meth, c0⟩, ⟨D, dA, ad0, φ0, A⟩, ⟨Q, fin⟩⟩ := X
  intro φ S b φ' S' kc ks hP hf ad H locs cells slots ls hI hc hs hv hvl hl
  obtain ⟨a1, φ1, S1, k1, n1, k2, n2, hm, hg, rfl, rfl⟩ := bd1_some hP
  obtain ⟨hx, hb, hml, hown, hts, hlk, hRf, hRl, hKK, hA, hrt, hQ, hlc, hCo⟩ := hX
  obtain ⟨hq, hk, hcm, C, T, ty, hcl, hin, hty, w1, w2, w3, hdf, hen⟩ := hN
  have hun : φ.1 255 = 0 := by
    unfold nw5 at hm
    split at hm
    · assumption
    · cases hm
  unfold nw5 at hm
  rw [if_pos hun] at hm
  unfold nw at hm
  cases hm
  have hKn := hKK.1 c _ hcl
  refine W.newcK hx hb hown (hts _ w1) (hts _ w2) (hts _ w3) (g := F0 m pc ls (st.map (cn ad))) rfl hdg (by omega) (by omega) hKn.2.1 rfl fun H1 kC hkC e1 z1 o1 => ?_
  have hz := am_zero (φ := (fun x => if x = q then φ.1 q + 1 else φ.1 x, u2 φ.2.1 q (φ.1 q + 1) 0, u2 φ.2.2 q (φ.1 q + 1) c)) (S := (u2 S.1 q (φ.1 q + 1) (fun _ => 0), u2 S.2.1 q (φ.1 q + 1) (fun _ => 0), u2 S.2.2 q (φ.1 q + 1) (fun _ => 0))) (ad := fun x => if x = rid q (φ.1 q + 1) then H.size else ad x) (q := q) (r := φ.1 q + 1) u2_self u2_self u2_self (am_lay c) 0 (fun e he => ⟨Or.inr (by dsimp only; rw [if_neg (by omega)]; exact hun), hen e he⟩)
  have hcc : amK (fun x => if x = q then φ.1 q + 1 else φ.1 x, u2 φ.2.1 q (φ.1 q + 1) 0, u2 φ.2.2 q (φ.1 q + 1) c) q (φ.1 q + 1) = c := am_kl1 hcm u2_self
  obtain ⟨hI1, hE1⟩ := hI.new (H1 := H1) hA hq rfl rfl rfl o1 z1 (by
    rw [am_en hk, hcc, hz.1]
    exact ⟨_, hcl, (u_born ty hts hin hKn hkC e1 hty).to hdf⟩) (by
    rw [am_ve hk, hcc]
    exact ⟨hcm, hz.2⟩)
  have k3 := k (φ.1 q + 1) _ _ b φ' S' k2 n2 hg hf _ H1 locs (cells + 1) (slots + n) ls hI1 (by omega) (by omega) ⟨amV_mk (by omega) (by simp), amVs_up hE1 hv⟩ (amVl_up hE1 hvl) (by rw [amCl_cn hE1 hvl]; exact hl)
  rw [List.map_cons, amVs_cn hE1 hv, cn_rid (Nat.succ_ne_zero _)] at k3
  simp only [if_pos] at k3
  exact k3
theorem am_plT : ∀ r, am_pl 107 r < 2147483648 := fun r => by
  show (match r with | 1 => _ | 2 => _ | 3 => _ | _ => _) < _
  split <;> decide
theorem am_ofNat {k : Nat} (h : k < 2147483648) : (Int32.ofNat k).toNatClampNeg = k := by
  have h1 : (Int32.ofNat k).toInt = (k : Int) := by
    rw [Int32.toInt_ofNat_of_lt h]
  show (Int32.ofNat k).toInt.toNat = k
  rw [h1]
  rfl
/-- a new array of ints, booleans, bytes, shorts -/
theorem wg_nwA {q : Nat} {n : Int32} {atype : ArrayType} {g : Nat → am1 β} (hX : amOK X cc own nL F L rtp) (hq : q < 250) (hk : am_pk q = 1) (hty : am_tys[am_pt q]? = some (newarray.typeOf atype)) (hdv : defaultValue (newarray.typeOf atype) = .int 0) (hrf : ∀ (U : State) (cA : ClassId), va_RA U cA (newarray.typeOf atype) → U.vm.findClass ("[" ++ (newarray.typeOf atype).toString) = some cA) (harr : Cond.arrayClass (newarray.typeOf atype) ∈ lw_all) (hn0 : ¬ n < 0) (hpl : ∀ r, am_pl q r < 2147483648) (hby : n.toNatClampNeg * componentBytes (newarray.typeOf atype) ≤ 536870912) (hdg : decode cc pc = .ok (.newarray atype, 2)) (k : ∀ r : Nat, WG X enc (pc + 2) l (.ref (rid q r) :: st) (g r)) : WG X enc pc l (.int n :: st) (bd1 (nwA q n) g) := by
  obtain ⟨⟨p, lc, e, R, s⟩, ⟨m, args, below, meth, c0⟩, ⟨D, dA, ad0, φ0, A⟩, ⟨Q, fin⟩⟩ := X
  intro φ S b φ' S' kc ks hP hf ad H locs cells slots ls hI hc hs hv hvl hl
  obtain ⟨a1, φ1, S1, k1, n1, k2, n2, hm, hg, rfl, rfl⟩ := bd1_some hP
  obtain ⟨hx, hb, hml, hown, hts, hlk, hRf, hRl, hKK, hA, hrt, hQ, hlc, hCo⟩ := hX
  unfold nwA at hm
  split at hm
  · rename_i hnc
    cases hm
    have hN : am_pl q (φ.1 q + 1) = n.toNatClampNeg := by rw [hnc]; exact (am_ofNat (hpl _)).symm
    refine va_newaK hx hb (hts _ harr) (g := F0 m pc ls (.int n :: st.map (cn ad))) rfl hdg rfl hn0 hN.symm (by rw [hN]; exact hby) (by omega) (by omega) rfl fun H1 cA e1 z1 o1 hAr hNm => ?_
    have hcA : cA = dA (am_pt q) := Option.some.inj (hNm.symm.trans (hrf _ _ (hKK.2.1 _ _ hty).2))
    obtain ⟨hI1, hE1⟩ := hI.new (H1 := H1) (c := 0) hA hq rfl rfl rfl o1 z1 (by
      rw [am_enI hk]
      show H1[H.size]? = some (vp_cell _ _)
      rw [e1, hcA, hdv, vp_cell_i]
      dsimp only
      rw [u2_self]) (am_ve1 hk)
    have k3 := k (φ.1 q + 1) _ _ b φ' S' k2 n2 hg hf _ H1 locs (cells + 1) (slots + am_pl q (φ.1 q + 1)) ls hI1 (by omega) (by omega) ⟨amV_mk (by omega) (by simp), amVs_up hE1 hv.2⟩ (amVl_up hE1 hvl) (by rw [amCl_cn hE1 hvl]; exact hl)
    rw [List.map_cons, amVs_cn hE1 hv.2, cn_rid (Nat.succ_ne_zero _)] at k3
    simp only [if_pos] at k3
    exact k3
  · cases hm
/-- a new array of floats -/
theorem wg_nwF {q : Nat} {n : Int32} {atype : ArrayType} {g : Nat → am1 β} (hX : amOK X cc own nL F L rtp) (hq : q < 250) (hk : am_pk q = 4) (hty : am_tys[am_pt q]? = some (newarray.typeOf atype)) (hdv : defaultValue (newarray.typeOf atype) = .float 0) (hrf : ∀ (U : State) (cA : ClassId), va_RA U cA (newarray.typeOf atype) → U.vm.findClass ("[" ++ (newarray.typeOf atype).toString) = some cA) (harr : Cond.arrayClass (newarray.typeOf atype) ∈ lw_all) (hn0 : ¬ n < 0) (hpl : ∀ r, am_pl q r < 2147483648) (hby : n.toNatClampNeg * componentBytes (newarray.typeOf atype) ≤ 536870912) (hdg : decode cc pc = .ok (.newarray atype, 2)) (k : ∀ r : Nat, WG X enc (pc + 2) l (.ref (rid q r) :: st) (g r)) : WG X enc pc l (.int n :: st) (bd1 (nwA q n) g) := by
  obtain ⟨⟨p, lc, e, R, s⟩, ⟨m, args, below, meth, c0⟩, ⟨D, dA, ad0, φ0, A⟩, ⟨Q, fin⟩⟩ := X
  intro φ S b φ' S' kc ks hP hf ad H locs cells slots ls hI hc hs hv hvl hl
  obtain ⟨a1, φ1, S1, k1, n1, k2, n2, hm, hg, rfl, rfl⟩ := bd1_some hP
  obtain ⟨hx, hb, hml, hown, hts, hlk, hRf, hRl, hKK, hA, hrt, hQ, hlc, hCo⟩ := hX
  unfold nwA at hm
  split at hm
  · rename_i hnc
    cases hm
    have hN : am_pl q (φ.1 q + 1) = n.toNatClampNeg := by rw [hnc]; exact (am_ofNat (hpl _)).symm
    refine va_newaK hx hb (hts _ harr) (g := F0 m pc ls (.int n :: st.map (cn ad))) rfl hdg rfl hn0 hN.symm (by rw [hN]; exact hby) (by omega) (by omega) rfl fun H1 cA e1 z1 o1 hAr hNm => ?_
    have hcA : cA = dA (am_pt q) := Option.some.inj (hNm.symm.trans (hrf _ _ (hKK.2.1 _ _ hty).2))
    obtain ⟨hI1, hE1⟩ := hI.new (H1 := H1) (c := 0) hA hq rfl rfl rfl o1 z1 (by
      rw [am_enF hk]
      show H1[H.size]? = some (vp_cell _ _)
      rw [e1, hcA, hdv, vp_cell_f]
      dsimp only
      rw [u2_self]
      rfl) (am_ve4 hk)
    have k3 := k (φ.1 q + 1) _ _ b φ' S' k2 n2 hg hf _ H1 locs (cells + 1) (slots + am_pl q (φ.1 q + 1)) ls hI1 (by omega) (by omega) ⟨amV_mk (by omega) (by simp), amVs_up hE1 hv.2⟩ (amVl_up hE1 hvl) (by rw [amCl_cn hE1 hvl]; exact hl)
    rw [List.map_cons, amVs_cn hE1 hv.2, cn_rid (Nat.succ_ne_zero _)] at k3
    simp only [if_pos] at k3
    exact k3
  · cases hm
/-- a new array of doubles -/
theorem wg_nwD {q : Nat} {n : Int32} {atype : ArrayType} {g : Nat → am1 β} (hX : amOK X cc own nL F L rtp) (hq : q < 250) (hk : am_pk q = 5) (hty : am_tys[am_pt q]? = some (newarray.typeOf atype)) (hdv : defaultValue (newarray.typeOf atype) = .double 0) (hrf : ∀ (U : State) (cA : ClassId), va_RA U cA (newarray.typeOf atype) → U.vm.findClass ("[" ++ (newarray.typeOf atype).toString) = some cA) (harr : Cond.arrayClass (newarray.typeOf atype) ∈ lw_all) (hn0 : ¬ n < 0) (hpl : ∀ r, am_pl q r < 2147483648) (hby : n.toNatClampNeg * componentBytes (newarray.typeOf atype) ≤ 536870912) (hdg : decode cc pc = .ok (.newarray atype, 2)) (k : ∀ r : Nat, WG X enc (pc + 2) l (.ref (rid q r) :: st) (g r)) : WG X enc pc l (.int n :: st) (bd1 (nwA q n) g) := by
  obtain ⟨⟨p, lc, e, R, s⟩, ⟨m, args, below, meth, c0⟩, ⟨D, dA, ad0, φ0, A⟩, ⟨Q, fin⟩⟩ := X
  intro φ S b φ' S' kc ks hP hf ad H locs cells slots ls hI hc hs hv hvl hl
  obtain ⟨a1, φ1, S1, k1, n1, k2, n2, hm, hg, rfl, rfl⟩ := bd1_some hP
  obtain ⟨hx, hb, hml, hown, hts, hlk, hRf, hRl, hKK, hA, hrt, hQ, hlc, hCo⟩ := hX
  unfold nwA at hm
  split at hm
  · rename_i hnc
    cases hm
    have hN : am_pl q (φ.1 q + 1) = n.toNatClampNeg := by rw [hnc]; exact (am_ofNat (hpl _)).symm
    refine va_newaK hx hb (hts _ harr) (g := F0 m pc ls (.int n :: st.map (cn ad))) rfl hdg rfl hn0 hN.symm (by rw [hN]; exact hby) (by omega) (by omega) rfl fun H1 cA e1 z1 o1 hAr hNm => ?_
    have hcA : cA = dA (am_pt q) := Option.some.inj (hNm.symm.trans (hrf _ _ (hKK.2.1 _ _ hty).2))
    obtain ⟨hI1, hE1⟩ := hI.new (H1 := H1) (c := 0) hA hq rfl rfl rfl o1 z1 (by
      rw [am_enD hk]
      show H1[H.size]? = some (vp_cell _ _)
      rw [e1, hcA, hdv, vp_cell_d]
      dsimp only
      rw [u2_self]) (am_ve5 hk)
    have k3 := k (φ.1 q + 1) _ _ b φ' S' k2 n2 hg hf _ H1 locs (cells + 1) (slots + am_pl q (φ.1 q + 1)) ls hI1 (by omega) (by omega) ⟨amV_mk (by omega) (by simp), amVs_up hE1 hv.2⟩ (amVl_up hE1 hvl) (by rw [amCl_cn hE1 hvl]; exact hl)
    rw [List.map_cons, amVs_cn hE1 hv.2, cn_rid (Nat.succ_ne_zero _)] at k3
    simp only [if_pos] at k3
    exact k3
  · cases hm
/-- a final field gets its array: ranks differ -/
def amUq (es : List (Nat × Nat × Nat)) (j s0 : Nat) : Prop := ∀ i x, es[i]? = some x → i ≠ j → 2 ≤ x.1 → x.1 ≤ 4 → x.2.2 ≠ s0
theorem wg_pC {q r idx j kd t s0 v e0 : Nat} {ty : FieldType} {g : Unit → am1 β} (hX : amOK X cc own nL F L rtp) (hF : amFp own idx q j (kd, t, s0) (am_kl q) ty true) (hkd : kd = 2 ∨ kd = 3 ∨ kd = 4) (huq : ∀ c ∈ am_kl q, amUq (am_lay c) j s0) (he0 : amCv kd r = e0) (hin : X.2.1.2.2.2.1.name = "<init>") (ht : t < 256) (hty : (∃ n, ty = .object n) ∨ ∃ t, ty = .array t) (hdg : decode cc pc = .ok (.putfield idx, 3)) (k : WG X enc (pc + 3) l st (g ())) : WG X enc pc l (.ref (rid t v) :: .ref (rid q r) :: st) (bd1 (pC q r s0 e0 v) g) := by
  obtain ⟨⟨p, lc, e, R, s⟩, ⟨m, args, below, meth, c⟩, ⟨D, dA, ad0, φ0, A⟩, ⟨Q, fin⟩⟩ := X
  intro φ S b φ' S' kc ks hP hf ad H locs cells slots ls hI hc hs hv hvl hl
  obtain ⟨a1, φ1, S1, k1, n1, k2, n2, hm, hg, rfl, rfl⟩ := bd1_some hP
  unfold pC at hm
  split at hm
  · rename_i h0
    cases hm
    obtain ⟨h0, hst, rfl⟩ := h0
    have hq := hF.1.1
    have hk := hF.1.2.1
    have ho : amOk φ q r := ⟨hq, Nat.pos_of_ne_zero h0, amV_r (by omega) hv.2.1⟩
    have hob := am_obj hI.1 ho hk
    have hnf : narrow ty (cn ad (.ref (rid t v))) = cn ad (.ref (rid t v)) ∧ fits ty (cn ad (.ref (rid t v))) = true := by
      rw [cn_rad ht]
      rcases hty with ⟨n, rfl⟩ | ⟨n, rfl⟩ <;> cases rad ad t v <;> exact ⟨rfl, rfl⟩
    rw [List.map_cons, List.map_cons, cn_rid h0]
    refine am_putf hX.1 hX.2.1 hX.2.2.2.2.1 hX.2.2.2.1 hX.2.2.2.2.2.2.2.2.1 hI.1 hF ho hob.2.1 (fun _ => hin) hnf.1 hnf.2 hdg fun H1 i hlay e1 z oq => ?_
    have hoth : ∀ i x, (am_lay (amK φ q r))[i]? = some x → i ≠ j → amF (φ.1, u2 φ.2.1 q r (s0 + 1), φ.2.2) S q r i x = amF φ S q r i x := by
      intro i x hx hi
      have hu := huq _ hob.2.1 i x hx hi
      obtain ⟨kx, tx, sx⟩ := x
      have e9 : 2 ≤ kx → kx ≤ 4 → (sx < u2 φ.2.1 q r (s0 + 1) q r ↔ sx < φ.2.1 q r) := by
        intro g1 g2
        have := hu g1 g2
        rw [u2_self, hst]
        simp only at this
        omega
      unfold amF
      split <;> first | rfl | (rename_i heq; cases heq; simp only [e9 (by decide) (by decide)])
    have hself : amF (φ.1, u2 φ.2.1 q r (s0 + 1), φ.2.2) S q r j (kd, t, s0) = .ref (rid t v) := by
      rw [amF_c hkd (by dsimp only; rw [u2_self]; omega), he0]
    refine k (φ.1, u2 φ.2.1 q r (s0 + 1), φ.2.2) S b φ' S' k2 n2 hg hf ad H1 (locs ++ [⟨ad (rid q r), i⟩]) cells slots ls ?_ (by omega) (by omega) (amVs_all.mpr fun v1 h1 => amV_n (φ := φ) (fun _ => Nat.le_refl _) (amVs_all.mp hv.2.2 v1 h1)) (fun q1 h1 => amV_n (φ := φ) (fun _ => Nat.le_refl _) (hvl q1 h1)) hl
    refine hI.put ho rfl (fun p' r' hne => ⟨rfl, rfl, rfl, u2_other hne, rfl⟩) ?_ z oq ?_
    · rw [am_field_set (φ := φ) (φ' := (φ.1, u2 φ.2.1 q r (s0 + 1), φ.2.2)) (S := S) hk rfl hlay hoth, hself]
      exact e1
    · exact am_field_ve (φ := φ) (φ' := (φ.1, u2 φ.2.1 q r (s0 + 1), φ.2.2)) (S := S) hk rfl rfl hlay hoth hob.2 (by rw [hself]; exact hv.1)
  · cases hm
theorem wg_objI {q r idx : Nat} {P : am1 β} (hX : amOK X cc own nL F L rtp) (h0 : r ≠ 0) (w1 : Cond.methodLink own idx Lib.objectInit ∈ lw_all) (w2 : Cond.instanceMethod Lib.objectInit ∈ lw_all) (w3 : Cond.code Lib.objectInit ⟨#[0xb1]⟩ 1 none ∈ lw_all) (hF : 1 ≤ F) (hL : (st.map fun v => v.category).sum + 12 ≤ L) (hdg : decode cc pc = .ok (.invokespecial idx, 3)) (k : WG X enc (pc + 3) l st P) : WG X enc pc l (.ref (rid q r) :: st) P := by
  obtain ⟨⟨p, lc, e, R, s⟩, ⟨m, args, below, meth, c⟩, ⟨D, dA, ad0, φ0, A⟩, ⟨Q, fin⟩⟩ := X
  intro φ S b φ' S' kc ks hP hf ad H locs cells slots ls hI hc hs hv hvl hl
  obtain ⟨hx, hb, hml, hown, hts, hlk, hRf, hRl, hKK, hA, hrt, hQ, hlc, hCo⟩ := hX
  subst hRf
  subst hRl
  rw [List.map_cons, cn_rid h0]
  exact W.objInit hx hb hown (hts _ w1) (hts _ w2) (hts _ w3) (g := F0 m pc ls (.ref (ad (rid q r)) :: st.map (cn ad))) rfl hl.1 rfl hdg hF (by rw [am_cats]; show 2 * 0 + _ + 12 ≤ _; omega) (k φ S b φ' S' kc ks hP hf ad H locs cells slots ls hI hc hs hv.2 hvl hl)
theorem wg_cI {α : Type} {encz : α → Option Value} {m1 : am1 α} {g : α → am1 β} {q r idx n nLy Fy Ly : Nat} {y : MethodName} {ccy : ByteArray} {As rest st0 : List Value}  (hX : amOK X cc own nL F L rtp) (hM : amMet y ccy nLy none Fy Ly encz (.ref (rid q r) :: As) m1) (h0 : r ≠ 0) (hy1 : y.name = "<init>") (hlw : Cond.methodLink own idx y ∈ lw_all) (hi1 : Cond.instanceMethod y ∈ lw_all) (hi2 : Cond.initialized y.cls ∈ lw_all) (hco : Cond.code y ccy nLy none ∈ lw_all) (hd : y.cls ≠ "java/lang/invoke/MethodHandle" ∧ y.cls ≠ "java/lang/invoke/VarHandle" ∧ (parseMethodDescriptor y.desc).map (fun d => d.parameters.length) = some n) (hn : As.length = n) (hF : Fy + 1 ≤ F) (hLo : 8 + (nLy + 11) + Ly ≤ L) (hw : (rest.map fun v => v.category).sum ≤ 8) (hst : st0 = As.reverse ++ .ref (rid q r) :: rest) (hdg : decode cc pc = .ok (.invokespecial idx, 3)) (k : ∀ a, WG X enc (pc + 3) l ((encz a).toList ++ rest) (g a)) : WG X enc pc l st0 (bd1 m1 g) := by
  subst hst
  obtain ⟨⟨p, lc, e, R, s⟩, ⟨m, args, below, meth, c⟩, ⟨D, dA, ad0, φ0, A⟩, ⟨Q, fin⟩⟩ := X
  intro φ S b φ' S' kc ks hP hf ad H locs cells slots ls hI hc hs hv hvl hl
  obtain ⟨a1, φ1, S1, k1, n1, k2, n2, hm, hg, rfl, rfl⟩ := bd1_some hP
  obtain ⟨hx, hb, hml, hown, hts, hlk, hRf, hRl, hKK, hA, hrt, hQ, hlc, hCo⟩ := hX
  subst hRf
  subst hRl
  have hvs := amVs_app.mp hv
  have hvr : amVs φ rest := hvs.2.2
  have hmet := hM lc hlc D dA ad φ S H.size a1 φ1 S1 k1 n1 hm ⟨hvs.2.1, amVs_rev.mp hvs.1⟩
  have hpre : PreS s H (amPc D dA ad φ S (.ref (rid q r) :: As) H.size) (.ref (ad (rid q r)) :: As.map (cn ad)) := ⟨amPc_blind, fun U hU hW => ⟨by rw [List.map_cons, cn_rid h0], by rw [hU], by rw [hU]; exact hI.1, hKK.warm hW, by rw [hU]; exact hCo.tr hW hI.2.2.2 hI.2.2.1.2.1 (hI.sub hA)⟩⟩
  rw [List.map_append, List.map_cons, cn_rid h0, List.map_reverse]
  have hrun := va_runI ⟨hx, hb, hml, hown, hts⟩ hmet (cwI n hts (lw_meth hco) rfl rfl rfl (hts _ hi2) (hts _ hlw) (hts _ hi1) hy1 hd ⟨hF, hLo⟩) hpre (g := F0 m pc ls ((As.map (cn ad)).reverse ++ .ref (ad (rid q r)) :: rest.map (cn ad))) (locs := locs) (cells := cells) (slots := slots) (rest := rest.map (cn ad)) (R := R) (e := e) (below := below) (meth := meth) rfl (by rw [List.length_map]; exact hn) (by rw [← hml]; exact hl.1) rfl (lv_room (by rw [am_cats]; exact hw)) hdg ⟨by omega, by omega⟩
  refine am_back (np := pc + 3) hrun hI hA fun ad1 H1 locs1 hI1 hE1 hV1 => ?_
  have k3 := k a1 φ1 S1 b φ' S' k2 n2 hg hf ad1 H1 locs1 (cells + k1) (slots + n1) ls hI1 (by omega) (by omega) (amVs_app.mpr ⟨by
    rcases he : encz a1 with _ | v
    · trivial
    · exact ⟨hV1 v he, trivial⟩, amVs_up hE1 hvr⟩) (amVl_up hE1 hvl) (by rw [amCl_cn hE1 hvl]; exact hl)
  rw [List.map_append, amVs_cn hE1 hvr] at k3
  rcases he : encz a1 with _ | v
  · rw [he] at k3
    exact k3
  · rw [he] at k3
    exact k3
theorem wg_cIN {α : Type} {encz : α → Option Value} {m1 : am1 α} {g : α → am1 β} {q r idx n nLy Fy Ly : Nat} {y : MethodName} {ccy : ByteArray} {As rest st0 : List Value} {host : String} (hX : amOK X cc own nL F L rtp) (hM : amMet y ccy nLy none Fy Ly encz (.ref (rid q r) :: As) m1) (h0 : r ≠ 0) (hy1 : y.name = "<init>") (hlw : Cond.methodLinkNest own idx y host ∈ lw_tbl) (hi1 : Cond.instanceMethod y ∈ lw_all) (hi2 : Cond.initialized y.cls ∈ lw_all) (hco : Cond.code y ccy nLy none ∈ lw_all) (hd : y.cls ≠ "java/lang/invoke/MethodHandle" ∧ y.cls ≠ "java/lang/invoke/VarHandle" ∧ (parseMethodDescriptor y.desc).map (fun d => d.parameters.length) = some n) (hn : As.length = n) (hF : Fy + 1 ≤ F) (hLo : 8 + (nLy + 11) + Ly ≤ L) (hw : (rest.map fun v => v.category).sum ≤ 8) (hst : st0 = As.reverse ++ .ref (rid q r) :: rest) (hdg : decode cc pc = .ok (.invokespecial idx, 3)) (k : ∀ a, WG X enc (pc + 3) l ((encz a).toList ++ rest) (g a)) : WG X enc pc l st0 (bd1 m1 g) := by
  subst hst
  obtain ⟨⟨p, lc, e, R, s⟩, ⟨m, args, below, meth, c⟩, ⟨D, dA, ad0, φ0, A⟩, ⟨Q, fin⟩⟩ := X
  intro φ S b φ' S' kc ks hP hf ad H locs cells slots ls hI hc hs hv hvl hl
  obtain ⟨a1, φ1, S1, k1, n1, k2, n2, hm, hg, rfl, rfl⟩ := bd1_some hP
  obtain ⟨hx, hb, hml, hown, hts, hlk, hRf, hRl, hKK, hA, hrt, hQ, hlc, hCo⟩ := hX
  subst hRf
  subst hRl
  have hvs := amVs_app.mp hv
  have hvr : amVs φ rest := hvs.2.2
  have hmet := hM lc hlc D dA ad φ S H.size a1 φ1 S1 k1 n1 hm ⟨hvs.2.1, amVs_rev.mp hvs.1⟩
  have hpre : PreS s H (amPc D dA ad φ S (.ref (rid q r) :: As) H.size) (.ref (ad (rid q r)) :: As.map (cn ad)) := ⟨amPc_blind, fun U hU hW => ⟨by rw [List.map_cons, cn_rid h0], by rw [hU], by rw [hU]; exact hI.1, hKK.warm hW, by rw [hU]; exact hCo.tr hW hI.2.2.2 hI.2.2.1.2.1 (hI.sub hA)⟩⟩
  rw [List.map_append, List.map_cons, cn_rid h0, List.map_reverse]
  have hrun := va_runIN ⟨hx, hb, hml, hown, hts⟩ hmet (⟨va_cnB n hts (lw_meth hco) rfl rfl rfl (hKK.2.2.1 _ hlw rfl) (hts _ hi2) hd ⟨hF, hLo⟩, hy1, hts _ hi1⟩) hpre (g := F0 m pc ls ((As.map (cn ad)).reverse ++ .ref (ad (rid q r)) :: rest.map (cn ad))) (locs := locs) (cells := cells) (slots := slots) (rest := rest.map (cn ad)) (R := R) (e := e) (below := below) (meth := meth) rfl (by rw [List.length_map]; exact hn) (by rw [← hml]; exact hl.1) rfl (lv_room (by rw [am_cats]; exact hw)) hdg ⟨by omega, by omega⟩
  refine am_back (np := pc + 3) hrun hI hA fun ad1 H1 locs1 hI1 hE1 hV1 => ?_
  have k3 := k a1 φ1 S1 b φ' S' k2 n2 hg hf ad1 H1 locs1 (cells + k1) (slots + n1) ls hI1 (by omega) (by omega) (amVs_app.mpr ⟨by
    rcases he : encz a1 with _ | v
    · trivial
    · exact ⟨hV1 v he, trivial⟩, amVs_up hE1 hvr⟩) (amVl_up hE1 hvl) (by rw [amCl_cn hE1 hvl]; exact hl)
  rw [List.map_append, amVs_cn hE1 hvr] at k3
  rcases he : encz a1 with _ | v
  · rw [he] at k3
    exact k3
  · rw [he] at k3
    exact k3
theorem wg_cSU {α : Type} {encz : α → Option Value} {m1 : am1 α} {g : α → am1 β} {q r idx n nLy Fy Ly : Nat} {y : MethodName} {ccy : ByteArray} {rty : Option FieldType} {As rest st0 : List Value}  (hX : amOK X cc own nL F L rtp) (hM : amMet y ccy nLy rty Fy Ly encz (.ref (rid q r) :: As) m1) (hq : q < 250) (hk : am_pk q = 0) (h0 : r ≠ 0) (hrc : ∀ c ∈ am_kl q, ∃ (C1 : String) (T1 : u_T) (N1 : Nat), am_cl[c]? = some (C1, T1, N1)) (hG : GoodIn lw_all (va_wsSU own idx y (ws_ y ccy nLy rty))) (hd : y.name ≠ "<init>" ∧ (parseMethodDescriptor y.desc).map (fun d => d.parameters.length) = some n) (hn : As.length = n) (hF : Fy + 1 ≤ F) (hLo : 8 + (nLy + 11) + Ly ≤ L) (hw : (rest.map fun v => v.category).sum ≤ 8) (hst : st0 = As.reverse ++ .ref (rid q r) :: rest) (hdg : decode cc pc = .ok (.invokespecial idx, 3)) (k : ∀ a, WG X enc (pc + 3) l ((encz a).toList ++ rest) (g a)) : WG X enc pc l st0 (bd1 m1 g) := by
  subst hst
  obtain ⟨⟨p, lc, e, R, s⟩, ⟨m, args, below, meth, c⟩, ⟨D, dA, ad0, φ0, A⟩, ⟨Q, fin⟩⟩ := X
  intro φ S b φ' S' kc ks hP hf ad H locs cells slots ls hI hc hs hv hvl hl
  obtain ⟨a1, φ1, S1, k1, n1, k2, n2, hm, hg, rfl, rfl⟩ := bd1_some hP
  obtain ⟨hx, hb, hml, hown, hts, hlk, hRf, hRl, hKK, hA, hrt, hQ, hlc, hCo⟩ := hX
  subst hRf
  subst hRl
  have hvs := amVs_app.mp hv
  have hvr : amVs φ rest := hvs.2.2
  have ho : amOk φ q r := ⟨hq, Nat.pos_of_ne_zero h0, amV_r (by omega) hvs.2.1⟩
  have hob := am_obj hI.1 ho hk
  obtain ⟨C1, T1, N1, hcl⟩ : ∃ (C1 : String) (T1 : u_T) (N1 : Nat), am_cl[amK φ q r]? = some (C1, T1, N1) := hrc _ hob.2.1
  have hmet := hM lc hlc D dA ad φ S H.size a1 φ1 S1 k1 n1 hm ⟨hvs.2.1, amVs_rev.mp hvs.1⟩
  have hpre : PreV s H C1 (ad (rid q r)) (amPc D dA ad φ S (.ref (rid q r) :: As) H.size) (As.map (cn ad)) := ⟨amPc_blind, by
    exact va_recv hKK.va (va_P1 hob.1) hcl (q0 := 0) rfl, fun U hU hW => ⟨by rw [List.map_cons, cn_rid h0], by rw [hU], by rw [hU]; exact hI.1, hKK.warm hW, by rw [hU]; exact hCo.tr hW hI.2.2.2 hI.2.2.1.2.1 (hI.sub hA)⟩⟩
  rw [List.map_append, List.map_cons, cn_rid h0, List.map_reverse]
  have hrun := va_runSU (hKK.1 _ _ hcl).2 ⟨hx, hb, hml, hown, hts⟩ hmet (va_cwSU n hts hG rfl rfl rfl hd ⟨hF, hLo⟩) hpre (g := F0 m pc ls ((As.map (cn ad)).reverse ++ .ref (ad (rid q r)) :: rest.map (cn ad))) (locs := locs) (cells := cells) (slots := slots) (rest := rest.map (cn ad)) (R := R) (e := e) (below := below) (meth := meth) rfl (by rw [List.length_map]; exact hn) (by rw [← hml]; exact hl.1) rfl (lv_room (by rw [am_cats]; exact hw)) hdg ⟨by omega, by omega⟩
  refine am_back (np := pc + 3) hrun hI hA fun ad1 H1 locs1 hI1 hE1 hV1 => ?_
  have k3 := k a1 φ1 S1 b φ' S' k2 n2 hg hf ad1 H1 locs1 (cells + k1) (slots + n1) ls hI1 (by omega) (by omega) (amVs_app.mpr ⟨by
    rcases he : encz a1 with _ | v
    · trivial
    · exact ⟨hV1 v he, trivial⟩, amVs_up hE1 hvr⟩) (amVl_up hE1 hvl) (by rw [amCl_cn hE1 hvl]; exact hl)
  rw [List.map_append, amVs_cn hE1 hvr] at k3
  rcases he : encz a1 with _ | v
  · rw [he] at k3
    exact k3
  · rw [he] at k3
    exact k3
/-- what a call by the receiver's class stands on: class C, named method x, selected method y -/
def amSel (own : String) (idx : Nat) (C : String) (x y : MethodName) (bytes : ByteArray) (maxL : Nat) (ret : Option FieldType) (n : Nat) : Prop := ∃ owner : String, GoodIn lw_all (va_wsU own idx C owner x y (ws_ y bytes maxL ret)) ∧ (owner ≠ "java/lang/invoke/MethodHandle" ∧ owner ≠ "java/lang/invoke/VarHandle" ∧ (parseMethodDescriptor x.desc).map (fun d => d.parameters.length) = some n) ∧ (y = ⟨owner, x.name, x.desc⟩ ∨ Cond.declares ⟨owner, x.name, x.desc⟩ ∈ lw_tbl)
theorem amSel.cu {own : String} {idx : Nat} {C : String} {x y : MethodName} {bytes : ByteArray} {maxL : Nat} {ret : Option FieldType} {n : Nat} (h : amSel own idx C x y bytes maxL ret n) {R : Room} {s : State} {args : Array Value} {rm : Room} {mc ms : Nat} (hts : ∀ w ∈ lw_all, w.before args s = true) (hN : ∀ w, w ∈ lw_tbl → am_mv w = true → va_Nw w s) (hrc : rm.cells = mc) (hrs : rm.slots = ms) (hR : rm.frames + 1 ≤ R.frames ∧ 8 + (maxL + 11) + rm.locals ≤ R.locals) : ∃ owner, va_CU R s args own C owner idx x y bytes maxL ret (ws_ y bytes maxL ret) rm mc ms n := by
  obtain ⟨owner, hG, hd, h1 | h1⟩ := h
  · exact ⟨owner, va_cwU n hts hG rfl hrc hrs h1 hd hR⟩
  · exact ⟨owner, va_cwA n hts hG rfl hrc hrs (hN _ h1 rfl) hd hR⟩
theorem up_vc {α : Type} {q r : Nat} {f : Nat → am0 α} : up (vc q r f) = vc1 q r (fun c => up (f c)) := by
  funext φ S
  unfold up vc vc1
  by_cases h : r = 0
  · rw [if_pos h, if_pos h]
  · rw [if_neg h, if_neg h]
theorem wg_vc {α : Type} {encz : α → Option Value} {f : Nat → am1 α} {g : α → am1 β} {q r idx n : Nat} {x : MethodName} {As rest st0 : List Value} (hX : amOK X cc own nL F L rtp) (hq : q < 250) (hk : am_pk q = 0)
    (hsel : ∀ c ∈ am_kl q, (∀ φ S, f c φ S = none) ∨ ∃ (C : String) (T : u_T) (N : Nat) (y : MethodName) (ccy : ByteArray) (nLy : Nat) (rty : Option FieldType) (Fy Ly : Nat), am_cl[c]? = some (C, T, N) ∧ amSel own idx C x y ccy nLy rty n ∧ amMet y ccy nLy rty Fy Ly encz (.ref (rid q r) :: As) (f c) ∧ Fy + 1 ≤ F ∧ 8 + (nLy + 11) + Ly ≤ L)
    (hn : As.length = n) (hw : (rest.map fun v => v.category).sum ≤ 8) (hst : st0 = As.reverse ++ .ref (rid q r) :: rest) (hdg : decode cc pc = .ok (.invokevirtual idx, 3)) (k : ∀ a, WG X enc (pc + 3) l ((encz a).toList ++ rest) (g a)) : WG X enc pc l st0 (bd1 (vc1 q r f) g) := by
  subst hst
  obtain ⟨⟨p, lc, e, R, s⟩, ⟨m, args, below, meth, c⟩, ⟨D, dA, ad0, φ0, A⟩, ⟨Q, fin⟩⟩ := X
  intro φ S b φ' S' kc ks hP hf ad H locs cells slots ls hI hc hs hv hvl hl
  obtain ⟨a1, φ1, S1, k1, n1, k2, n2, hm, hg, rfl, rfl⟩ := bd1_some hP
  unfold vc1 at hm
  split at hm
  · cases hm
  · rename_i h0
    obtain ⟨hx, hb, hml, hown, hts, hlk, hRf, hRl, hKK, hA, hrt, hQ, hlc, hCo⟩ := hX
    subst hRf
    subst hRl
    have hvs := amVs_app.mp hv
    have hvr : amVs φ rest := hvs.2.2
    have ho : amOk φ q r := ⟨hq, Nat.pos_of_ne_zero h0, amV_r (by omega) hvs.2.1⟩
    have hob := am_obj hI.1 ho hk
    rcases hsel _ hob.2.1 with hno | ⟨C1, T1, N1, y, ccy, nLy, rty, Fy, Ly, hcl, hS0, hM, hF, hLo⟩
    · rw [hno] at hm
      cases hm
    have hmet := hM lc hlc D dA ad φ S H.size a1 φ1 S1 k1 n1 hm ⟨hvs.2.1, amVs_rev.mp hvs.1⟩
    have hpre : PreV s H C1 (ad (rid q r)) (amPc D dA ad φ S (.ref (rid q r) :: As) H.size) (As.map (cn ad)) := ⟨amPc_blind, va_recv hKK.va (va_P1 hob.1) hcl (q0 := 0) rfl, fun U hU hW => ⟨by rw [List.map_cons, cn_rid h0], by rw [hU], by rw [hU]; exact hI.1, hKK.warm hW, by rw [hU]; exact hCo.tr hW hI.2.2.2 hI.2.2.1.2.1 (hI.sub hA)⟩⟩
    rw [List.map_append, List.map_cons, cn_rid h0, List.map_reverse]
    obtain ⟨owner, hcu⟩ := hS0.cu (R := R) (rm := { frames := Fy, cells := k1, slots := n1, locals := Ly }) hts hKK.2.2.1 rfl rfl ⟨hF, hLo⟩
    have hrun := va_runU ⟨hx, hb, hml, hown, hts⟩ hmet hcu hpre (g := F0 m pc ls ((As.map (cn ad)).reverse ++ .ref (ad (rid q r)) :: rest.map (cn ad))) (locs := locs) (cells := cells) (slots := slots) (rest := rest.map (cn ad)) (R := R) (e := e) (below := below) (meth := meth) rfl (by rw [List.length_map]; exact hn) (by rw [← hml]; exact hl.1) rfl (lv_room (by rw [am_cats]; exact hw)) hdg ⟨by omega, by omega⟩
    refine am_back (np := pc + 3) hrun hI hA fun ad1 H1 locs1 hI1 hE1 hV1 => ?_
    have k3 := k a1 φ1 S1 b φ' S' k2 n2 hg hf ad1 H1 locs1 (cells + k1) (slots + n1) ls hI1 (by omega) (by omega) (amVs_app.mpr ⟨by
      rcases he : encz a1 with _ | v
      · trivial
      · exact ⟨hV1 v he, trivial⟩, amVs_up hE1 hvr⟩) (amVl_up hE1 hvl) (by rw [amCl_cn hE1 hvl]; exact hl)
    rw [List.map_append, amVs_cn hE1 hvr] at k3
    rcases he : encz a1 with _ | v
    · rw [he] at k3
      exact k3
    · rw [he] at k3
      exact k3
/-- the same at an interface -/
def amSelF (own : String) (idx : Nat) (C : String) (x y : MethodName) (bytes : ByteArray) (maxL : Nat) (ret : Option FieldType) (n : Nat) : Prop := GoodIn lw_all (va_wsF own idx C x y (ws_ y bytes maxL ret)) ∧ (C, x, y) ∈ am_fw ∧ (x.cls ≠ "java/lang/invoke/MethodHandle" ∧ x.cls ≠ "java/lang/invoke/VarHandle" ∧ (parseMethodDescriptor x.desc).map (fun d => d.parameters.length) = some n)
theorem wg_vf {α : Type} {encz : α → Option Value} {f : Nat → am1 α} {g : α → am1 β} {q r idx n count : Nat} {x : MethodName} {As rest st0 : List Value} (hX : amOK X cc own nL F L rtp) (hq : q < 250) (hk : am_pk q = 0)
    (hsel : ∀ c ∈ am_kl q, (∀ φ S, f c φ S = none) ∨ ∃ (C : String) (T : u_T) (N : Nat) (y : MethodName) (ccy : ByteArray) (nLy : Nat) (rty : Option FieldType) (Fy Ly : Nat), am_cl[c]? = some (C, T, N) ∧ amSelF own idx C x y ccy nLy rty n ∧ amMet y ccy nLy rty Fy Ly encz (.ref (rid q r) :: As) (f c) ∧ Fy + 1 ≤ F ∧ 8 + (nLy + 11) + Ly ≤ L)
    (hn : As.length = n) (hw : (rest.map fun v => v.category).sum ≤ 8) (hst : st0 = As.reverse ++ .ref (rid q r) :: rest) (hdg : decode cc pc = .ok (.invokeinterface idx count, 5)) (k : ∀ a, WG X enc (pc + 5) l ((encz a).toList ++ rest) (g a)) : WG X enc pc l st0 (bd1 (vc1 q r f) g) := by
  subst hst
  obtain ⟨⟨p, lc, e, R, s⟩, ⟨m, args, below, meth, c⟩, ⟨D, dA, ad0, φ0, A⟩, ⟨Q, fin⟩⟩ := X
  intro φ S b φ' S' kc ks hP hf ad H locs cells slots ls hI hc hs hv hvl hl
  obtain ⟨a1, φ1, S1, k1, n1, k2, n2, hm, hg, rfl, rfl⟩ := bd1_some hP
  unfold vc1 at hm
  split at hm
  · cases hm
  · rename_i h0
    obtain ⟨hx, hb, hml, hown, hts, hlk, hRf, hRl, hKK, hA, hrt, hQ, hlc, hCo⟩ := hX
    subst hRf
    subst hRl
    have hvs := amVs_app.mp hv
    have hvr : amVs φ rest := hvs.2.2
    have ho : amOk φ q r := ⟨hq, Nat.pos_of_ne_zero h0, amV_r (by omega) hvs.2.1⟩
    have hob := am_obj hI.1 ho hk
    rcases hsel _ hob.2.1 with hno | ⟨C1, T1, N1, y, ccy, nLy, rty, Fy, Ly, hcl, hS0, hM, hF, hLo⟩
    · rw [hno] at hm
      cases hm
    have hmet := hM lc hlc D dA ad φ S H.size a1 φ1 S1 k1 n1 hm ⟨hvs.2.1, amVs_rev.mp hvs.1⟩
    have hpre : PreV s H C1 (ad (rid q r)) (amPc D dA ad φ S (.ref (rid q r) :: As) H.size) (As.map (cn ad)) := ⟨amPc_blind, va_recv hKK.va (va_P1 hob.1) hcl (q0 := 0) rfl, fun U hU hW => ⟨by rw [List.map_cons, cn_rid h0], by rw [hU], by rw [hU]; exact hI.1, hKK.warm hW, by rw [hU]; exact hCo.tr hW hI.2.2.2 hI.2.2.1.2.1 (hI.sub hA)⟩⟩
    rw [List.map_append, List.map_cons, cn_rid h0, List.map_reverse]
    have hcu : va_CI R s args own C1 idx x y ccy nLy rty (ws_ y ccy nLy rty) { frames := Fy, cells := k1, slots := n1, locals := Ly } k1 n1 n := va_cwF n hts hS0.1 rfl rfl rfl (hKK.2.2.2.1 _ hS0.2.1) hS0.2.2 ⟨hF, hLo⟩
    have hrun := va_runF (hKK.1 _ _ hcl).2 ⟨hx, hb, hml, hown, hts⟩ hmet hcu hpre (g := F0 m pc ls ((As.map (cn ad)).reverse ++ .ref (ad (rid q r)) :: rest.map (cn ad))) (locs := locs) (cells := cells) (slots := slots) (rest := rest.map (cn ad)) (R := R) (e := e) (below := below) (meth := meth) rfl (by rw [List.length_map]; exact hn) (by rw [← hml]; exact hl.1) rfl (lv_room (by rw [am_cats]; exact hw)) hdg ⟨by omega, by omega⟩
    refine am_back (np := pc + 5) hrun hI hA fun ad1 H1 locs1 hI1 hE1 hV1 => ?_
    have k3 := k a1 φ1 S1 b φ' S' k2 n2 hg hf ad1 H1 locs1 (cells + k1) (slots + n1) ls hI1 (by omega) (by omega) (amVs_app.mpr ⟨by
      rcases he : encz a1 with _ | v
      · trivial
      · exact ⟨hV1 v he, trivial⟩, amVs_up hE1 hvr⟩) (amVl_up hE1 hvl) (by rw [amCl_cn hE1 hvl]; exact hl)
    rw [List.map_append, amVs_cn hE1 hvr] at k3
    rcases he : encz a1 with _ | v
    · rw [he] at k3
      exact k3
    · rw [he] at k3
      exact k3
/-- casts and tests of class: the classes cs pass, the others don't -/
def ck (cs : List Nat) (q r : Nat) : am0 Unit := fun φ S => if r = 0 ∨ amK φ q r ∈ cs then some ((), S) else none
def io (cs : List Nat) (q r : Nat) : am0 Int32 := fun φ S => some (if r ≠ 0 ∧ amK φ q r ∈ cs then 1 else 0, S)
def amCk (nm : String) (q : Nat) (cs : List Nat) (ng : Bool) : Prop := q < 250 ∧ am_pk q = 0 ∧ ∀ c ∈ am_kl q, ∃ (C : String) (T : u_T) (n : Nat), am_cl[c]? = some (C, T, n) ∧ (c ∈ cs → C = nm ∨ Cond.castable C nm ∈ lw_tbl) ∧ (ng = true → c ∉ cs → (C, nm) ∈ am_nc)
theorem wg_ck {q r idx : Nat} {cs : List Nat} {nm : String} {ng : Bool} {g : Unit → am1 β} (hX : amOK X cc own nL F L rtp) (hC : amCk nm q cs ng) (hl0 : Cond.classLink own idx nm ∈ lw_all) (hdg : decode cc pc = .ok (.checkcast idx, 3)) (k : WG X enc (pc + 3) l (.ref (rid q r) :: st) (g ())) : WG X enc pc l (.ref (rid q r) :: st) (bd1 (up (ck cs q r)) g) := by
  obtain ⟨⟨p, lc, e, R, s⟩, ⟨m, args, below, meth, c⟩, ⟨D, dA, ad0, φ0, A⟩, ⟨Q, fin⟩⟩ := X
  intro φ S b φ' S' kc ks hP hf ad H locs cells slots ls hI hc hs hv hvl hl
  obtain ⟨a1, S1, hm, hg⟩ := bd1_up_some hP
  unfold ck at hm
  split at hm
  · rename_i h0
    cases hm
    have k1 := k φ S b φ' S' kc ks hg hf ad H locs cells slots ls hI hc hs hv hvl hl
    have hq := hC.1
    by_cases hr : r = 0
    · rw [List.map_cons, hr, cn_nul (by omega)] at k1 ⊢
      exact lv_castN hX.1 hX.2.1 hdg k1
    · rw [List.map_cons, cn_rid hr] at k1 ⊢
      have ho : amOk φ q r := ⟨hq, Nat.pos_of_ne_zero hr, amV_r (by omega) hv.1⟩
      have hob := am_obj hI.1 ho hC.2.1
      obtain ⟨C1, T1, N1, hcl, hy, -⟩ := hC.2.2 _ hob.2.1
      have hKK := hX.2.2.2.2.2.2.2.2.1
      have hrv := va_recv hKK.va (va_P1 hob.1) hcl (q0 := 0) rfl
      rcases hy (h0.resolve_left hr) with h | h
      · rw [h] at hrv hcl
        exact va_castS hX.1 hX.2.1 hX.2.2.2.1 (hX.2.2.2.2.1 _ hl0) (hKK.1 _ _ hcl).2 hrv hdg k1
      · exact va_castY hX.1 hX.2.1 hX.2.2.2.1 (hX.2.2.2.2.1 _ hl0) (hKK.2.2.1 _ h rfl) hrv hdg k1
  · cases hm
theorem wg_io {q r idx : Nat} {cs : List Nat} {nm : String} {g : Int32 → am1 β} (hX : amOK X cc own nL F L rtp) (hC : amCk nm q cs true) (hl0 : Cond.classLink own idx nm ∈ lw_all) (hdg : decode cc pc = .ok (.instanceof idx, 3)) (k : ∀ v : Int32, WG X enc (pc + 3) l (.int v :: st) (g v)) : WG X enc pc l (.ref (rid q r) :: st) (bd1 (up (io cs q r)) g) := by
  obtain ⟨⟨p, lc, e, R, s⟩, ⟨m, args, below, meth, c⟩, ⟨D, dA, ad0, φ0, A⟩, ⟨Q, fin⟩⟩ := X
  intro φ S b φ' S' kc ks hP hf ad H locs cells slots ls hI hc hs hv hvl hl
  obtain ⟨a1, S1, hm, hg⟩ := bd1_up_some hP
  unfold io at hm
  cases hm
  have k1 := k _ φ S b φ' S' kc ks hg hf ad H locs cells slots ls hI hc hs ⟨trivial, hv.2⟩ hvl hl
  have hq := hC.1
  by_cases hr : r = 0
  · rw [List.map_cons, hr, cn_nul (by omega)]
    rw [if_neg (by simp [hr])] at k1
    exact lv_instN hX.1 hX.2.1 hdg k1
  · rw [List.map_cons, cn_rid hr]
    have ho : amOk φ q r := ⟨hq, Nat.pos_of_ne_zero hr, amV_r (by omega) hv.1⟩
    have hob := am_obj hI.1 ho hC.2.1
    obtain ⟨C1, T1, N1, hcl, hy, hn⟩ := hC.2.2 _ hob.2.1
    have hKK := hX.2.2.2.2.2.2.2.2.1
    have hrv := va_recv hKK.va (va_P1 hob.1) hcl (q0 := 0) rfl
    by_cases hin : amK φ q r ∈ cs
    · rw [if_pos ⟨hr, hin⟩] at k1
      rcases hy hin with h | h
      · rw [h] at hrv hcl
        exact va_instS hX.1 hX.2.1 hX.2.2.2.1 (hX.2.2.2.2.1 _ hl0) (hKK.1 _ _ hcl).2 hrv hdg k1
      · exact va_instY hX.1 hX.2.1 hX.2.2.2.1 (hX.2.2.2.2.1 _ hl0) (hKK.2.2.1 _ h rfl) hrv hdg k1
    · rw [if_neg (fun h => hin h.2)] at k1
      exact va_instNo hX.1 hX.2.1 hX.2.2.2.1 (hX.2.2.2.2.1 _ hl0) (hKK.2.2.2.2.1 _ (hn rfl hin)) hrv hdg k1
end am18
