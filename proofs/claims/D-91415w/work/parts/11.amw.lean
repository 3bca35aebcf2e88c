/-! the judgement -/
def amI (D : va_G) (dA : Nat → ClassId) (ad0 : Nat → Nat) (φ0 : amSh) (A : Nat → Prop) (s : State) (ad : Nat → Nat) (φ : amSh) (S : amSt) (H : Heap) (locs : List Loc) : Prop :=
  amW D dA ad φ S H ∧ (∀ p r, amOk φ p r → A (ad (rid p r))) ∧ va_S A s.heap H locs ∧ amE ad0 φ0 ad φ
def amVs (φ : amSh) : List Value → Prop
  | [] => True
  | v :: t => amV φ v ∧ amVs φ t
def amVl (φ : amSh) (l : List (Nat × Value)) : Prop := ∀ q ∈ l, amV φ q.2
abbrev amCl (ad : Nat → Nat) (l : List (Nat × Value)) : List (Nat × Value) := l.map (fun q => (q.1, cn ad q.2))
abbrev amX : Type := (Program × Launch × Env × Room × State) × (MethodId × Array Value × List Frame × Method × Code) × (va_G × (Nat → ClassId) × (Nat → Nat) × amSh × (Nat → Prop)) × ((State → Prop) × (Option Value × amSh × amSt))
def WG {β : Type} (X : amX) (enc : β → Option Value) (pc : Nat) (l : List (Nat × Value)) (st : List Value) (P : am1 β) : Prop := match X with
  | ((p, lc, e, R, s), (m, args, below, meth, c), (D, dA, ad0, φ0, A), (Q, fin)) =>
    ∀ (φ : amSh) (S : amSt) (b : β) (φ' : amSh) (S' : amSt) (kc ks : Nat), P φ S = some (b, φ', S', kc, ks) → fin = (enc b, φ', S') →
    ∀ (ad : Nat → Nat) (H : Heap) (locs : List Loc) (cells slots : Nat) (ls : Array Slot), amI D dA ad0 φ0 A s ad φ S H locs → cells + kc = R.cells → slots + ks = R.slots → amVs φ st → amVl φ l → lv_has ls c.maxLocals (amCl ad l) →
    W p lc e R s m args below meth c H locs cells slots Q (F0 m pc ls (st.map (cn ad)))
theorem amAO_arr {t : FieldType} {u U : State} (hvm : u.vm.Alike U.vm) (h : (Cond.arrayOver (.array t)).before #[] u = true) : (Cond.arrayOver (.array t)).before #[] U = true := by
  unfold Cond.before Cond.holds at h ⊢
  simp only [Cond.value, beq_iff_eq] at h ⊢
  rw [hvm.findClass, hvm.findClass]
  cases hc : u.vm.findClass (FieldType.array t).toString with
  | none => simp [hc] at h
  | some comp =>
    simp only [hc, Option.bind_some, Option.bind_eq_some_iff, Option.map_eq_some_iff] at h ⊢
    obtain ⟨c, hi, k, hk, hb⟩ := h
    obtain ⟨k', hk', he⟩ := hvm.2.2 _ _ hk
    refine ⟨c, ?_, k', hk', ?_⟩
    · have e := va_idx_bare U.vm comp
      have e2 := va_idx_bare u.vm comp
      refine (e.symm.trans ?_).trans hi
      refine Eq.trans ?_ e2
      first | rw [hvm.bare_eq] | rw [← hvm.bare_eq]
    · rw [he]
      exact hb
theorem amAO_moved {ty : FieldType} {u U : State} (hty : (∃ C, ty = .object C) ∨ ∃ t, ty = .array t) (hvm : u.vm.Alike U.vm) (h : va_Nw (.arrayOver ty) u) : va_Nw (.arrayOver ty) U := by
  rcases hty with ⟨C, rfl⟩ | ⟨t, rfl⟩
  · exact va_AO.moved hvm h
  · exact amAO_arr hvm h
/-- words that move along with the machine, beside the lists -/
def am_mv : Cond → Bool
  | .fieldLinkNest .. => true
  | .methodLinkNest .. => true
  | .castable .. => true
  | .declares _ => true
  | .arrayOver (.object _) => true
  | .arrayOver (.array _) => true
  | _ => false
theorem am_mvA {w : Cond} (hw : am_mv w = true) : (∃ ty, w = .arrayOver ty ∧ ((∃ C, ty = .object C) ∨ ∃ t, ty = .array t)) ∨ (∀ ty, w ≠ .arrayOver ty) := by
  cases w with
  | arrayOver ty =>
    refine Or.inl ⟨ty, rfl, ?_⟩
    cases ty with
    | object C => exact Or.inl ⟨_, rfl⟩
    | array t => exact Or.inr ⟨_, rfl⟩
    | _ => simp [am_mv] at hw
  | _ => exact Or.inr (fun _ h => by cases h)
theorem am_mvW {w : Cond} {s U : State} (hw : am_mv w = true) (hW : s.WarmedH U.vm) (h : va_Nw w s) : va_Nw w U := by
  rcases am_mvA hw with ⟨ty, rfl, hty⟩ | hne
  · exact amAO_moved hty hW.alike h
  cases w <;> first | exact va_Nw.warmF hW h | exact va_Nw.warmM hW h | exact va_Nw.warmC hW h | exact va_Nw.warmD hW h | exact absurd rfl (hne _) | exact absurd hw (by simp [am_mv])
theorem am_mvS {w : Cond} {u U : State} (hw : am_mv w = true) (hv : u.vm = U.vm) (h : va_Nw w u) : va_Nw w U := by
  rcases am_mvA hw with ⟨ty, rfl, hty⟩ | hne
  · exact amAO_moved hty (by rw [hv]; exact Vm.Alike.refl _) h
  refine va_Nw.same ?_ hv h
  cases w <;> first | rfl | exact absurd rfl (hne _) | exact absurd hw (by simp [am_mv])
/-- the call that lands in an interface's default method -/
abbrev yCm : MethodName := ⟨"CityBrigade$Crew", "more", "(I)I"⟩
abbrev yTm : MethodName := ⟨"CityBrigade$Tires", "more", "(I)I"⟩
def amDm (U : State) : Prop := (∀ C ∈ ["CityBrigade$Pump", "CityBrigade$Steamer", "CityBrigade$Ladder", "CityBrigade$Chief"], (Cond.landsInDefault C yCm yTm).before #[] U = true) ∧ (Cond.sameMethod "CityBrigade$Crew" "CityBrigade$Tires" "more" "(I)I").before #[] U = true ∧ (Cond.methodLink "CityBrigade$Crew" 56 yCm).before #[] U = true
theorem amDm.lands {C : String} {s U : State} (hA : s.vm.Alike U.vm) (h : (Cond.landsInDefault C yCm yTm).before #[] s = true) : (Cond.landsInDefault C yCm yTm).before #[] U = true := by
  have e := Cond.landsInDefault_setVm (args := #[]) (args' := #[]) hA (cls := C) (x := yCm) (y := yTm) (State.methodFound?_setVm hA _ _ _)
  have e2 : (Cond.landsInDefault C yCm yTm).before #[] (s.setVm U.vm) = (Cond.landsInDefault C yCm yTm).before #[] U := by
    first
      | rfl
      | (simp only [Cond.before, Cond.holds, Cond.value]; rfl)
  rw [← e2, e]
  exact h
theorem amDm.moved {s U : State} (hW : s.WarmedH U.vm) (h : amDm s) : amDm U :=
  ⟨fun C hC => amDm.lands hW.alike (h.1 C hC), word_at hW (Or.inl (by first | rfl | simp [Cond.onTables, Cond.keeps, Cond.steady])) h.2.1, word_at hW (Or.inl (by first | rfl | simp [Cond.onTables, Cond.keeps, Cond.steady])) h.2.2⟩
theorem amDm.same {u U : State} (hv : u.vm = U.vm) (h : amDm u) : amDm U :=
  ⟨fun C hC => amDm.lands (by rw [hv]; exact Vm.Alike.refl _) (h.1 C hC), va_tabs rfl hv h.2.1, va_tabs rfl hv h.2.2⟩
def amKK (D : va_G) (dA : Nat → ClassId) (U : State) : Prop :=
  (∀ (c : Nat) (q : vw_C), am_cl[c]? = some q → u_Kn U q.1 q.2.1 q.2.2 (D.1 c) (D.2 c)) ∧
  (∀ (i : Nat) (ty : FieldType), am_tys[i]? = some ty → ArrOfT U (dA i) ty ∧ va_RA U (dA i) ty) ∧
  (∀ w, w ∈ lw_tbl → am_mv w = true → va_Nw w U) ∧
  (∀ q ∈ am_fw, va_Fw q.1 q.2.1 q.2.2 U) ∧ (∀ q ∈ am_nc, va_Nc q.1 q.2 U) ∧ amDm U
theorem amKK.warm {D : va_G} {dA : Nat → ClassId} {s U : State} (hW : s.WarmedH U.vm) (h : amKK D dA s) : amKK D dA U :=
  ⟨fun c q hq => u_Kn_moved hW.alike (h.1 c q hq), fun i ty hi => ⟨arrOfT_moved hW.alike (h.2.1 i ty hi).1, (h.2.1 i ty hi).2.moved hW.alike⟩, fun w hw hm => am_mvW hm hW (h.2.2.1 w hw hm), fun q hq => va_Fw.moved (am_fw_ok q hq) hW.alike (h.2.2.2.1 q hq), fun q hq => va_Nc.moved hW.alike (h.2.2.2.2.1 q hq), amDm.moved hW (h.2.2.2.2.2)⟩
theorem amKK.same {D : va_G} {dA : Nat → ClassId} {u U : State} (hv : u.vm = U.vm) (h : amKK D dA u) : amKK D dA U := by
  have hA : u.vm.Alike U.vm := by rw [hv]; exact Vm.Alike.refl _
  exact ⟨fun c q hq => u_Kn_moved hA (h.1 c q hq), fun i ty hi => ⟨arrOfT_moved hA (h.2.1 i ty hi).1, (h.2.1 i ty hi).2.moved hA⟩, fun w hw hm => am_mvS hm hv (h.2.2.1 w hw hm), fun q hq => va_Fw.moved (am_fw_ok q hq) hA (h.2.2.2.1 q hq), fun q hq => va_Nc.moved hA (h.2.2.2.2.1 q hq), amDm.same hv (h.2.2.2.2.2)⟩
theorem amKK.va {D : va_G} {dA : Nat → ClassId} {U : State} (h : amKK D dA U) : va_K D am_cl [] U := ⟨h.1, fun k q hk => by cases hk⟩
/-- what lies outside of all that is written: String constants, statics -/
def amCo (ad : Nat → Nat) (φ : amSh) (A : Nat → Prop) (U : State) (H : Heap) : Prop :=
  am_strN ≤ φ.1 250 ∧ am_strN ≤ φ.1 251 ∧ vk_S am_strN am_strL am_strB (fun i => ad (rid 250 (i + 1))) (fun i => ad (rid 251 (i + 1))) A U H ∧
  (∀ q ∈ am_strR, vk_R q.1 q.2.1 q.2.2.1 (ad (rid 250 (q.2.2.2 + 1))) U) ∧ va_Z "java/lang/String" "COMPACT_STRINGS" "Z" (.int 1) A U H ∧
  vx_Zq Bundle.tN "UNASSIGNED_STACK" Bundle.steD A U H ∧ vx_Zq Bundle.tN "SUPPRESSED_SENTINEL" Bundle.listD A U H
theorem am_strR_ok : ∀ q ∈ am_strR, q.2.2.2 < am_strN := by decide +kernel
theorem amCo.tr {ad0 ad : Nat → Nat} {φ0 φ : amSh} {A B : Nat → Prop} {s U : State} {H0 H : Heap} (h : amCo ad0 φ0 A s H0) (hW : s.WarmedH U.vm) (hE : amE ad0 φ0 ad φ) (hk : ∀ a : Nat, a < H0.size → ¬ A a → H[a]? = H0[a]?) (hB : ∀ q, B q → A q) : amCo ad φ B U H := by
  obtain ⟨h1, h2, h3, h4, h5, h6, h7⟩ := h
  refine ⟨Nat.le_trans h1 (hE.1 _), Nat.le_trans h2 (hE.1 _), ?_, ?_, va_Z.moved hW.alike ((h5.kept hk).narrow hB), vx_Zq.moved hW.alike ((h6.kept hk).narrow hB), vx_Zq.moved hW.alike ((h7.kept hk).narrow hB)⟩
  · have e := vk_S.moved hW.alike ((h3.kept hk).narrow hB)
    refine ⟨fun i hi => ?_, fun i j hi hj hij => ?_⟩
    · dsimp only
      rw [hE.2 250 (i + 1) (by decide) (Nat.succ_pos _) (by omega), hE.2 251 (i + 1) (by decide) (Nat.succ_pos _) (by omega)]
      exact e.1 i hi
    · dsimp only at hij
      rw [hE.2 250 (i + 1) (by decide) (Nat.succ_pos _) (by omega), hE.2 250 (j + 1) (by decide) (Nat.succ_pos _) (by omega)] at hij
      exact e.2 i j hi hj hij
  · intro q hq
    have := am_strR_ok q hq
    rw [hE.2 250 (q.2.2.2 + 1) (by decide) (Nat.succ_pos _) (by omega)]
    exact vk_R.warm hW (h4 q hq)
theorem amCo.same {ad : Nat → Nat} {φ : amSh} {A : Nat → Prop} {u U : State} {H : Heap} (hv : u.vm = U.vm) (h : amCo ad φ A u H) : amCo ad φ A U H := by
  have hA : u.vm.Alike U.vm := by rw [hv]; exact Vm.Alike.refl _
  obtain ⟨h1, h2, h3, h4, h5, h6, h7⟩ := h
  exact ⟨h1, h2, vk_S.moved hA h3, fun q hq => vk_R.same hv.symm (h4 q hq), va_Z.moved hA h5, vx_Zq.moved hA h6, vx_Zq.moved hA h7⟩
def amA (ad : Nat → Nat) (φ : amSh) (sz : Nat) : Nat → Prop := fun q => sz ≤ q ∨ ∃ p r, amOk φ p r ∧ ad (rid p r) = q
def amPc (D : va_G) (dA : Nat → ClassId) (ad : Nat → Nat) (φ : amSh) (S : amSt) (av : List Value) (sz : Nat) : Array Value → State → Prop := fun v U => v = (av.map (cn ad)).toArray ∧ U.heap.size = sz ∧ amW D dA ad φ S U.heap ∧ amKK D dA U ∧ amCo ad φ (amA ad φ sz) U U.heap
def amQc (D : va_G) (dA : Nat → ClassId) (ad : Nat → Nat) (φ : amSh) (A : Nat → Prop) (fin : Option Value × amSh × amSt) : Array Value → State → Outcome → State → Prop := fun _ st o t =>
  ∃ ad' : Nat → Nat, o = .returned (fin.1.map (cn ad')) ∧ amW D dA ad' fin.2.1 fin.2.2 t.heap ∧ amE ad φ ad' fin.2.1 ∧ (∀ v, fin.1 = some v → amV fin.2.1 v) ∧ va_F A st t ∧ (∀ p r, amOk fin.2.1 p r → A (ad' (rid p r)))
def amMet {β : Type} (y : MethodName) (cc : ByteArray) (nL : Nat) (rtp : Option FieldType) (F L : Nat) (enc : β → Option Value) (av : List Value) (P : am1 β) : Prop :=
  ∀ (lc : Launch), lc.flags = flags0 → ∀ (D : va_G) (dA : Nat → ClassId) (ad : Nat → Nat) (φ : amSh) (S : amSt) (sz : Nat) (b : β) (φ' : amSh) (S' : amSt) (kc ks : Nat), P φ S = some (b, φ', S', kc, ks) → amVs φ av →
    Met lc y (ws_ y cc nL rtp) ({ frames := F, cells := kc, slots := ks, locals := L }) (amPc D dA ad φ S av sz) (amQc D dA ad φ (amA ad φ sz) (enc b, φ', S')) kc ks (amA ad φ sz)
/-- the sign of a thrown Fault among the answers -/
def am_thr : Option Value := some (.retAddr 0)
def amOK (X : amX) (cc : ByteArray) (own : String) (nL F L : Nat) (rtp : Option FieldType) : Prop := match X with
  | ((p, lc, e, R, s), (m, args, below, meth, c), (D, dA, ad0, φ0, A), (Q, fin)) =>
    p.tables.exec = Jvm.exec ∧ c.code = cc ∧ c.maxLocals = nL ∧ s.vm.findClass own = some m.cls ∧ (∀ w ∈ lw_all, w.before args s = true) ∧ meth.locks = false ∧ R.frames = F ∧ R.locals = L ∧ amKK D dA s ∧ (∀ q : Nat, s.heap.size ≤ q → A q) ∧ meth.sig.returnType = rtp ∧
    (fin.1 ≠ am_thr → ∀ (H : Heap) (locs : List Loc) (cells slots : Nat) (g : JFrame), W p lc e R s m args below meth c H locs cells slots (MQ below (amQc D dA ad0 φ0 A fin) args s R.cells R.slots A) g → W p lc e R s m args below meth c H locs cells slots Q g) ∧ lc.flags = flags0 ∧ amCo ad0 φ0 A s s.heap
/-- the big objects are whole, from the method's beginning on -/
def am0M (X : amX) : Prop := X.2.2.1.2.2.2.1.1 255 ≠ 0
def amPs {β : Type} (X : amX) (P : am1 β) : Prop := ∃ S, P X.2.2.1.2.2.2.1 S ≠ none
theorem amVs_all {φ : amSh} : ∀ {l : List Value}, amVs φ l ↔ ∀ v ∈ l, amV φ v
  | [] => by simp [amVs]
  | v :: t => by simp [amVs, amVs_all (l := t)]
def amArgs : Nat → List Value → List (Nat × Value)
  | _, [] => []
  | i, v :: vs => (i, v) :: amArgs (if v.category = 2 then i + 2 else i + 1) vs
theorem amArgs_cn (ad : Nat → Nat) : ∀ (vs : List Value) (i : Nat), lv_args i (vs.map (cn ad)) = amCl ad (amArgs i vs) := by
  intro vs
  induction vs with
  | nil => intro i; rfl
  | cons v vs ih =>
    intro i
    simp only [List.map_cons, lv_args, amArgs, amCl, cn_cat]
    rw [ih]
theorem amArgs_mem : ∀ (vs : List Value) (i : Nat) (q : Nat × Value), q ∈ amArgs i vs → q.2 ∈ vs := by
  intro vs
  induction vs with
  | nil => intro i q h; cases h
  | cons v vs ih =>
    intro i q h
    rcases List.mem_cons.mp h with e | e
    · rw [e]; exact List.mem_cons_self
    · exact List.mem_cons_of_mem _ (ih _ _ e)
theorem bd1_rt {β : Type} (m : am1 β) : bd1 m rt1 = m := by
  funext φ S
  simp only [bd1, rt1]
  rcases h : m φ S with _ | ⟨a, φ1, S1, k, n⟩
  · rfl
  · simp [amAc]
/-- a method's contract out of its walk -/
theorem amMet.of {β : Type} {y : MethodName} {cc : ByteArray} {nL : Nat} {rtp : Option FieldType} {F L : Nat} {enc : β → Option Value} {av : List Value} {P : am1 β} {own : String} (hy : plainName y.cls = true) (ho : y.cls = own) (hL : (lg_sl av).length ≤ nL)
    (body : ∀ X : amX, amOK X cc own nL F L rtp → amPs X P → WG X enc 0 (amArgs 0 av) [] (bd1 P rt1)) : amMet y cc nL rtp F L enc av P := by
  intro lc hlc D dA ad φ S sz b φ' S' kc ks hP hav
  refine Met.ofW (cc := cc) (maxL := nL) (ret := rtp) hy rfl ?_
  intro p e s m args below meth c s₁ B hml hv
  obtain ⟨rfl, hsz, hW, hK, hCo⟩ := hv
  have hts := atoms_spec (ws := ws_ y cc nL rtp) B.pre
  have hts : ∀ w ∈ lw_all, w.before _ s = true := fun w h => hts w (List.mem_cons_of_mem _ h)
  have hown : s.vm.findClass own = some m.cls := by rw [← ho]; exact findClass_of_methodNamed B.named
  subst hsz
  have hl := lv_entry (av.map (cn ad)) (n := nL) (by
    have h2 : ∀ vs : List Value, (lg_sl (vs.map (cn ad))).length = (lg_sl vs).length := by
      intro vs
      induction vs with
      | nil => rfl
      | cons v vs ih =>
        simp only [lg_sl, List.map_cons, List.flatMap_cons, List.length_append, cn_cat] at ih ⊢
        rw [ih]
        by_cases h : v.category = 2 <;> simp [h]
    rw [h2]; exact hL)
  rw [lg_entry_eq]
  generalize (lg_sl (av.map (cn ad)) ++ List.replicate (nL - (lg_sl (av.map (cn ad))).length) Slot.unset).toArray = ls at hl ⊢
  rw [amArgs_cn] at hl
  have := body ((p, lc, e, (headSpec (ws_ y cc nL rtp) ({ frames := F, cells := kc, slots := ks, locals := L })).room, s), (m, ((av.map (cn ad)).toArray), below, meth, c), (D, dA, ad, φ, amA ad φ s.heap.size), (MQ below (amQc D dA ad φ (amA ad φ s.heap.size) (enc b, φ', S')) ((av.map (cn ad)).toArray) s kc ks (amA ad φ s.heap.size), (enc b, φ', S')))
    ⟨B.exec, B.bytes, hml, hown, hts, B.notSynchronized, rfl, rfl, hK, fun q h => Or.inl h, B.returns, fun _ _ _ _ _ _ h => h, hlc, hCo⟩ ⟨S, fun h => by
      have hP' : P φ S = none := h
      rw [hP'] at hP
      cases hP⟩
  exact this φ S b φ' S' kc ks (by rw [bd1_rt]; exact hP) rfl ad s.heap [] 0 0 ls ⟨hW, fun p r h => Or.inr ⟨p, r, h, rfl⟩, va_S.rf, amE.rf⟩ (Nat.zero_add _) (Nat.zero_add _) trivial (fun q hq => amVs_all.mp hav _ (amArgs_mem _ _ _ hq)) (by rw [hml]; exact hl)
/-! locals: kept in the order of their places -/
def amKp (i : Nat) (w : Bool) (q : Nat × Value) : Bool := !(q.1 == i) && (!(w && q.1 == i + 1) && !(q.1 + 1 == i && q.2.category == 2))
def amIns (i : Nat) (v : Value) : List (Nat × Value) → List (Nat × Value)
  | [] => [(i, v)]
  | q :: t => match Nat.ble i q.1 with
    | true => (i, v) :: q :: t
    | false => q :: amIns i v t
def amSet (i : Nat) (v : Value) (l : List (Nat × Value)) : List (Nat × Value) := amIns i v (l.filter (amKp i (v.category == 2)))
theorem amIns_mem {i : Nat} {v : Value} {q : Nat × Value} : ∀ {l : List (Nat × Value)}, q ∈ amIns i v l → q = (i, v) ∨ q ∈ l := by
  intro l
  induction l with
  | nil => intro h; exact Or.inl (by simpa [amIns] using h)
  | cons a t ih =>
    intro h
    unfold amIns at h
    split at h
    · rcases List.mem_cons.mp h with e | e
      · exact Or.inl e
      · exact Or.inr e
    · rcases List.mem_cons.mp h with e | e
      · exact Or.inr (by rw [e]; exact List.mem_cons_self)
      · rcases ih e with g | g
        · exact Or.inl g
        · exact Or.inr (List.mem_cons_of_mem _ g)
theorem amSet_mem {i : Nat} {v : Value} {l l' : List (Nat × Value)} (h : amSet i v l = l') {q : Nat × Value} (hq : q ∈ l') : q = (i, v) ∨ (q ∈ l ∧ amKp i (v.category == 2) q = true) := by
  rw [← h] at hq
  rcases amIns_mem hq with e | e
  · exact Or.inl e
  · exact Or.inr (by simpa using e)
theorem am_loc {ad : Nat → Nat} {l : List (Nat × Value)} {n i : Nat} {v : Value} (h : l[n]? = some (i, v)) : (amCl ad l)[n]? = some (i, cn ad v) := by
  simp [amCl, h]
theorem am_has_mono {ls : Array Slot} {nL : Nat} {l l' : List (Nat × Value)} (h : lv_has ls nL l) (hm : ∀ q ∈ l', q ∈ l) : lv_has ls nL l' := ⟨h.1, h.2.1, fun q hq => h.2.2 q (hm q hq)⟩
theorem am_has_set {ad : Nat → Nat} {ls : Array Slot} {nL i : Nat} {v : Value} {l l' : List (Nat × Value)} (h : lv_has ls nL ((i, cn ad v) :: (amCl ad l).filter (fun q => !(q.1 == i) && !(q.1 + 1 == i && q.2.category == 2)))) (hv : v.category = 1) (hs : amSet i v l = l') : lv_has ls nL (amCl ad l') := by
  refine am_has_mono h fun q hq => ?_
  obtain ⟨q0, h0, rfl⟩ := List.mem_map.mp hq
  rcases amSet_mem hs h0 with e | ⟨e, ek⟩
  · rw [e]; exact List.mem_cons_self
  · refine List.mem_cons_of_mem _ (List.mem_filter.mpr ⟨List.mem_map.mpr ⟨q0, e, rfl⟩, ?_⟩)
    rw [hv] at ek
    simp only [cn_cat]
    simpa [amKp] using ek
theorem am_has_set2 {ad : Nat → Nat} {ls : Array Slot} {nL i : Nat} {v : Value} {l l' : List (Nat × Value)} (h : lv_has ls nL ((i, cn ad v) :: (amCl ad l).filter (fun q => !(q.1 == i) && (!(q.1 == i + 1) && !(q.1 + 1 == i && q.2.category == 2))))) (hv : v.category = 2) (hs : amSet i v l = l') : lv_has ls nL (amCl ad l') := by
  refine am_has_mono h fun q hq => ?_
  obtain ⟨q0, h0, rfl⟩ := List.mem_map.mp hq
  rcases amSet_mem hs h0 with e | ⟨e, ek⟩
  · rw [e]; exact List.mem_cons_self
  · refine List.mem_cons_of_mem _ (List.mem_filter.mpr ⟨List.mem_map.mpr ⟨q0, e, rfl⟩, ?_⟩)
    rw [hv] at ek
    simp only [cn_cat]
    simpa [amKp] using ek
theorem amVl_set {φ : amSh} {i : Nat} {v : Value} {l l' : List (Nat × Value)} (h : amVl φ l) (hv : amV φ v) (hs : amSet i v l = l') : amVl φ l' := by
  intro q hq
  rcases amSet_mem hs hq with e | ⟨e, -⟩
  · rw [e]; exact hv
  · exact h q e
theorem amVl_pick {φ : amSh} {l l' : List (Nat × Value)} {js : List Nat} (h : amVl φ l) (hs : lv_pick l js = l') : amVl φ l' := by
  intro q hq
  rw [← hs] at hq
  obtain ⟨k, -, hk⟩ := List.mem_filterMap.mp hq
  exact h q (List.mem_of_getElem? hk)
theorem am_has_pick {ad : Nat → Nat} {ls : Array Slot} {nL : Nat} {l l' : List (Nat × Value)} {js : List Nat} (h : lv_has ls nL (amCl ad l)) (hs : lv_pick l js = l') : lv_has ls nL (amCl ad l') := by
  refine am_has_mono h fun q hq => ?_
  obtain ⟨q0, h0, rfl⟩ := List.mem_map.mp hq
  rw [← hs] at h0
  obtain ⟨k, -, hk⟩ := List.mem_filterMap.mp h0
  exact List.mem_map.mpr ⟨q0, List.mem_of_getElem? hk, rfl⟩
theorem am_radI {D : va_G} {dA : Nat → ClassId} {ad : Nat → Nat} {φ : amSh} {S : amSt} {H : Heap} (h : amW D dA ad φ S H) {p x y : Nat} (hp : p < 250) (hx : x ≤ φ.1 p) (hy : y ≤ φ.1 p) : rad ad p x = rad ad p y ↔ x = y := by
  unfold rad
  constructor
  · intro e
    by_cases x0 : x = 0
    · by_cases y0 : y = 0
      · rw [x0, y0]
      · rw [if_pos x0, if_neg y0] at e; cases e
    · by_cases y0 : y = 0
      · rw [if_neg x0, if_pos y0] at e; cases e
      · rw [if_neg x0, if_neg y0] at e
        exact (h.2.1 p x p y ⟨hp, Nat.pos_of_ne_zero x0, hx⟩ ⟨hp, Nat.pos_of_ne_zero y0, hy⟩ (Option.some.inj e)).2
  · intro e
    rw [e]
theorem wg_iadd {X : amX} {cc : ByteArray} {own : String} {nL F L : Nat} {rtp : Option FieldType} {β : Type} {enc : β → Option Value} {pc : Nat} {l : List (Nat × Value)} {st : List Value} {P : am1 β} {x y : Int32} (hX : amOK X cc own nL F L rtp) (hdg : decode cc pc = .ok (.iadd, 1))  (k : WG X enc (pc + 1) l (.int (x + y) :: st) P) : WG X enc pc l (.int y :: .int x :: st) P := by
  obtain ⟨⟨p, lc, e, R, s⟩, ⟨m, args, below, meth, c⟩, ⟨D, dA, ad0, φ0, A⟩, ⟨Q, fin⟩⟩ := X
  intro φ S b φ' S' kc ks hP hf ad H locs cells slots ls hI hc hs hv hvl hl
  exact lv_iadd hX.1 hX.2.1 hdg  (k φ S b φ' S' kc ks hP hf ad H locs cells slots ls hI hc hs ⟨trivial, hv.2.2⟩ hvl hl)
theorem wg_isub {X : amX} {cc : ByteArray} {own : String} {nL F L : Nat} {rtp : Option FieldType} {β : Type} {enc : β → Option Value} {pc : Nat} {l : List (Nat × Value)} {st : List Value} {P : am1 β} {x y : Int32} (hX : amOK X cc own nL F L rtp) (hdg : decode cc pc = .ok (.isub, 1))  (k : WG X enc (pc + 1) l (.int (x - y) :: st) P) : WG X enc pc l (.int y :: .int x :: st) P := by
  obtain ⟨⟨p, lc, e, R, s⟩, ⟨m, args, below, meth, c⟩, ⟨D, dA, ad0, φ0, A⟩, ⟨Q, fin⟩⟩ := X
  intro φ S b φ' S' kc ks hP hf ad H locs cells slots ls hI hc hs hv hvl hl
  exact lv_isub hX.1 hX.2.1 hdg  (k φ S b φ' S' kc ks hP hf ad H locs cells slots ls hI hc hs ⟨trivial, hv.2.2⟩ hvl hl)
theorem wg_imul {X : amX} {cc : ByteArray} {own : String} {nL F L : Nat} {rtp : Option FieldType} {β : Type} {enc : β → Option Value} {pc : Nat} {l : List (Nat × Value)} {st : List Value} {P : am1 β} {x y : Int32} (hX : amOK X cc own nL F L rtp) (hdg : decode cc pc = .ok (.imul, 1))  (k : WG X enc (pc + 1) l (.int (x * y) :: st) P) : WG X enc pc l (.int y :: .int x :: st) P := by
  obtain ⟨⟨p, lc, e, R, s⟩, ⟨m, args, below, meth, c⟩, ⟨D, dA, ad0, φ0, A⟩, ⟨Q, fin⟩⟩ := X
  intro φ S b φ' S' kc ks hP hf ad H locs cells slots ls hI hc hs hv hvl hl
  exact lv_imul hX.1 hX.2.1 hdg  (k φ S b φ' S' kc ks hP hf ad H locs cells slots ls hI hc hs ⟨trivial, hv.2.2⟩ hvl hl)
theorem wg_iand {X : amX} {cc : ByteArray} {own : String} {nL F L : Nat} {rtp : Option FieldType} {β : Type} {enc : β → Option Value} {pc : Nat} {l : List (Nat × Value)} {st : List Value} {P : am1 β} {x y : Int32} (hX : amOK X cc own nL F L rtp) (hdg : decode cc pc = .ok (.iand, 1))  (k : WG X enc (pc + 1) l (.int (x &&& y) :: st) P) : WG X enc pc l (.int y :: .int x :: st) P := by
  obtain ⟨⟨p, lc, e, R, s⟩, ⟨m, args, below, meth, c⟩, ⟨D, dA, ad0, φ0, A⟩, ⟨Q, fin⟩⟩ := X
  intro φ S b φ' S' kc ks hP hf ad H locs cells slots ls hI hc hs hv hvl hl
  exact lv_iand hX.1 hX.2.1 hdg  (k φ S b φ' S' kc ks hP hf ad H locs cells slots ls hI hc hs ⟨trivial, hv.2.2⟩ hvl hl)
theorem wg_ior {X : amX} {cc : ByteArray} {own : String} {nL F L : Nat} {rtp : Option FieldType} {β : Type} {enc : β → Option Value} {pc : Nat} {l : List (Nat × Value)} {st : List Value} {P : am1 β} {x y : Int32} (hX : amOK X cc own nL F L rtp) (hdg : decode cc pc = .ok (.ior, 1))  (k : WG X enc (pc + 1) l (.int (x ||| y) :: st) P) : WG X enc pc l (.int y :: .int x :: st) P := by
  obtain ⟨⟨p, lc, e, R, s⟩, ⟨m, args, below, meth, c⟩, ⟨D, dA, ad0, φ0, A⟩, ⟨Q, fin⟩⟩ := X
  intro φ S b φ' S' kc ks hP hf ad H locs cells slots ls hI hc hs hv hvl hl
  exact lv_ior hX.1 hX.2.1 hdg  (k φ S b φ' S' kc ks hP hf ad H locs cells slots ls hI hc hs ⟨trivial, hv.2.2⟩ hvl hl)
theorem wg_ixor {X : amX} {cc : ByteArray} {own : String} {nL F L : Nat} {rtp : Option FieldType} {β : Type} {enc : β → Option Value} {pc : Nat} {l : List (Nat × Value)} {st : List Value} {P : am1 β} {x y : Int32} (hX : amOK X cc own nL F L rtp) (hdg : decode cc pc = .ok (.ixor, 1))  (k : WG X enc (pc + 1) l (.int (x ^^^ y) :: st) P) : WG X enc pc l (.int y :: .int x :: st) P := by
  obtain ⟨⟨p, lc, e, R, s⟩, ⟨m, args, below, meth, c⟩, ⟨D, dA, ad0, φ0, A⟩, ⟨Q, fin⟩⟩ := X
  intro φ S b φ' S' kc ks hP hf ad H locs cells slots ls hI hc hs hv hvl hl
  exact lv_ixor hX.1 hX.2.1 hdg  (k φ S b φ' S' kc ks hP hf ad H locs cells slots ls hI hc hs ⟨trivial, hv.2.2⟩ hvl hl)
theorem wg_ishl {X : amX} {cc : ByteArray} {own : String} {nL F L : Nat} {rtp : Option FieldType} {β : Type} {enc : β → Option Value} {pc : Nat} {l : List (Nat × Value)} {st : List Value} {P : am1 β} {x y : Int32} (hX : amOK X cc own nL F L rtp) (hdg : decode cc pc = .ok (.ishl, 1))  (k : WG X enc (pc + 1) l (.int (x <<< (y &&& 31)) :: st) P) : WG X enc pc l (.int y :: .int x :: st) P := by
  obtain ⟨⟨p, lc, e, R, s⟩, ⟨m, args, below, meth, c⟩, ⟨D, dA, ad0, φ0, A⟩, ⟨Q, fin⟩⟩ := X
  intro φ S b φ' S' kc ks hP hf ad H locs cells slots ls hI hc hs hv hvl hl
  exact lv_ishl hX.1 hX.2.1 hdg  (k φ S b φ' S' kc ks hP hf ad H locs cells slots ls hI hc hs ⟨trivial, hv.2.2⟩ hvl hl)
theorem wg_ishr {X : amX} {cc : ByteArray} {own : String} {nL F L : Nat} {rtp : Option FieldType} {β : Type} {enc : β → Option Value} {pc : Nat} {l : List (Nat × Value)} {st : List Value} {P : am1 β} {x y : Int32} (hX : amOK X cc own nL F L rtp) (hdg : decode cc pc = .ok (.ishr, 1))  (k : WG X enc (pc + 1) l (.int (x >>> (y &&& 31)) :: st) P) : WG X enc pc l (.int y :: .int x :: st) P := by
  obtain ⟨⟨p, lc, e, R, s⟩, ⟨m, args, below, meth, c⟩, ⟨D, dA, ad0, φ0, A⟩, ⟨Q, fin⟩⟩ := X
  intro φ S b φ' S' kc ks hP hf ad H locs cells slots ls hI hc hs hv hvl hl
  exact lv_ishr hX.1 hX.2.1 hdg  (k φ S b φ' S' kc ks hP hf ad H locs cells slots ls hI hc hs ⟨trivial, hv.2.2⟩ hvl hl)
theorem wg_idiv {X : amX} {cc : ByteArray} {own : String} {nL F L : Nat} {rtp : Option FieldType} {β : Type} {enc : β → Option Value} {pc : Nat} {l : List (Nat × Value)} {st : List Value} {P : am1 β} {x y : Int32} (hX : amOK X cc own nL F L rtp) (hdg : decode cc pc = .ok (.idiv, 1)) (hne : ¬ y = 0) (k : WG X enc (pc + 1) l (.int (x / y) :: st) P) : WG X enc pc l (.int y :: .int x :: st) P := by
  obtain ⟨⟨p, lc, e, R, s⟩, ⟨m, args, below, meth, c⟩, ⟨D, dA, ad0, φ0, A⟩, ⟨Q, fin⟩⟩ := X
  intro φ S b φ' S' kc ks hP hf ad H locs cells slots ls hI hc hs hv hvl hl
  exact lv_idiv hX.1 hX.2.1 hdg hne (k φ S b φ' S' kc ks hP hf ad H locs cells slots ls hI hc hs ⟨trivial, hv.2.2⟩ hvl hl)
theorem wg_irem {X : amX} {cc : ByteArray} {own : String} {nL F L : Nat} {rtp : Option FieldType} {β : Type} {enc : β → Option Value} {pc : Nat} {l : List (Nat × Value)} {st : List Value} {P : am1 β} {x y : Int32} (hX : amOK X cc own nL F L rtp) (hdg : decode cc pc = .ok (.irem, 1)) (hne : ¬ y = 0) (k : WG X enc (pc + 1) l (.int (x - x / y * y) :: st) P) : WG X enc pc l (.int y :: .int x :: st) P := by
  obtain ⟨⟨p, lc, e, R, s⟩, ⟨m, args, below, meth, c⟩, ⟨D, dA, ad0, φ0, A⟩, ⟨Q, fin⟩⟩ := X
  intro φ S b φ' S' kc ks hP hf ad H locs cells slots ls hI hc hs hv hvl hl
  exact lv_irem hX.1 hX.2.1 hdg hne (k φ S b φ' S' kc ks hP hf ad H locs cells slots ls hI hc hs ⟨trivial, hv.2.2⟩ hvl hl)
theorem wg_iconst {X : amX} {cc : ByteArray} {own : String} {nL F L : Nat} {rtp : Option FieldType} {β : Type} {enc : β → Option Value} {pc : Nat} {l : List (Nat × Value)} {st : List Value} {P : am1 β} {n : Int} {v : Int32} (hX : amOK X cc own nL F L rtp) (hdg : decode cc pc = .ok (.iconst n, 1)) (hv0 : Int32.ofInt n = v) (k : WG X enc (pc + 1) l (.int v :: st) P) : WG X enc pc l st P := by
  obtain ⟨⟨p, lc, e, R, s⟩, ⟨m, args, below, meth, c⟩, ⟨D, dA, ad0, φ0, A⟩, ⟨Q, fin⟩⟩ := X
  intro φ S b φ' S' kc ks hP hf ad H locs cells slots ls hI hc hs hv hvl hl
  exact lv_iconst hX.1 hX.2.1 hdg hv0 (k φ S b φ' S' kc ks hP hf ad H locs cells slots ls hI hc hs ⟨trivial, hv⟩ hvl hl)
theorem wg_bipush {X : amX} {cc : ByteArray} {own : String} {nL F L : Nat} {rtp : Option FieldType} {β : Type} {enc : β → Option Value} {pc : Nat} {l : List (Nat × Value)} {st : List Value} {P : am1 β} {n : Int} {v : Int32} (hX : amOK X cc own nL F L rtp) (hdg : decode cc pc = .ok (.bipush n, 2)) (hv0 : (Int8.ofInt n).toInt32 = v) (k : WG X enc (pc + 2) l (.int v :: st) P) : WG X enc pc l st P := by
  obtain ⟨⟨p, lc, e, R, s⟩, ⟨m, args, below, meth, c⟩, ⟨D, dA, ad0, φ0, A⟩, ⟨Q, fin⟩⟩ := X
  intro φ S b φ' S' kc ks hP hf ad H locs cells slots ls hI hc hs hv hvl hl
  exact lv_bipush hX.1 hX.2.1 hdg hv0 (k φ S b φ' S' kc ks hP hf ad H locs cells slots ls hI hc hs ⟨trivial, hv⟩ hvl hl)
theorem wg_sipush {X : amX} {cc : ByteArray} {own : String} {nL F L : Nat} {rtp : Option FieldType} {β : Type} {enc : β → Option Value} {pc : Nat} {l : List (Nat × Value)} {st : List Value} {P : am1 β} {n : Int} {v : Int32} (hX : amOK X cc own nL F L rtp) (hdg : decode cc pc = .ok (.sipush n, 3)) (hv0 : (Int16.ofInt n).toInt32 = v) (k : WG X enc (pc + 3) l (.int v :: st) P) : WG X enc pc l st P := by
  obtain ⟨⟨p, lc, e, R, s⟩, ⟨m, args, below, meth, c⟩, ⟨D, dA, ad0, φ0, A⟩, ⟨Q, fin⟩⟩ := X
  intro φ S b φ' S' kc ks hP hf ad H locs cells slots ls hI hc hs hv hvl hl
  exact lv_sipush hX.1 hX.2.1 hdg hv0 (k φ S b φ' S' kc ks hP hf ad H locs cells slots ls hI hc hs ⟨trivial, hv⟩ hvl hl)
theorem wg_i2b {X : amX} {cc : ByteArray} {own : String} {nL F L : Nat} {rtp : Option FieldType} {β : Type} {enc : β → Option Value} {pc : Nat} {l : List (Nat × Value)} {st : List Value} {P : am1 β} {x : Int32} (hX : amOK X cc own nL F L rtp) (hdg : decode cc pc = .ok (.i2b, 1))  (k : WG X enc (pc + 1) l (.int x.toInt8.toInt32 :: st) P) : WG X enc pc l (.int x :: st) P := by
  obtain ⟨⟨p, lc, e, R, s⟩, ⟨m, args, below, meth, c⟩, ⟨D, dA, ad0, φ0, A⟩, ⟨Q, fin⟩⟩ := X
  intro φ S b φ' S' kc ks hP hf ad H locs cells slots ls hI hc hs hv hvl hl
  exact lv_i2b hX.1 hX.2.1 hdg rfl (k φ S b φ' S' kc ks hP hf ad H locs cells slots ls hI hc hs ⟨trivial, hv.2⟩ hvl hl)
theorem wg_i2s {X : amX} {cc : ByteArray} {own : String} {nL F L : Nat} {rtp : Option FieldType} {β : Type} {enc : β → Option Value} {pc : Nat} {l : List (Nat × Value)} {st : List Value} {P : am1 β} {x : Int32} (hX : amOK X cc own nL F L rtp) (hdg : decode cc pc = .ok (.i2s, 1))  (k : WG X enc (pc + 1) l (.int x.toInt16.toInt32 :: st) P) : WG X enc pc l (.int x :: st) P := by
  obtain ⟨⟨p, lc, e, R, s⟩, ⟨m, args, below, meth, c⟩, ⟨D, dA, ad0, φ0, A⟩, ⟨Q, fin⟩⟩ := X
  intro φ S b φ' S' kc ks hP hf ad H locs cells slots ls hI hc hs hv hvl hl
  exact lv_i2s hX.1 hX.2.1 hdg rfl (k φ S b φ' S' kc ks hP hf ad H locs cells slots ls hI hc hs ⟨trivial, hv.2⟩ hvl hl)
theorem wg_i2l {X : amX} {cc : ByteArray} {own : String} {nL F L : Nat} {rtp : Option FieldType} {β : Type} {enc : β → Option Value} {pc : Nat} {l : List (Nat × Value)} {st : List Value} {P : am1 β} {x : Int32} (hX : amOK X cc own nL F L rtp) (hdg : decode cc pc = .ok (.i2l, 1))  (k : WG X enc (pc + 1) l (.long x.toInt64 :: st) P) : WG X enc pc l (.int x :: st) P := by
  obtain ⟨⟨p, lc, e, R, s⟩, ⟨m, args, below, meth, c⟩, ⟨D, dA, ad0, φ0, A⟩, ⟨Q, fin⟩⟩ := X
  intro φ S b φ' S' kc ks hP hf ad H locs cells slots ls hI hc hs hv hvl hl
  exact lv_i2l hX.1 hX.2.1 hdg rfl (k φ S b φ' S' kc ks hP hf ad H locs cells slots ls hI hc hs ⟨trivial, hv.2⟩ hvl hl)
theorem wg_l2i {X : amX} {cc : ByteArray} {own : String} {nL F L : Nat} {rtp : Option FieldType} {β : Type} {enc : β → Option Value} {pc : Nat} {l : List (Nat × Value)} {st : List Value} {P : am1 β} {x : Int64} (hX : amOK X cc own nL F L rtp) (hdg : decode cc pc = .ok (.l2i, 1))  (k : WG X enc (pc + 1) l (.int x.toInt32 :: st) P) : WG X enc pc l (.long x :: st) P := by
  obtain ⟨⟨p, lc, e, R, s⟩, ⟨m, args, below, meth, c⟩, ⟨D, dA, ad0, φ0, A⟩, ⟨Q, fin⟩⟩ := X
  intro φ S b φ' S' kc ks hP hf ad H locs cells slots ls hI hc hs hv hvl hl
  exact lv_l2i hX.1 hX.2.1 hdg rfl (k φ S b φ' S' kc ks hP hf ad H locs cells slots ls hI hc hs ⟨trivial, hv.2⟩ hvl hl)
theorem wg_ladd {X : amX} {cc : ByteArray} {own : String} {nL F L : Nat} {rtp : Option FieldType} {β : Type} {enc : β → Option Value} {pc : Nat} {l : List (Nat × Value)} {st : List Value} {P : am1 β} {x y : Int64} (hX : amOK X cc own nL F L rtp) (hdg : decode cc pc = .ok (.ladd, 1))  (k : WG X enc (pc + 1) l (.long (x + y) :: st) P) : WG X enc pc l (.long y :: .long x :: st) P := by
  obtain ⟨⟨p, lc, e, R, s⟩, ⟨m, args, below, meth, c⟩, ⟨D, dA, ad0, φ0, A⟩, ⟨Q, fin⟩⟩ := X
  intro φ S b φ' S' kc ks hP hf ad H locs cells slots ls hI hc hs hv hvl hl
  exact lv_ladd hX.1 hX.2.1 hdg  (k φ S b φ' S' kc ks hP hf ad H locs cells slots ls hI hc hs ⟨trivial, hv.2.2⟩ hvl hl)
theorem wg_lsub {X : amX} {cc : ByteArray} {own : String} {nL F L : Nat} {rtp : Option FieldType} {β : Type} {enc : β → Option Value} {pc : Nat} {l : List (Nat × Value)} {st : List Value} {P : am1 β} {x y : Int64} (hX : amOK X cc own nL F L rtp) (hdg : decode cc pc = .ok (.lsub, 1))  (k : WG X enc (pc + 1) l (.long (x - y) :: st) P) : WG X enc pc l (.long y :: .long x :: st) P := by
  obtain ⟨⟨p, lc, e, R, s⟩, ⟨m, args, below, meth, c⟩, ⟨D, dA, ad0, φ0, A⟩, ⟨Q, fin⟩⟩ := X
  intro φ S b φ' S' kc ks hP hf ad H locs cells slots ls hI hc hs hv hvl hl
  exact lv_lsub hX.1 hX.2.1 hdg  (k φ S b φ' S' kc ks hP hf ad H locs cells slots ls hI hc hs ⟨trivial, hv.2.2⟩ hvl hl)
theorem wg_lmul {X : amX} {cc : ByteArray} {own : String} {nL F L : Nat} {rtp : Option FieldType} {β : Type} {enc : β → Option Value} {pc : Nat} {l : List (Nat × Value)} {st : List Value} {P : am1 β} {x y : Int64} (hX : amOK X cc own nL F L rtp) (hdg : decode cc pc = .ok (.lmul, 1))  (k : WG X enc (pc + 1) l (.long (x * y) :: st) P) : WG X enc pc l (.long y :: .long x :: st) P := by
  obtain ⟨⟨p, lc, e, R, s⟩, ⟨m, args, below, meth, c⟩, ⟨D, dA, ad0, φ0, A⟩, ⟨Q, fin⟩⟩ := X
  intro φ S b φ' S' kc ks hP hf ad H locs cells slots ls hI hc hs hv hvl hl
  exact lv_lmul hX.1 hX.2.1 hdg  (k φ S b φ' S' kc ks hP hf ad H locs cells slots ls hI hc hs ⟨trivial, hv.2.2⟩ hvl hl)
theorem wg_lcmp {X : amX} {cc : ByteArray} {own : String} {nL F L : Nat} {rtp : Option FieldType} {β : Type} {enc : β → Option Value} {pc : Nat} {l : List (Nat × Value)} {st : List Value} {P : am1 β} {x y : Int64} (hX : amOK X cc own nL F L rtp) (hdg : decode cc pc = .ok (.lcmp, 1))  (k : WG X enc (pc + 1) l (.int (lg_cmp x y) :: st) P) : WG X enc pc l (.long y :: .long x :: st) P := by
  obtain ⟨⟨p, lc, e, R, s⟩, ⟨m, args, below, meth, c⟩, ⟨D, dA, ad0, φ0, A⟩, ⟨Q, fin⟩⟩ := X
  intro φ S b φ' S' kc ks hP hf ad H locs cells slots ls hI hc hs hv hvl hl
  exact W.lcmp hX.1 hX.2.1 hdg  (k φ S b φ' S' kc ks hP hf ad H locs cells slots ls hI hc hs ⟨trivial, hv.2.2⟩ hvl hl)
theorem wg_i2f {X : amX} {cc : ByteArray} {own : String} {nL F L : Nat} {rtp : Option FieldType} {β : Type} {enc : β → Option Value} {pc : Nat} {l : List (Nat × Value)} {st : List Value} {P : am1 β} {x : Int32} (hX : amOK X cc own nL F L rtp) (hdg : decode cc pc = .ok (.i2f, 1))  (k : WG X enc (pc + 1) l (.float (FP.i2f x) :: st) P) : WG X enc pc l (.int x :: st) P := by
  obtain ⟨⟨p, lc, e, R, s⟩, ⟨m, args, below, meth, c⟩, ⟨D, dA, ad0, φ0, A⟩, ⟨Q, fin⟩⟩ := X
  intro φ S b φ' S' kc ks hP hf ad H locs cells slots ls hI hc hs hv hvl hl
  exact lv_i2f hX.1 hX.2.1 hdg  (k φ S b φ' S' kc ks hP hf ad H locs cells slots ls hI hc hs ⟨trivial, hv.2⟩ hvl hl)
theorem wg_i2d {X : amX} {cc : ByteArray} {own : String} {nL F L : Nat} {rtp : Option FieldType} {β : Type} {enc : β → Option Value} {pc : Nat} {l : List (Nat × Value)} {st : List Value} {P : am1 β} {x : Int32} (hX : amOK X cc own nL F L rtp) (hdg : decode cc pc = .ok (.i2d, 1))  (k : WG X enc (pc + 1) l (.double (FP.i2d x) :: st) P) : WG X enc pc l (.int x :: st) P := by
  obtain ⟨⟨p, lc, e, R, s⟩, ⟨m, args, below, meth, c⟩, ⟨D, dA, ad0, φ0, A⟩, ⟨Q, fin⟩⟩ := X
  intro φ S b φ' S' kc ks hP hf ad H locs cells slots ls hI hc hs hv hvl hl
  exact lv_i2d hX.1 hX.2.1 hdg  (k φ S b φ' S' kc ks hP hf ad H locs cells slots ls hI hc hs ⟨trivial, hv.2⟩ hvl hl)
theorem wg_f2d {X : amX} {cc : ByteArray} {own : String} {nL F L : Nat} {rtp : Option FieldType} {β : Type} {enc : β → Option Value} {pc : Nat} {l : List (Nat × Value)} {st : List Value} {P : am1 β} {x : UInt32} (hX : amOK X cc own nL F L rtp) (hdg : decode cc pc = .ok (.f2d, 1)) (hne : vf_n64 (FP.f2d x)) (k : WG X enc (pc + 1) l (.double (FP.f2d x) :: st) P) : WG X enc pc l (.float x :: st) P := by
  obtain ⟨⟨p, lc, e, R, s⟩, ⟨m, args, below, meth, c⟩, ⟨D, dA, ad0, φ0, A⟩, ⟨Q, fin⟩⟩ := X
  intro φ S b φ' S' kc ks hP hf ad H locs cells slots ls hI hc hs hv hvl hl
  exact lv_f2d hX.1 hX.2.1 hdg hne (k φ S b φ' S' kc ks hP hf ad H locs cells slots ls hI hc hs ⟨trivial, hv.2⟩ hvl hl)
theorem wg_fdiv {X : amX} {cc : ByteArray} {own : String} {nL F L : Nat} {rtp : Option FieldType} {β : Type} {enc : β → Option Value} {pc : Nat} {l : List (Nat × Value)} {st : List Value} {P : am1 β} {x y : UInt32} (hX : amOK X cc own nL F L rtp) (hdg : decode cc pc = .ok (.fdiv, 1)) (hne : vf_n32 (FP.fdiv x y)) (k : WG X enc (pc + 1) l (.float (FP.fdiv x y) :: st) P) : WG X enc pc l (.float y :: .float x :: st) P := by
  obtain ⟨⟨p, lc, e, R, s⟩, ⟨m, args, below, meth, c⟩, ⟨D, dA, ad0, φ0, A⟩, ⟨Q, fin⟩⟩ := X
  intro φ S b φ' S' kc ks hP hf ad H locs cells slots ls hI hc hs hv hvl hl
  exact lv_fdiv hX.1 hX.2.1 hdg hne (k φ S b φ' S' kc ks hP hf ad H locs cells slots ls hI hc hs ⟨trivial, hv.2.2⟩ hvl hl)
theorem wg_dadd {X : amX} {cc : ByteArray} {own : String} {nL F L : Nat} {rtp : Option FieldType} {β : Type} {enc : β → Option Value} {pc : Nat} {l : List (Nat × Value)} {st : List Value} {P : am1 β} {x y : UInt64} (hX : amOK X cc own nL F L rtp) (hdg : decode cc pc = .ok (.dadd, 1)) (hne : vf_n64 (FP.dadd x y)) (k : WG X enc (pc + 1) l (.double (FP.dadd x y) :: st) P) : WG X enc pc l (.double y :: .double x :: st) P := by
  obtain ⟨⟨p, lc, e, R, s⟩, ⟨m, args, below, meth, c⟩, ⟨D, dA, ad0, φ0, A⟩, ⟨Q, fin⟩⟩ := X
  intro φ S b φ' S' kc ks hP hf ad H locs cells slots ls hI hc hs hv hvl hl
  exact lv_dadd hX.1 hX.2.1 hdg hne (k φ S b φ' S' kc ks hP hf ad H locs cells slots ls hI hc hs ⟨trivial, hv.2.2⟩ hvl hl)
theorem wg_dsub {X : amX} {cc : ByteArray} {own : String} {nL F L : Nat} {rtp : Option FieldType} {β : Type} {enc : β → Option Value} {pc : Nat} {l : List (Nat × Value)} {st : List Value} {P : am1 β} {x y : UInt64} (hX : amOK X cc own nL F L rtp) (hdg : decode cc pc = .ok (.dsub, 1)) (hne : vf_n64 (FP.dsub x y)) (k : WG X enc (pc + 1) l (.double (FP.dsub x y) :: st) P) : WG X enc pc l (.double y :: .double x :: st) P := by
  obtain ⟨⟨p, lc, e, R, s⟩, ⟨m, args, below, meth, c⟩, ⟨D, dA, ad0, φ0, A⟩, ⟨Q, fin⟩⟩ := X
  intro φ S b φ' S' kc ks hP hf ad H locs cells slots ls hI hc hs hv hvl hl
  exact lv_dsub hX.1 hX.2.1 hdg hne (k φ S b φ' S' kc ks hP hf ad H locs cells slots ls hI hc hs ⟨trivial, hv.2.2⟩ hvl hl)
theorem wg_dmul {X : amX} {cc : ByteArray} {own : String} {nL F L : Nat} {rtp : Option FieldType} {β : Type} {enc : β → Option Value} {pc : Nat} {l : List (Nat × Value)} {st : List Value} {P : am1 β} {x y : UInt64} (hX : amOK X cc own nL F L rtp) (hdg : decode cc pc = .ok (.dmul, 1)) (hne : vf_n64 (FP.dmul x y)) (k : WG X enc (pc + 1) l (.double (FP.dmul x y) :: st) P) : WG X enc pc l (.double y :: .double x :: st) P := by
  obtain ⟨⟨p, lc, e, R, s⟩, ⟨m, args, below, meth, c⟩, ⟨D, dA, ad0, φ0, A⟩, ⟨Q, fin⟩⟩ := X
  intro φ S b φ' S' kc ks hP hf ad H locs cells slots ls hI hc hs hv hvl hl
  exact lv_dmul hX.1 hX.2.1 hdg hne (k φ S b φ' S' kc ks hP hf ad H locs cells slots ls hI hc hs ⟨trivial, hv.2.2⟩ hvl hl)
theorem wg_dcmp {X : amX} {cc : ByteArray} {own : String} {nL F L : Nat} {rtp : Option FieldType} {β : Type} {enc : β → Option Value} {pc : Nat} {l : List (Nat × Value)} {st : List Value} {P : am1 β} {x y : UInt64} {op : CmpOp} (hX : amOK X cc own nL F L rtp) (hdg : decode cc pc = .ok (.dcmp op, 1))  (k : WG X enc (pc + 1) l (.int (Op.cmpValue (FP.dcmp x y) op) :: st) P) : WG X enc pc l (.double y :: .double x :: st) P := by
  obtain ⟨⟨p, lc, e, R, s⟩, ⟨m, args, below, meth, c⟩, ⟨D, dA, ad0, φ0, A⟩, ⟨Q, fin⟩⟩ := X
  intro φ S b φ' S' kc ks hP hf ad H locs cells slots ls hI hc hs hv hvl hl
  exact lv_dcmp hX.1 hX.2.1 hdg  (k φ S b φ' S' kc ks hP hf ad H locs cells slots ls hI hc hs ⟨trivial, hv.2.2⟩ hvl hl)
theorem wg_fcmp {X : amX} {cc : ByteArray} {own : String} {nL F L : Nat} {rtp : Option FieldType} {β : Type} {enc : β → Option Value} {pc : Nat} {l : List (Nat × Value)} {st : List Value} {P : am1 β} {x y : UInt32} {op : CmpOp} (hX : amOK X cc own nL F L rtp) (hdg : decode cc pc = .ok (.fcmp op, 1))  (k : WG X enc (pc + 1) l (.int (Op.cmpValue (FP.fcmp x y) op) :: st) P) : WG X enc pc l (.float y :: .float x :: st) P := by
  obtain ⟨⟨p, lc, e, R, s⟩, ⟨m, args, below, meth, c⟩, ⟨D, dA, ad0, φ0, A⟩, ⟨Q, fin⟩⟩ := X
  intro φ S b φ' S' kc ks hP hf ad H locs cells slots ls hI hc hs hv hvl hl
  exact lv_fcmp hX.1 hX.2.1 hdg  (k φ S b φ' S' kc ks hP hf ad H locs cells slots ls hI hc hs ⟨trivial, hv.2.2⟩ hvl hl)
theorem wg_dconst0 {X : amX} {cc : ByteArray} {own : String} {nL F L : Nat} {rtp : Option FieldType} {β : Type} {enc : β → Option Value} {pc : Nat} {l : List (Nat × Value)} {st : List Value} {P : am1 β}  (hX : amOK X cc own nL F L rtp) (hdg : decode cc pc = .ok (.dconst 0, 1))  (k : WG X enc (pc + 1) l (.double FP.dconst0 :: st) P) : WG X enc pc l st P := by
  obtain ⟨⟨p, lc, e, R, s⟩, ⟨m, args, below, meth, c⟩, ⟨D, dA, ad0, φ0, A⟩, ⟨Q, fin⟩⟩ := X
  intro φ S b φ' S' kc ks hP hf ad H locs cells slots ls hI hc hs hv hvl hl
  exact lv_dconst0 hX.1 hX.2.1 hdg  (k φ S b φ' S' kc ks hP hf ad H locs cells slots ls hI hc hs ⟨trivial, hv⟩ hvl hl)
theorem wg_ldc {X : amX} {cc : ByteArray} {own : String} {nL F L : Nat} {rtp : Option FieldType} {β : Type} {enc : β → Option Value} {pc : Nat} {l : List (Nat × Value)} {st : List Value} {P : am1 β} {index : Nat} {v : Int32} (hX : amOK X cc own nL F L rtp) (hdg : decode cc pc = .ok (.ldc index, 2)) (hq : Cond.constant own index v ∈ lw_all) (k : WG X enc (pc + 2) l (.int v :: st) P) : WG X enc pc l st P := by
  obtain ⟨⟨p, lc, e, R, s⟩, ⟨m, args, below, meth, c⟩, ⟨D, dA, ad0, φ0, A⟩, ⟨Q, fin⟩⟩ := X
  intro φ S b φ' S' kc ks hP hf ad H locs cells slots ls hI hc hs hv hvl hl
  exact lv_ldc hX.1 hX.2.1 hX.2.2.2.1 (hX.2.2.2.2.1 _ hq) hdg (k φ S b φ' S' kc ks hP hf ad H locs cells slots ls hI hc hs ⟨trivial, hv⟩ hvl hl)
theorem wg_ldcw {X : amX} {cc : ByteArray} {own : String} {nL F L : Nat} {rtp : Option FieldType} {β : Type} {enc : β → Option Value} {pc : Nat} {l : List (Nat × Value)} {st : List Value} {P : am1 β} {index : Nat} {v : Int32} (hX : amOK X cc own nL F L rtp) (hdg : decode cc pc = .ok (.ldc_w index, 3)) (hq : Cond.constant own index v ∈ lw_all) (k : WG X enc (pc + 3) l (.int v :: st) P) : WG X enc pc l st P := by
  obtain ⟨⟨p, lc, e, R, s⟩, ⟨m, args, below, meth, c⟩, ⟨D, dA, ad0, φ0, A⟩, ⟨Q, fin⟩⟩ := X
  intro φ S b φ' S' kc ks hP hf ad H locs cells slots ls hI hc hs hv hvl hl
  exact lv_ldcw hX.1 hX.2.1 hX.2.2.2.1 (hX.2.2.2.2.1 _ hq) hdg (k φ S b φ' S' kc ks hP hf ad H locs cells slots ls hI hc hs ⟨trivial, hv⟩ hvl hl)
theorem wg_ldcf {X : amX} {cc : ByteArray} {own : String} {nL F L : Nat} {rtp : Option FieldType} {β : Type} {enc : β → Option Value} {pc : Nat} {l : List (Nat × Value)} {st : List Value} {P : am1 β} {index : Nat} {v : UInt32} (hX : amOK X cc own nL F L rtp) (hdg : decode cc pc = .ok (.ldc index, 2)) (hq : Cond.constantFloat own index v ∈ lw_all) (k : WG X enc (pc + 2) l (.float v :: st) P) : WG X enc pc l st P := by
  obtain ⟨⟨p, lc, e, R, s⟩, ⟨m, args, below, meth, c⟩, ⟨D, dA, ad0, φ0, A⟩, ⟨Q, fin⟩⟩ := X
  intro φ S b φ' S' kc ks hP hf ad H locs cells slots ls hI hc hs hv hvl hl
  exact lv_ldcf hX.1 hX.2.1 hX.2.2.2.1 (hX.2.2.2.2.1 _ hq) hdg (k φ S b φ' S' kc ks hP hf ad H locs cells slots ls hI hc hs ⟨trivial, hv⟩ hvl hl)
theorem wg_ldc2 {X : amX} {cc : ByteArray} {own : String} {nL F L : Nat} {rtp : Option FieldType} {β : Type} {enc : β → Option Value} {pc : Nat} {l : List (Nat × Value)} {st : List Value} {P : am1 β} {index : Nat} {v : Int64} (hX : amOK X cc own nL F L rtp) (hdg : decode cc pc = .ok (.ldc2_w index, 3)) (hq : Cond.constantLong own index v ∈ lw_all) (k : WG X enc (pc + 3) l (.long v :: st) P) : WG X enc pc l st P := by
  obtain ⟨⟨p, lc, e, R, s⟩, ⟨m, args, below, meth, c⟩, ⟨D, dA, ad0, φ0, A⟩, ⟨Q, fin⟩⟩ := X
  intro φ S b φ' S' kc ks hP hf ad H locs cells slots ls hI hc hs hv hvl hl
  exact lv_ldc2 hX.1 hX.2.1 hX.2.2.2.1 (hX.2.2.2.2.1 _ hq) hdg (k φ S b φ' S' kc ks hP hf ad H locs cells slots ls hI hc hs ⟨trivial, hv⟩ hvl hl)
theorem wg_ldc2d {X : amX} {cc : ByteArray} {own : String} {nL F L : Nat} {rtp : Option FieldType} {β : Type} {enc : β → Option Value} {pc : Nat} {l : List (Nat × Value)} {st : List Value} {P : am1 β} {index : Nat} {v : UInt64} (hX : amOK X cc own nL F L rtp) (hdg : decode cc pc = .ok (.ldc2_w index, 3)) (hq : Cond.constantDouble own index v ∈ lw_all) (k : WG X enc (pc + 3) l (.double v :: st) P) : WG X enc pc l st P := by
  obtain ⟨⟨p, lc, e, R, s⟩, ⟨m, args, below, meth, c⟩, ⟨D, dA, ad0, φ0, A⟩, ⟨Q, fin⟩⟩ := X
  intro φ S b φ' S' kc ks hP hf ad H locs cells slots ls hI hc hs hv hvl hl
  exact lv_ldc2d hX.1 hX.2.1 hX.2.2.2.1 (hX.2.2.2.2.1 _ hq) hdg (k φ S b φ' S' kc ks hP hf ad H locs cells slots ls hI hc hs ⟨trivial, hv⟩ hvl hl)
theorem wg_dup {X : amX} {cc : ByteArray} {own : String} {nL F L : Nat} {rtp : Option FieldType} {β : Type} {enc : β → Option Value} {pc : Nat} {l : List (Nat × Value)} {st : List Value} {P : am1 β} {va : Value} (hX : amOK X cc own nL F L rtp) (hdg : decode cc pc = .ok (.dup, 1)) (hva : va.category = 1) (k : WG X enc (pc + 1) l (va :: va :: st) P) : WG X enc pc l (va :: st) P := by
  obtain ⟨⟨p, lc, e, R, s⟩, ⟨m, args, below, meth, c⟩, ⟨D, dA, ad0, φ0, A⟩, ⟨Q, fin⟩⟩ := X
  intro φ S b φ' S' kc ks hP hf ad H locs cells slots ls hI hc hs hv hvl hl
  exact lv_dup hX.1 hX.2.1 hdg (by rw [cn_cat]; exact hva) (k φ S b φ' S' kc ks hP hf ad H locs cells slots ls hI hc hs ⟨hv.1, hv⟩ hvl hl)
theorem wg_pop {X : amX} {cc : ByteArray} {own : String} {nL F L : Nat} {rtp : Option FieldType} {β : Type} {enc : β → Option Value} {pc : Nat} {l : List (Nat × Value)} {st : List Value} {P : am1 β} {va : Value} (hX : amOK X cc own nL F L rtp) (hdg : decode cc pc = .ok (.pop, 1)) (hva : va.category = 1) (k : WG X enc (pc + 1) l st P) : WG X enc pc l (va :: st) P := by
  obtain ⟨⟨p, lc, e, R, s⟩, ⟨m, args, below, meth, c⟩, ⟨D, dA, ad0, φ0, A⟩, ⟨Q, fin⟩⟩ := X
  intro φ S b φ' S' kc ks hP hf ad H locs cells slots ls hI hc hs hv hvl hl
  exact lv_pop hX.1 hX.2.1 hdg (by rw [cn_cat]; exact hva) (k φ S b φ' S' kc ks hP hf ad H locs cells slots ls hI hc hs hv.2 hvl hl)
theorem wg_dup_x1 {X : amX} {cc : ByteArray} {own : String} {nL F L : Nat} {rtp : Option FieldType} {β : Type} {enc : β → Option Value} {pc : Nat} {l : List (Nat × Value)} {st : List Value} {P : am1 β} {va vb : Value} (hX : amOK X cc own nL F L rtp) (hdg : decode cc pc = .ok (.dup_x1, 1)) (hva : va.category = 1) (hvb : vb.category = 1) (k : WG X enc (pc + 1) l (va :: vb :: va :: st) P) : WG X enc pc l (va :: vb :: st) P := by
  obtain ⟨⟨p, lc, e, R, s⟩, ⟨m, args, below, meth, c⟩, ⟨D, dA, ad0, φ0, A⟩, ⟨Q, fin⟩⟩ := X
  intro φ S b φ' S' kc ks hP hf ad H locs cells slots ls hI hc hs hv hvl hl
  exact lv_dup_x1 hX.1 hX.2.1 hdg (by rw [cn_cat]; exact hva) (by rw [cn_cat]; exact hvb) (k φ S b φ' S' kc ks hP hf ad H locs cells slots ls hI hc hs ⟨hv.1, hv.2.1, hv.1, hv.2.2⟩ hvl hl)
theorem wg_dup2 {X : amX} {cc : ByteArray} {own : String} {nL F L : Nat} {rtp : Option FieldType} {β : Type} {enc : β → Option Value} {pc : Nat} {l : List (Nat × Value)} {st : List Value} {P : am1 β} {va vb : Value} (hX : amOK X cc own nL F L rtp) (hdg : decode cc pc = .ok (.dup2, 1)) (hva : va.category = 1) (hvb : vb.category = 1) (k : WG X enc (pc + 1) l (va :: vb :: va :: vb :: st) P) : WG X enc pc l (va :: vb :: st) P := by
  obtain ⟨⟨p, lc, e, R, s⟩, ⟨m, args, below, meth, c⟩, ⟨D, dA, ad0, φ0, A⟩, ⟨Q, fin⟩⟩ := X
  intro φ S b φ' S' kc ks hP hf ad H locs cells slots ls hI hc hs hv hvl hl
  exact lv_dup2_11 hX.1 hX.2.1 hdg (by rw [cn_cat]; exact hva) (by rw [cn_cat]; exact hvb) (k φ S b φ' S' kc ks hP hf ad H locs cells slots ls hI hc hs ⟨hv.1, hv.2.1, hv⟩ hvl hl)
theorem wg_goto {X : amX} {cc : ByteArray} {own : String} {nL F L : Nat} {rtp : Option FieldType} {β : Type} {enc : β → Option Value} {pc : Nat} {l : List (Nat × Value)} {st : List Value} {P : am1 β} {off : Int} {tgt : Nat} (hX : amOK X cc own nL F L rtp) (hdg : decode cc pc = .ok (.goto off, 3)) (ht : (pc : Int) + off = (tgt : Int)) (k : WG X enc tgt l st P) : WG X enc pc l st P := by
  obtain ⟨⟨p, lc, e, R, s⟩, ⟨m, args, below, meth, c⟩, ⟨D, dA, ad0, φ0, A⟩, ⟨Q, fin⟩⟩ := X
  intro φ S b φ' S' kc ks hP hf ad H locs cells slots ls hI hc hs hv hvl hl
  exact lv_goto hX.1 hX.2.1 hdg ht (k φ S b φ' S' kc ks hP hf ad H locs cells slots ls hI hc hs hv hvl hl)
theorem wg_iload_n {X : amX} {cc : ByteArray} {own : String} {nL F L : Nat} {rtp : Option FieldType} {β : Type} {enc : β → Option Value} {pc : Nat} {l : List (Nat × Value)} {st : List Value} {P : am1 β} {kf : Fin 4} {x : Int32} (hX : amOK X cc own nL F L rtp) (hdg : decode cc pc = .ok (.iload_n kf, 1)) (n : Nat) (h : l[n]? = some ((kf : Nat), .int x)) (k : WG X enc (pc + 1) l (.int x :: st) P) : WG X enc pc l st P := by
  obtain ⟨⟨p, lc, e, R, s⟩, ⟨m, args, below, meth, c⟩, ⟨D, dA, ad0, φ0, A⟩, ⟨Q, fin⟩⟩ := X
  intro φ S b φ' S' kc ks hP hf ad H locs cells slots ls hI hc hs hv hvl hl
  exact lv_iload_n hX.1 hX.2.1 hdg rfl (lv_at hl n (am_loc h)) (k φ S b φ' S' kc ks hP hf ad H locs cells slots ls hI hc hs ⟨trivial, hv⟩ hvl hl)
theorem wg_iload {X : amX} {cc : ByteArray} {own : String} {nL F L : Nat} {rtp : Option FieldType} {β : Type} {enc : β → Option Value} {pc : Nat} {l : List (Nat × Value)} {st : List Value} {P : am1 β} {i : Nat} {x : Int32} (hX : amOK X cc own nL F L rtp) (hdg : decode cc pc = .ok (.iload i, 2)) (n : Nat) (h : l[n]? = some (i, .int x)) (k : WG X enc (pc + 2) l (.int x :: st) P) : WG X enc pc l st P := by
  obtain ⟨⟨p, lc, e, R, s⟩, ⟨m, args, below, meth, c⟩, ⟨D, dA, ad0, φ0, A⟩, ⟨Q, fin⟩⟩ := X
  intro φ S b φ' S' kc ks hP hf ad H locs cells slots ls hI hc hs hv hvl hl
  exact lv_iload hX.1 hX.2.1 hdg (lv_at hl n (am_loc h)) (k φ S b φ' S' kc ks hP hf ad H locs cells slots ls hI hc hs ⟨trivial, hv⟩ hvl hl)
theorem wg_lload_n {X : amX} {cc : ByteArray} {own : String} {nL F L : Nat} {rtp : Option FieldType} {β : Type} {enc : β → Option Value} {pc : Nat} {l : List (Nat × Value)} {st : List Value} {P : am1 β} {kf : Fin 4} {x : Int64} (hX : amOK X cc own nL F L rtp) (hdg : decode cc pc = .ok (.lload_n kf, 1)) (n : Nat) (h : l[n]? = some ((kf : Nat), .long x)) (k : WG X enc (pc + 1) l (.long x :: st) P) : WG X enc pc l st P := by
  obtain ⟨⟨p, lc, e, R, s⟩, ⟨m, args, below, meth, c⟩, ⟨D, dA, ad0, φ0, A⟩, ⟨Q, fin⟩⟩ := X
  intro φ S b φ' S' kc ks hP hf ad H locs cells slots ls hI hc hs hv hvl hl
  exact lv_lload_n hX.1 hX.2.1 hdg rfl (lv_at hl n (am_loc h)) (k φ S b φ' S' kc ks hP hf ad H locs cells slots ls hI hc hs ⟨trivial, hv⟩ hvl hl)
theorem wg_lload {X : amX} {cc : ByteArray} {own : String} {nL F L : Nat} {rtp : Option FieldType} {β : Type} {enc : β → Option Value} {pc : Nat} {l : List (Nat × Value)} {st : List Value} {P : am1 β} {i : Nat} {x : Int64} (hX : amOK X cc own nL F L rtp) (hdg : decode cc pc = .ok (.lload i, 2)) (n : Nat) (h : l[n]? = some (i, .long x)) (k : WG X enc (pc + 2) l (.long x :: st) P) : WG X enc pc l st P := by
  obtain ⟨⟨p, lc, e, R, s⟩, ⟨m, args, below, meth, c⟩, ⟨D, dA, ad0, φ0, A⟩, ⟨Q, fin⟩⟩ := X
  intro φ S b φ' S' kc ks hP hf ad H locs cells slots ls hI hc hs hv hvl hl
  exact lv_lload hX.1 hX.2.1 hdg (lv_at hl n (am_loc h)) (k φ S b φ' S' kc ks hP hf ad H locs cells slots ls hI hc hs ⟨trivial, hv⟩ hvl hl)
theorem wg_dload_n {X : amX} {cc : ByteArray} {own : String} {nL F L : Nat} {rtp : Option FieldType} {β : Type} {enc : β → Option Value} {pc : Nat} {l : List (Nat × Value)} {st : List Value} {P : am1 β} {kf : Fin 4} {x : UInt64} (hX : amOK X cc own nL F L rtp) (hdg : decode cc pc = .ok (.dload_n kf, 1)) (n : Nat) (h : l[n]? = some ((kf : Nat), .double x)) (k : WG X enc (pc + 1) l (.double x :: st) P) : WG X enc pc l st P := by
  obtain ⟨⟨p, lc, e, R, s⟩, ⟨m, args, below, meth, c⟩, ⟨D, dA, ad0, φ0, A⟩, ⟨Q, fin⟩⟩ := X
  intro φ S b φ' S' kc ks hP hf ad H locs cells slots ls hI hc hs hv hvl hl
  exact lv_dload_n hX.1 hX.2.1 hdg rfl (lv_at hl n (am_loc h)) (k φ S b φ' S' kc ks hP hf ad H locs cells slots ls hI hc hs ⟨trivial, hv⟩ hvl hl)
theorem wg_dload {X : amX} {cc : ByteArray} {own : String} {nL F L : Nat} {rtp : Option FieldType} {β : Type} {enc : β → Option Value} {pc : Nat} {l : List (Nat × Value)} {st : List Value} {P : am1 β} {i : Nat} {x : UInt64} (hX : amOK X cc own nL F L rtp) (hdg : decode cc pc = .ok (.dload i, 2)) (n : Nat) (h : l[n]? = some (i, .double x)) (k : WG X enc (pc + 2) l (.double x :: st) P) : WG X enc pc l st P := by
  obtain ⟨⟨p, lc, e, R, s⟩, ⟨m, args, below, meth, c⟩, ⟨D, dA, ad0, φ0, A⟩, ⟨Q, fin⟩⟩ := X
  intro φ S b φ' S' kc ks hP hf ad H locs cells slots ls hI hc hs hv hvl hl
  exact lv_dload hX.1 hX.2.1 hdg (lv_at hl n (am_loc h)) (k φ S b φ' S' kc ks hP hf ad H locs cells slots ls hI hc hs ⟨trivial, hv⟩ hvl hl)
theorem wg_aload_n {X : amX} {cc : ByteArray} {own : String} {nL F L : Nat} {rtp : Option FieldType} {β : Type} {enc : β → Option Value} {pc : Nat} {l : List (Nat × Value)} {st : List Value} {P : am1 β} {kf : Fin 4} {x : Nat} (hX : amOK X cc own nL F L rtp) (hdg : decode cc pc = .ok (.aload_n kf, 1)) (n : Nat) (h : l[n]? = some ((kf : Nat), .ref x)) (k : WG X enc (pc + 1) l (.ref x :: st) P) : WG X enc pc l st P := by
  obtain ⟨⟨p, lc, e, R, s⟩, ⟨m, args, below, meth, c⟩, ⟨D, dA, ad0, φ0, A⟩, ⟨Q, fin⟩⟩ := X
  intro φ S b φ' S' kc ks hP hf ad H locs cells slots ls hI hc hs hv hvl hl
  have k1 := k φ S b φ' S' kc ks hP hf ad H locs cells slots ls hI hc hs ⟨hvl _ (List.mem_of_getElem? h), hv⟩ hvl hl
  have h1 := lv_at hl n (am_loc h)
  by_cases hx : x < 256
  · have e1 : cn ad (.ref x) = .null := by simp [cn, hx]
    rw [List.map_cons, e1] at k1
    rw [e1] at h1
    exact lv_aload_nN hX.1 hX.2.1 hdg rfl h1 k1
  · have e1 : cn ad (.ref x) = .ref (ad x) := by simp [cn, hx]
    rw [List.map_cons, e1] at k1
    rw [e1] at h1
    exact lv_aload_n hX.1 hX.2.1 hdg rfl h1 k1
theorem wg_aload {X : amX} {cc : ByteArray} {own : String} {nL F L : Nat} {rtp : Option FieldType} {β : Type} {enc : β → Option Value} {pc : Nat} {l : List (Nat × Value)} {st : List Value} {P : am1 β} {i : Nat} {x : Nat} (hX : amOK X cc own nL F L rtp) (hdg : decode cc pc = .ok (.aload i, 2)) (n : Nat) (h : l[n]? = some (i, .ref x)) (k : WG X enc (pc + 2) l (.ref x :: st) P) : WG X enc pc l st P := by
  obtain ⟨⟨p, lc, e, R, s⟩, ⟨m, args, below, meth, c⟩, ⟨D, dA, ad0, φ0, A⟩, ⟨Q, fin⟩⟩ := X
  intro φ S b φ' S' kc ks hP hf ad H locs cells slots ls hI hc hs hv hvl hl
  have k1 := k φ S b φ' S' kc ks hP hf ad H locs cells slots ls hI hc hs ⟨hvl _ (List.mem_of_getElem? h), hv⟩ hvl hl
  have h1 := lv_at hl n (am_loc h)
  by_cases hx : x < 256
  · have e1 : cn ad (.ref x) = .null := by simp [cn, hx]
    rw [List.map_cons, e1] at k1
    rw [e1] at h1
    exact lv_aloadN hX.1 hX.2.1 hdg h1 k1
  · have e1 : cn ad (.ref x) = .ref (ad x) := by simp [cn, hx]
    rw [List.map_cons, e1] at k1
    rw [e1] at h1
    exact lv_aload hX.1 hX.2.1 hdg h1 k1
theorem wg_istore_n {X : amX} {cc : ByteArray} {own : String} {nL F L : Nat} {rtp : Option FieldType} {β : Type} {enc : β → Option Value} {pc : Nat} {l : List (Nat × Value)} {st : List Value} {P : am1 β} {kf : Fin 4} {x : Int32} {l' : List (Nat × Value)} (hX : amOK X cc own nL F L rtp) (hdg : decode cc pc = .ok (.istore_n kf, 1)) (hn : (kf : Nat) < nL) (hl0 : amSet (kf : Nat) (.int x) l = l') (k : WG X enc (pc + 1) l' st P) : WG X enc pc l (.int x :: st) P := by
  obtain ⟨⟨p, lc, e, R, s⟩, ⟨m, args, below, meth, c⟩, ⟨D, dA, ad0, φ0, A⟩, ⟨Q, fin⟩⟩ := X
  intro φ S b φ' S' kc ks hP hf ad H locs cells slots ls hI hc hs hv hvl hl
  exact lv_istore_n hX.1 hX.2.1 hdg rfl hl (by rw [hX.2.2.1]; exact hn) rfl (fun ls' h' => k φ S b φ' S' kc ks hP hf ad H locs cells slots ls' hI hc hs hv.2 (amVl_set (v := .int x) hvl trivial hl0) (am_has_set (v := .int x) h' rfl hl0))
theorem wg_istore {X : amX} {cc : ByteArray} {own : String} {nL F L : Nat} {rtp : Option FieldType} {β : Type} {enc : β → Option Value} {pc : Nat} {l : List (Nat × Value)} {st : List Value} {P : am1 β} {i : Nat} {x : Int32} {l' : List (Nat × Value)} (hX : amOK X cc own nL F L rtp) (hdg : decode cc pc = .ok (.istore i, 2)) (hn : i < nL) (hl0 : amSet i (.int x) l = l') (k : WG X enc (pc + 2) l' st P) : WG X enc pc l (.int x :: st) P := by
  obtain ⟨⟨p, lc, e, R, s⟩, ⟨m, args, below, meth, c⟩, ⟨D, dA, ad0, φ0, A⟩, ⟨Q, fin⟩⟩ := X
  intro φ S b φ' S' kc ks hP hf ad H locs cells slots ls hI hc hs hv hvl hl
  exact lv_istore hX.1 hX.2.1 hdg hl (by rw [hX.2.2.1]; exact hn) rfl (fun ls' h' => k φ S b φ' S' kc ks hP hf ad H locs cells slots ls' hI hc hs hv.2 (amVl_set (v := .int x) hvl trivial hl0) (am_has_set (v := .int x) h' rfl hl0))
theorem wg_lstore_n {X : amX} {cc : ByteArray} {own : String} {nL F L : Nat} {rtp : Option FieldType} {β : Type} {enc : β → Option Value} {pc : Nat} {l : List (Nat × Value)} {st : List Value} {P : am1 β} {kf : Fin 4} {x : Int64} {l' : List (Nat × Value)} (hX : amOK X cc own nL F L rtp) (hdg : decode cc pc = .ok (.lstore_n kf, 1)) (hn : (kf : Nat) + 1 < nL) (hl0 : amSet (kf : Nat) (.long x) l = l') (k : WG X enc (pc + 1) l' st P) : WG X enc pc l (.long x :: st) P := by
  obtain ⟨⟨p, lc, e, R, s⟩, ⟨m, args, below, meth, c⟩, ⟨D, dA, ad0, φ0, A⟩, ⟨Q, fin⟩⟩ := X
  intro φ S b φ' S' kc ks hP hf ad H locs cells slots ls hI hc hs hv hvl hl
  exact lv_lstore_n hX.1 hX.2.1 hdg rfl hl (by rw [hX.2.2.1]; exact hn) rfl (fun ls' h' => k φ S b φ' S' kc ks hP hf ad H locs cells slots ls' hI hc hs hv.2 (amVl_set (v := .long x) hvl trivial hl0) (am_has_set2 (v := .long x) h' rfl hl0))
theorem wg_lstore {X : amX} {cc : ByteArray} {own : String} {nL F L : Nat} {rtp : Option FieldType} {β : Type} {enc : β → Option Value} {pc : Nat} {l : List (Nat × Value)} {st : List Value} {P : am1 β} {i : Nat} {x : Int64} {l' : List (Nat × Value)} (hX : amOK X cc own nL F L rtp) (hdg : decode cc pc = .ok (.lstore i, 2)) (hn : i + 1 < nL) (hl0 : amSet i (.long x) l = l') (k : WG X enc (pc + 2) l' st P) : WG X enc pc l (.long x :: st) P := by
  obtain ⟨⟨p, lc, e, R, s⟩, ⟨m, args, below, meth, c⟩, ⟨D, dA, ad0, φ0, A⟩, ⟨Q, fin⟩⟩ := X
  intro φ S b φ' S' kc ks hP hf ad H locs cells slots ls hI hc hs hv hvl hl
  exact lv_lstore hX.1 hX.2.1 hdg hl (by rw [hX.2.2.1]; exact hn) rfl (fun ls' h' => k φ S b φ' S' kc ks hP hf ad H locs cells slots ls' hI hc hs hv.2 (amVl_set (v := .long x) hvl trivial hl0) (am_has_set2 (v := .long x) h' rfl hl0))
theorem wg_dstore_n {X : amX} {cc : ByteArray} {own : String} {nL F L : Nat} {rtp : Option FieldType} {β : Type} {enc : β → Option Value} {pc : Nat} {l : List (Nat × Value)} {st : List Value} {P : am1 β} {kf : Fin 4} {x : UInt64} {l' : List (Nat × Value)} (hX : amOK X cc own nL F L rtp) (hdg : decode cc pc = .ok (.dstore_n kf, 1)) (hn : (kf : Nat) + 1 < nL) (hl0 : amSet (kf : Nat) (.double x) l = l') (k : WG X enc (pc + 1) l' st P) : WG X enc pc l (.double x :: st) P := by
  obtain ⟨⟨p, lc, e, R, s⟩, ⟨m, args, below, meth, c⟩, ⟨D, dA, ad0, φ0, A⟩, ⟨Q, fin⟩⟩ := X
  intro φ S b φ' S' kc ks hP hf ad H locs cells slots ls hI hc hs hv hvl hl
  exact lv_dstore_n hX.1 hX.2.1 hdg rfl hl (by rw [hX.2.2.1]; exact hn) rfl (fun ls' h' => k φ S b φ' S' kc ks hP hf ad H locs cells slots ls' hI hc hs hv.2 (amVl_set (v := .double x) hvl trivial hl0) (am_has_set2 (v := .double x) h' rfl hl0))
theorem wg_dstore {X : amX} {cc : ByteArray} {own : String} {nL F L : Nat} {rtp : Option FieldType} {β : Type} {enc : β → Option Value} {pc : Nat} {l : List (Nat × Value)} {st : List Value} {P : am1 β} {i : Nat} {x : UInt64} {l' : List (Nat × Value)} (hX : amOK X cc own nL F L rtp) (hdg : decode cc pc = .ok (.dstore i, 2)) (hn : i + 1 < nL) (hl0 : amSet i (.double x) l = l') (k : WG X enc (pc + 2) l' st P) : WG X enc pc l (.double x :: st) P := by
  obtain ⟨⟨p, lc, e, R, s⟩, ⟨m, args, below, meth, c⟩, ⟨D, dA, ad0, φ0, A⟩, ⟨Q, fin⟩⟩ := X
  intro φ S b φ' S' kc ks hP hf ad H locs cells slots ls hI hc hs hv hvl hl
  exact lv_dstore hX.1 hX.2.1 hdg hl (by rw [hX.2.2.1]; exact hn) rfl (fun ls' h' => k φ S b φ' S' kc ks hP hf ad H locs cells slots ls' hI hc hs hv.2 (amVl_set (v := .double x) hvl trivial hl0) (am_has_set2 (v := .double x) h' rfl hl0))
theorem wg_astore_n {X : amX} {cc : ByteArray} {own : String} {nL F L : Nat} {rtp : Option FieldType} {β : Type} {enc : β → Option Value} {pc : Nat} {l : List (Nat × Value)} {st : List Value} {P : am1 β} {kf : Fin 4} {x : Nat} {l' : List (Nat × Value)} (hX : amOK X cc own nL F L rtp) (hdg : decode cc pc = .ok (.astore_n kf, 1)) (hn : (kf : Nat) < nL) (hl0 : amSet (kf : Nat) (.ref x) l = l') (k : WG X enc (pc + 1) l' st P) : WG X enc pc l (.ref x :: st) P := by
  obtain ⟨⟨p, lc, e, R, s⟩, ⟨m, args, below, meth, c⟩, ⟨D, dA, ad0, φ0, A⟩, ⟨Q, fin⟩⟩ := X
  intro φ S b φ' S' kc ks hP hf ad H locs cells slots ls hI hc hs hv hvl hl
  have hn1 : (kf : Nat) < c.maxLocals := by rw [hX.2.2.1]; exact hn
  have k1 : ∀ ls', lv_has ls' c.maxLocals (((kf : Nat), cn ad (.ref x)) :: (amCl ad l).filter (fun q => !(q.1 == (kf : Nat)) && !(q.1 + 1 == (kf : Nat) && q.2.category == 2))) → W p lc e R s m args below meth c H locs cells slots Q (F0 m (pc + 1) ls' (st.map (cn ad))) := fun ls' h' => k φ S b φ' S' kc ks hP hf ad H locs cells slots ls' hI hc hs hv.2 (amVl_set hvl hv.1 hl0) (am_has_set (v := .ref x) h' rfl hl0)
  by_cases hx : x < 256
  · have e1 : cn ad (.ref x) = .null := by simp [cn, hx]
    rw [List.map_cons, e1]
    rw [e1] at k1
    exact lv_astore_nN hX.1 hX.2.1 hdg rfl hl hn1 rfl k1
  · have e1 : cn ad (.ref x) = .ref (ad x) := by simp [cn, hx]
    rw [List.map_cons, e1]
    rw [e1] at k1
    exact lv_astore_n hX.1 hX.2.1 hdg rfl hl hn1 rfl k1
theorem wg_astore {X : amX} {cc : ByteArray} {own : String} {nL F L : Nat} {rtp : Option FieldType} {β : Type} {enc : β → Option Value} {pc : Nat} {l : List (Nat × Value)} {st : List Value} {P : am1 β} {i : Nat} {x : Nat} {l' : List (Nat × Value)} (hX : amOK X cc own nL F L rtp) (hdg : decode cc pc = .ok (.astore i, 2)) (hn : i < nL) (hl0 : amSet i (.ref x) l = l') (k : WG X enc (pc + 2) l' st P) : WG X enc pc l (.ref x :: st) P := by
  obtain ⟨⟨p, lc, e, R, s⟩, ⟨m, args, below, meth, c⟩, ⟨D, dA, ad0, φ0, A⟩, ⟨Q, fin⟩⟩ := X
  intro φ S b φ' S' kc ks hP hf ad H locs cells slots ls hI hc hs hv hvl hl
  have hn1 : i < c.maxLocals := by rw [hX.2.2.1]; exact hn
  have k1 : ∀ ls', lv_has ls' c.maxLocals ((i, cn ad (.ref x)) :: (amCl ad l).filter (fun q => !(q.1 == i) && !(q.1 + 1 == i && q.2.category == 2))) → W p lc e R s m args below meth c H locs cells slots Q (F0 m (pc + 2) ls' (st.map (cn ad))) := fun ls' h' => k φ S b φ' S' kc ks hP hf ad H locs cells slots ls' hI hc hs hv.2 (amVl_set hvl hv.1 hl0) (am_has_set (v := .ref x) h' rfl hl0)
  by_cases hx : x < 256
  · have e1 : cn ad (.ref x) = .null := by simp [cn, hx]
    rw [List.map_cons, e1]
    rw [e1] at k1
    exact lv_astoreN hX.1 hX.2.1 hdg hl hn1 rfl k1
  · have e1 : cn ad (.ref x) = .ref (ad x) := by simp [cn, hx]
    rw [List.map_cons, e1]
    rw [e1] at k1
    exact lv_astore hX.1 hX.2.1 hdg hl hn1 rfl k1
theorem wg_iinc {X : amX} {cc : ByteArray} {own : String} {nL F L : Nat} {rtp : Option FieldType} {β : Type} {enc : β → Option Value} {pc : Nat} {l : List (Nat × Value)} {st : List Value} {P : am1 β} {i : Nat} {n : Int} {x v : Int32} {l' : List (Nat × Value)} (hX : amOK X cc own nL F L rtp) (hdg : decode cc pc = .ok (.iinc i n, 3)) (j : Nat) (hj : l[j]? = some (i, .int x)) (hv0 : x + Int32.ofInt n = v) (hn : i < nL) (hl0 : amSet i (.int v) l = l') (k : WG X enc (pc + 3) l' st P) : WG X enc pc l st P := by
  obtain ⟨⟨p, lc, e, R, s⟩, ⟨m, args, below, meth, c⟩, ⟨D, dA, ad0, φ0, A⟩, ⟨Q, fin⟩⟩ := X
  intro φ S b φ' S' kc ks hP hf ad H locs cells slots ls hI hc hs hv hvl hl
  exact lv_iinc hX.1 hX.2.1 hdg hl (am_loc hj) hv0 (by rw [hX.2.2.1]; exact hn) rfl (fun ls' h' => k φ S b φ' S' kc ks hP hf ad H locs cells slots ls' hI hc hs hv (amVl_set (v := .int v) hvl trivial hl0) (am_has_set (v := .int v) h' rfl hl0))
theorem wg_sub {X : amX} {cc : ByteArray} {own : String} {nL F L : Nat} {rtp : Option FieldType} {β : Type} {enc : β → Option Value} {pc : Nat} {l : List (Nat × Value)} {st : List Value} {P : am1 β} {l' : List (Nat × Value)} (hX : amOK X cc own nL F L rtp) (js : List Nat) (hj : lv_pick l js = l') (k : WG X enc pc l' st P) : WG X enc pc l st P := by
  obtain ⟨⟨p, lc, e, R, s⟩, ⟨m, args, below, meth, c⟩, ⟨D, dA, ad0, φ0, A⟩, ⟨Q, fin⟩⟩ := X
  intro φ S b φ' S' kc ks hP hf ad H locs cells slots ls hI hc hs hv hvl hl
  exact k φ S b φ' S' kc ks hP hf ad H locs cells slots ls hI hc hs hv (amVl_pick hvl hj) (am_has_pick hl hj)
theorem wg_if_eq {X : amX} {cc : ByteArray} {own : String} {nL F L : Nat} {rtp : Option FieldType} {β : Type} {enc : β → Option Value} {pc : Nat} {l : List (Nat × Value)} {st : List Value} {P : am1 β} {x : Int32} {off : Int} {tgt : Nat} (hX : amOK X cc own nL F L rtp) (hdg : decode cc pc = .ok (.ifCond .eq off, 3)) (ht : (pc : Int) + off = (tgt : Int)) (kt : x = 0 → WG X enc tgt l st P) (kf : ¬ x = 0 → WG X enc (pc + 3) l st P) : WG X enc pc l (.int x :: st) P := by
  obtain ⟨⟨p, lc, e, R, s⟩, ⟨m, args, below, meth, c⟩, ⟨D, dA, ad0, φ0, A⟩, ⟨Q, fin⟩⟩ := X
  intro φ S b φ' S' kc ks hP hf ad H locs cells slots ls hI hc hs hv hvl hl
  exact lv_if_eq hX.1 hX.2.1 hdg ht (fun h => kt h φ S b φ' S' kc ks hP hf ad H locs cells slots ls hI hc hs hv.2 hvl hl) (fun h => kf h φ S b φ' S' kc ks hP hf ad H locs cells slots ls hI hc hs hv.2 hvl hl)
theorem wg_if_ne {X : amX} {cc : ByteArray} {own : String} {nL F L : Nat} {rtp : Option FieldType} {β : Type} {enc : β → Option Value} {pc : Nat} {l : List (Nat × Value)} {st : List Value} {P : am1 β} {x : Int32} {off : Int} {tgt : Nat} (hX : amOK X cc own nL F L rtp) (hdg : decode cc pc = .ok (.ifCond .ne off, 3)) (ht : (pc : Int) + off = (tgt : Int)) (kf : x = 0 → WG X enc (pc + 3) l st P) (kt : ¬ x = 0 → WG X enc tgt l st P) : WG X enc pc l (.int x :: st) P := by
  obtain ⟨⟨p, lc, e, R, s⟩, ⟨m, args, below, meth, c⟩, ⟨D, dA, ad0, φ0, A⟩, ⟨Q, fin⟩⟩ := X
  intro φ S b φ' S' kc ks hP hf ad H locs cells slots ls hI hc hs hv hvl hl
  exact lv_if_ne hX.1 hX.2.1 hdg ht (fun h => kt h φ S b φ' S' kc ks hP hf ad H locs cells slots ls hI hc hs hv.2 hvl hl) (fun h => kf h φ S b φ' S' kc ks hP hf ad H locs cells slots ls hI hc hs hv.2 hvl hl)
theorem wg_if_lt {X : amX} {cc : ByteArray} {own : String} {nL F L : Nat} {rtp : Option FieldType} {β : Type} {enc : β → Option Value} {pc : Nat} {l : List (Nat × Value)} {st : List Value} {P : am1 β} {x : Int32} {off : Int} {tgt : Nat} (hX : amOK X cc own nL F L rtp) (hdg : decode cc pc = .ok (.ifCond .lt off, 3)) (ht : (pc : Int) + off = (tgt : Int)) (kt : x < 0 → WG X enc tgt l st P) (kf : ¬ x < 0 → WG X enc (pc + 3) l st P) : WG X enc pc l (.int x :: st) P := by
  obtain ⟨⟨p, lc, e, R, s⟩, ⟨m, args, below, meth, c⟩, ⟨D, dA, ad0, φ0, A⟩, ⟨Q, fin⟩⟩ := X
  intro φ S b φ' S' kc ks hP hf ad H locs cells slots ls hI hc hs hv hvl hl
  exact lv_if_lt hX.1 hX.2.1 hdg ht (fun h => kt h φ S b φ' S' kc ks hP hf ad H locs cells slots ls hI hc hs hv.2 hvl hl) (fun h => kf h φ S b φ' S' kc ks hP hf ad H locs cells slots ls hI hc hs hv.2 hvl hl)
theorem wg_if_ge {X : amX} {cc : ByteArray} {own : String} {nL F L : Nat} {rtp : Option FieldType} {β : Type} {enc : β → Option Value} {pc : Nat} {l : List (Nat × Value)} {st : List Value} {P : am1 β} {x : Int32} {off : Int} {tgt : Nat} (hX : amOK X cc own nL F L rtp) (hdg : decode cc pc = .ok (.ifCond .ge off, 3)) (ht : (pc : Int) + off = (tgt : Int)) (kt : 0 ≤ x → WG X enc tgt l st P) (kf : ¬ 0 ≤ x → WG X enc (pc + 3) l st P) : WG X enc pc l (.int x :: st) P := by
  obtain ⟨⟨p, lc, e, R, s⟩, ⟨m, args, below, meth, c⟩, ⟨D, dA, ad0, φ0, A⟩, ⟨Q, fin⟩⟩ := X
  intro φ S b φ' S' kc ks hP hf ad H locs cells slots ls hI hc hs hv hvl hl
  exact lv_if_ge hX.1 hX.2.1 hdg ht (fun h => kt h φ S b φ' S' kc ks hP hf ad H locs cells slots ls hI hc hs hv.2 hvl hl) (fun h => kf h φ S b φ' S' kc ks hP hf ad H locs cells slots ls hI hc hs hv.2 hvl hl)
theorem wg_if_gt {X : amX} {cc : ByteArray} {own : String} {nL F L : Nat} {rtp : Option FieldType} {β : Type} {enc : β → Option Value} {pc : Nat} {l : List (Nat × Value)} {st : List Value} {P : am1 β} {x : Int32} {off : Int} {tgt : Nat} (hX : amOK X cc own nL F L rtp) (hdg : decode cc pc = .ok (.ifCond .gt off, 3)) (ht : (pc : Int) + off = (tgt : Int)) (kt : 0 < x → WG X enc tgt l st P) (kf : ¬ 0 < x → WG X enc (pc + 3) l st P) : WG X enc pc l (.int x :: st) P := by
  obtain ⟨⟨p, lc, e, R, s⟩, ⟨m, args, below, meth, c⟩, ⟨D, dA, ad0, φ0, A⟩, ⟨Q, fin⟩⟩ := X
  intro φ S b φ' S' kc ks hP hf ad H locs cells slots ls hI hc hs hv hvl hl
  exact lv_if_gt hX.1 hX.2.1 hdg ht (fun h => kt h φ S b φ' S' kc ks hP hf ad H locs cells slots ls hI hc hs hv.2 hvl hl) (fun h => kf h φ S b φ' S' kc ks hP hf ad H locs cells slots ls hI hc hs hv.2 hvl hl)
theorem wg_if_le {X : amX} {cc : ByteArray} {own : String} {nL F L : Nat} {rtp : Option FieldType} {β : Type} {enc : β → Option Value} {pc : Nat} {l : List (Nat × Value)} {st : List Value} {P : am1 β} {x : Int32} {off : Int} {tgt : Nat} (hX : amOK X cc own nL F L rtp) (hdg : decode cc pc = .ok (.ifCond .le off, 3)) (ht : (pc : Int) + off = (tgt : Int)) (kt : x ≤ 0 → WG X enc tgt l st P) (kf : ¬ x ≤ 0 → WG X enc (pc + 3) l st P) : WG X enc pc l (.int x :: st) P := by
  obtain ⟨⟨p, lc, e, R, s⟩, ⟨m, args, below, meth, c⟩, ⟨D, dA, ad0, φ0, A⟩, ⟨Q, fin⟩⟩ := X
  intro φ S b φ' S' kc ks hP hf ad H locs cells slots ls hI hc hs hv hvl hl
  exact lv_if_le hX.1 hX.2.1 hdg ht (fun h => kt h φ S b φ' S' kc ks hP hf ad H locs cells slots ls hI hc hs hv.2 hvl hl) (fun h => kf h φ S b φ' S' kc ks hP hf ad H locs cells slots ls hI hc hs hv.2 hvl hl)
theorem wg_icmp_eq {X : amX} {cc : ByteArray} {own : String} {nL F L : Nat} {rtp : Option FieldType} {β : Type} {enc : β → Option Value} {pc : Nat} {l : List (Nat × Value)} {st : List Value} {P : am1 β} {x y : Int32} {off : Int} {tgt : Nat} (hX : amOK X cc own nL F L rtp) (hdg : decode cc pc = .ok (.if_icmp .eq off, 3)) (ht : (pc : Int) + off = (tgt : Int)) (kt : x = y → WG X enc tgt l st P) (kf : ¬ x = y → WG X enc (pc + 3) l st P) : WG X enc pc l (.int y :: .int x :: st) P := by
  obtain ⟨⟨p, lc, e, R, s⟩, ⟨m, args, below, meth, c⟩, ⟨D, dA, ad0, φ0, A⟩, ⟨Q, fin⟩⟩ := X
  intro φ S b φ' S' kc ks hP hf ad H locs cells slots ls hI hc hs hv hvl hl
  exact lv_icmp_eq hX.1 hX.2.1 hdg ht (fun h => kt h φ S b φ' S' kc ks hP hf ad H locs cells slots ls hI hc hs hv.2.2 hvl hl) (fun h => kf h φ S b φ' S' kc ks hP hf ad H locs cells slots ls hI hc hs hv.2.2 hvl hl)
theorem wg_icmp_ne {X : amX} {cc : ByteArray} {own : String} {nL F L : Nat} {rtp : Option FieldType} {β : Type} {enc : β → Option Value} {pc : Nat} {l : List (Nat × Value)} {st : List Value} {P : am1 β} {x y : Int32} {off : Int} {tgt : Nat} (hX : amOK X cc own nL F L rtp) (hdg : decode cc pc = .ok (.if_icmp .ne off, 3)) (ht : (pc : Int) + off = (tgt : Int)) (kf : x = y → WG X enc (pc + 3) l st P) (kt : ¬ x = y → WG X enc tgt l st P) : WG X enc pc l (.int y :: .int x :: st) P := by
  obtain ⟨⟨p, lc, e, R, s⟩, ⟨m, args, below, meth, c⟩, ⟨D, dA, ad0, φ0, A⟩, ⟨Q, fin⟩⟩ := X
  intro φ S b φ' S' kc ks hP hf ad H locs cells slots ls hI hc hs hv hvl hl
  exact lv_icmp_ne hX.1 hX.2.1 hdg ht (fun h => kt h φ S b φ' S' kc ks hP hf ad H locs cells slots ls hI hc hs hv.2.2 hvl hl) (fun h => kf h φ S b φ' S' kc ks hP hf ad H locs cells slots ls hI hc hs hv.2.2 hvl hl)
theorem wg_icmp_lt {X : amX} {cc : ByteArray} {own : String} {nL F L : Nat} {rtp : Option FieldType} {β : Type} {enc : β → Option Value} {pc : Nat} {l : List (Nat × Value)} {st : List Value} {P : am1 β} {x y : Int32} {off : Int} {tgt : Nat} (hX : amOK X cc own nL F L rtp) (hdg : decode cc pc = .ok (.if_icmp .lt off, 3)) (ht : (pc : Int) + off = (tgt : Int)) (kt : x < y → WG X enc tgt l st P) (kf : ¬ x < y → WG X enc (pc + 3) l st P) : WG X enc pc l (.int y :: .int x :: st) P := by
  obtain ⟨⟨p, lc, e, R, s⟩, ⟨m, args, below, meth, c⟩, ⟨D, dA, ad0, φ0, A⟩, ⟨Q, fin⟩⟩ := X
  intro φ S b φ' S' kc ks hP hf ad H locs cells slots ls hI hc hs hv hvl hl
  exact lv_icmp_lt hX.1 hX.2.1 hdg ht (fun h => kt h φ S b φ' S' kc ks hP hf ad H locs cells slots ls hI hc hs hv.2.2 hvl hl) (fun h => kf h φ S b φ' S' kc ks hP hf ad H locs cells slots ls hI hc hs hv.2.2 hvl hl)
theorem wg_icmp_ge {X : amX} {cc : ByteArray} {own : String} {nL F L : Nat} {rtp : Option FieldType} {β : Type} {enc : β → Option Value} {pc : Nat} {l : List (Nat × Value)} {st : List Value} {P : am1 β} {x y : Int32} {off : Int} {tgt : Nat} (hX : amOK X cc own nL F L rtp) (hdg : decode cc pc = .ok (.if_icmp .ge off, 3)) (ht : (pc : Int) + off = (tgt : Int)) (kt : y ≤ x → WG X enc tgt l st P) (kf : ¬ y ≤ x → WG X enc (pc + 3) l st P) : WG X enc pc l (.int y :: .int x :: st) P := by
  obtain ⟨⟨p, lc, e, R, s⟩, ⟨m, args, below, meth, c⟩, ⟨D, dA, ad0, φ0, A⟩, ⟨Q, fin⟩⟩ := X
  intro φ S b φ' S' kc ks hP hf ad H locs cells slots ls hI hc hs hv hvl hl
  exact lv_icmp_ge hX.1 hX.2.1 hdg ht (fun h => kt h φ S b φ' S' kc ks hP hf ad H locs cells slots ls hI hc hs hv.2.2 hvl hl) (fun h => kf h φ S b φ' S' kc ks hP hf ad H locs cells slots ls hI hc hs hv.2.2 hvl hl)
theorem wg_icmp_gt {X : amX} {cc : ByteArray} {own : String} {nL F L : Nat} {rtp : Option FieldType} {β : Type} {enc : β → Option Value} {pc : Nat} {l : List (Nat × Value)} {st : List Value} {P : am1 β} {x y : Int32} {off : Int} {tgt : Nat} (hX : amOK X cc own nL F L rtp) (hdg : decode cc pc = .ok (.if_icmp .gt off, 3)) (ht : (pc : Int) + off = (tgt : Int)) (kt : y < x → WG X enc tgt l st P) (kf : ¬ y < x → WG X enc (pc + 3) l st P) : WG X enc pc l (.int y :: .int x :: st) P := by
  obtain ⟨⟨p, lc, e, R, s⟩, ⟨m, args, below, meth, c⟩, ⟨D, dA, ad0, φ0, A⟩, ⟨Q, fin⟩⟩ := X
  intro φ S b φ' S' kc ks hP hf ad H locs cells slots ls hI hc hs hv hvl hl
  exact lv_icmp_gt hX.1 hX.2.1 hdg ht (fun h => kt h φ S b φ' S' kc ks hP hf ad H locs cells slots ls hI hc hs hv.2.2 hvl hl) (fun h => kf h φ S b φ' S' kc ks hP hf ad H locs cells slots ls hI hc hs hv.2.2 hvl hl)
theorem wg_icmp_le {X : amX} {cc : ByteArray} {own : String} {nL F L : Nat} {rtp : Option FieldType} {β : Type} {enc : β → Option Value} {pc : Nat} {l : List (Nat × Value)} {st : List Value} {P : am1 β} {x y : Int32} {off : Int} {tgt : Nat} (hX : amOK X cc own nL F L rtp) (hdg : decode cc pc = .ok (.if_icmp .le off, 3)) (ht : (pc : Int) + off = (tgt : Int)) (kt : x ≤ y → WG X enc tgt l st P) (kf : ¬ x ≤ y → WG X enc (pc + 3) l st P) : WG X enc pc l (.int y :: .int x :: st) P := by
  obtain ⟨⟨p, lc, e, R, s⟩, ⟨m, args, below, meth, c⟩, ⟨D, dA, ad0, φ0, A⟩, ⟨Q, fin⟩⟩ := X
  intro φ S b φ' S' kc ks hP hf ad H locs cells slots ls hI hc hs hv hvl hl
  exact lv_icmp_le hX.1 hX.2.1 hdg ht (fun h => kt h φ S b φ' S' kc ks hP hf ad H locs cells slots ls hI hc hs hv.2.2 hvl hl) (fun h => kf h φ S b φ' S' kc ks hP hf ad H locs cells slots ls hI hc hs hv.2.2 hvl hl)
theorem wg_acmp_eq {X : amX} {cc : ByteArray} {own : String} {nL F L : Nat} {rtp : Option FieldType} {β : Type} {enc : β → Option Value} {pc : Nat} {l : List (Nat × Value)} {st : List Value} {P : am1 β} {q x y : Nat} {off : Int} {tgt : Nat} (hX : amOK X cc own nL F L rtp) (hq : q < 250) (hdg : decode cc pc = .ok (.if_acmp .eq off, 3)) (ht : (pc : Int) + off = (tgt : Int)) (kt : x = y → WG X enc tgt l st P) (kf : ¬ x = y → WG X enc (pc + 3) l st P) : WG X enc pc l (.ref (rid q y) :: .ref (rid q x) :: st) P := by
  obtain ⟨⟨p, lc, e, R, s⟩, ⟨m, args, below, meth, c⟩, ⟨D, dA, ad0, φ0, A⟩, ⟨Q, fin⟩⟩ := X
  intro φ S b φ' S' kc ks hP hf ad H locs cells slots ls hI hc hs hv hvl hl
  have hxy : rad ad q x = rad ad q y ↔ x = y := am_radI hI.1 hq (amV_r (by omega) hv.2.1) (amV_r (by omega) hv.1)
  rw [List.map_cons, List.map_cons, cn_rad (by omega), cn_rad (by omega)]
  exact lv_acmp_eq hX.1 hX.2.1 hdg ht (fun h => kt (by rw [hxy] at h; exact h) φ S b φ' S' kc ks hP hf ad H locs cells slots ls hI hc hs hv.2.2 hvl hl) (fun h => kf (by rw [hxy] at h; exact h) φ S b φ' S' kc ks hP hf ad H locs cells slots ls hI hc hs hv.2.2 hvl hl)
theorem wg_acmp_ne {X : amX} {cc : ByteArray} {own : String} {nL F L : Nat} {rtp : Option FieldType} {β : Type} {enc : β → Option Value} {pc : Nat} {l : List (Nat × Value)} {st : List Value} {P : am1 β} {q x y : Nat} {off : Int} {tgt : Nat} (hX : amOK X cc own nL F L rtp) (hq : q < 250) (hdg : decode cc pc = .ok (.if_acmp .ne off, 3)) (ht : (pc : Int) + off = (tgt : Int)) (kf : x = y → WG X enc (pc + 3) l st P) (kt : ¬ x = y → WG X enc tgt l st P) : WG X enc pc l (.ref (rid q y) :: .ref (rid q x) :: st) P := by
  obtain ⟨⟨p, lc, e, R, s⟩, ⟨m, args, below, meth, c⟩, ⟨D, dA, ad0, φ0, A⟩, ⟨Q, fin⟩⟩ := X
  intro φ S b φ' S' kc ks hP hf ad H locs cells slots ls hI hc hs hv hvl hl
  have hxy : rad ad q x = rad ad q y ↔ x = y := am_radI hI.1 hq (amV_r (by omega) hv.2.1) (amV_r (by omega) hv.1)
  rw [List.map_cons, List.map_cons, cn_rad (by omega), cn_rad (by omega)]
  exact lv_acmp_ne hX.1 hX.2.1 hdg ht (fun h => kt (by rw [hxy] at h; exact h) φ S b φ' S' kc ks hP hf ad H locs cells slots ls hI hc hs hv.2.2 hvl hl) (fun h => kf (by rw [hxy] at h; exact h) φ S b φ' S' kc ks hP hf ad H locs cells slots ls hI hc hs hv.2.2 hvl hl)
theorem wg_ifnull {X : amX} {cc : ByteArray} {own : String} {nL F L : Nat} {rtp : Option FieldType} {β : Type} {enc : β → Option Value} {pc : Nat} {l : List (Nat × Value)} {st : List Value} {P : am1 β} {q x : Nat} {off : Int} {tgt : Nat} (hX : amOK X cc own nL F L rtp) (hq : q < 256) (hdg : decode cc pc = .ok (.ifnull off, 3)) (ht : (pc : Int) + off = (tgt : Int)) (kz : x = 0 → WG X enc tgt l st P) (kn : ¬ x = 0 → WG X enc (pc + 3) l st P) : WG X enc pc l (.ref (rid q x) :: st) P := by
  obtain ⟨⟨p, lc, e, R, s⟩, ⟨m, args, below, meth, c⟩, ⟨D, dA, ad0, φ0, A⟩, ⟨Q, fin⟩⟩ := X
  intro φ S b φ' S' kc ks hP hf ad H locs cells slots ls hI hc hs hv hvl hl
  by_cases hx : x = 0
  · have e1 : cn ad (.ref (rid q x)) = .null := by rw [hx]; exact cn_nul hq
    rw [List.map_cons, e1]
    exact lv_ifnullN hX.1 hX.2.1 hdg ht (kz hx φ S b φ' S' kc ks hP hf ad H locs cells slots ls hI hc hs hv.2 hvl hl)
  · rw [List.map_cons, cn_rid hx]
    exact lv_ifnull hX.1 hX.2.1 hdg (kn hx φ S b φ' S' kc ks hP hf ad H locs cells slots ls hI hc hs hv.2 hvl hl)
theorem wg_ifnonnull {X : amX} {cc : ByteArray} {own : String} {nL F L : Nat} {rtp : Option FieldType} {β : Type} {enc : β → Option Value} {pc : Nat} {l : List (Nat × Value)} {st : List Value} {P : am1 β} {q x : Nat} {off : Int} {tgt : Nat} (hX : amOK X cc own nL F L rtp) (hq : q < 256) (hdg : decode cc pc = .ok (.ifnonnull off, 3)) (ht : (pc : Int) + off = (tgt : Int)) (kz : x = 0 → WG X enc (pc + 3) l st P) (kn : ¬ x = 0 → WG X enc tgt l st P) : WG X enc pc l (.ref (rid q x) :: st) P := by
  obtain ⟨⟨p, lc, e, R, s⟩, ⟨m, args, below, meth, c⟩, ⟨D, dA, ad0, φ0, A⟩, ⟨Q, fin⟩⟩ := X
  intro φ S b φ' S' kc ks hP hf ad H locs cells slots ls hI hc hs hv hvl hl
  by_cases hx : x = 0
  · have e1 : cn ad (.ref (rid q x)) = .null := by rw [hx]; exact cn_nul hq
    rw [List.map_cons, e1]
    exact lv_ifnonnullN hX.1 hX.2.1 hdg (kz hx φ S b φ' S' kc ks hP hf ad H locs cells slots ls hI hc hs hv.2 hvl hl)
  · rw [List.map_cons, cn_rid hx]
    exact lv_ifnonnull hX.1 hX.2.1 hdg ht (kn hx φ S b φ' S' kc ks hP hf ad H locs cells slots ls hI hc hs hv.2 hvl hl)
theorem wg_null {X : amX} {cc : ByteArray} {own : String} {nL F L : Nat} {rtp : Option FieldType} {β : Type} {enc : β → Option Value} {pc : Nat} {l : List (Nat × Value)} {st : List Value} {P : am1 β} {q : Nat} (hX : amOK X cc own nL F L rtp) (hq : q < 256) (hdg : decode cc pc = .ok (.aconst_null, 1)) (k : WG X enc (pc + 1) l (.ref (rid q 0) :: st) P) : WG X enc pc l st P := by
  obtain ⟨⟨p, lc, e, R, s⟩, ⟨m, args, below, meth, c⟩, ⟨D, dA, ad0, φ0, A⟩, ⟨Q, fin⟩⟩ := X
  intro φ S b φ' S' kc ks hP hf ad H locs cells slots ls hI hc hs hv hvl hl
  have k1 := k φ S b φ' S' kc ks hP hf ad H locs cells slots ls hI hc hs ⟨amV_mk hq (Nat.zero_le _), hv⟩ hvl hl
  rw [List.map_cons, cn_nul hq] at k1
  exact lv_null hX.1 hX.2.1 hdg k1
theorem wg_tableIn {X : amX} {cc : ByteArray} {own : String} {nL F L : Nat} {rtp : Option FieldType} {β : Type} {enc : β → Option Value} {pc : Nat} {l : List (Nat × Value)} {st : List Value} {P : am1 β} {dflt lo hi : Int} {offs : Array Int} {len : Nat} {x : Int32} {off : Int} {tgt : Nat} (hX : amOK X cc own nL F L rtp) (hdg : decode cc pc = .ok (.tableswitch dflt lo hi offs, len)) (h1 : ¬ x.toInt < lo) (h2 : ¬ hi < x.toInt) (ho : offs[(x.toInt - lo).toNat]? = some off) (ht : (pc : Int) + off = (tgt : Int)) (k : WG X enc tgt l st P) : WG X enc pc l (.int x :: st) P := by
  obtain ⟨⟨p, lc, e, R, s⟩, ⟨m, args, below, meth, c⟩, ⟨D, dA, ad0, φ0, A⟩, ⟨Q, fin⟩⟩ := X
  intro φ S b φ' S' kc ks hP hf ad H locs cells slots ls hI hc hs hv hvl hl
  exact lv_tableIn hX.1 hX.2.1 hdg h1 h2 ho ht (k φ S b φ' S' kc ks hP hf ad H locs cells slots ls hI hc hs hv.2 hvl hl)
theorem wg_tableOut {X : amX} {cc : ByteArray} {own : String} {nL F L : Nat} {rtp : Option FieldType} {β : Type} {enc : β → Option Value} {pc : Nat} {l : List (Nat × Value)} {st : List Value} {P : am1 β} {dflt lo hi : Int} {offs : Array Int} {len : Nat} {x : Int32} {tgt : Nat} (hX : amOK X cc own nL F L rtp) (hdg : decode cc pc = .ok (.tableswitch dflt lo hi offs, len)) (h : x.toInt < lo ∨ hi < x.toInt) (ht : (pc : Int) + dflt = (tgt : Int)) (k : WG X enc tgt l st P) : WG X enc pc l (.int x :: st) P := by
  obtain ⟨⟨p, lc, e, R, s⟩, ⟨m, args, below, meth, c⟩, ⟨D, dA, ad0, φ0, A⟩, ⟨Q, fin⟩⟩ := X
  intro φ S b φ' S' kc ks hP hf ad H locs cells slots ls hI hc hs hv hvl hl
  exact lv_tableOut hX.1 hX.2.1 hdg h ht (k φ S b φ' S' kc ks hP hf ad H locs cells slots ls hI hc hs hv.2 hvl hl)
