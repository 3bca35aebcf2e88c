/-! wrappers by the kind of answer, lists of words -/
theorem lw_U {own : String} {idx : Nat} {C owner : String} {x y : MethodName} {b : ByteArray} {L : Nat} {r : Option FieldType} (h1 : Cond.methodLink own idx x ∈ lw_all) (h2 : Cond.sameMethod x.cls owner x.name x.desc ∈ lw_all) (h3 : Cond.selects C x y ∈ lw_all) (h4 : Cond.instanceMethod y ∈ lw_all) (h5 : Cond.initialized y.cls ∈ lw_all) (h6 : Cond.code y b L r ∈ lw_all) : GoodIn lw_all (va_wsU own idx C owner x y (ws_ y b L r)) := by
  refine lw_app ?_ (lw_meth h6)
  intro w hw
  simp only [List.mem_cons, List.not_mem_nil, or_false] at hw
  rcases hw with e | e | e | e | e
  · rw [e]; exact h1
  · rw [e]; exact h2
  · rw [e]; exact h3
  · rw [e]; exact h4
  · rw [e]; exact h5
theorem lw_F {own : String} {idx : Nat} {C : String} {x y : MethodName} {b : ByteArray} {L : Nat} {r : Option FieldType} (h1 : Cond.methodLink own idx x ∈ lw_all) (h3 : Cond.selects C x y ∈ lw_all) (h4 : Cond.instanceMethod y ∈ lw_all) (h5 : Cond.initialized y.cls ∈ lw_all) (h6 : Cond.code y b L r ∈ lw_all) : GoodIn lw_all (va_wsF own idx C x y (ws_ y b L r)) := by
  refine lw_app ?_ (lw_meth h6)
  intro w hw
  simp only [List.mem_cons, List.not_mem_nil, or_false] at hw
  rcases hw with e | e | e | e
  · rw [e]; exact h1
  · rw [e]; exact h3
  · rw [e]; exact h4
  · rw [e]; exact h5
theorem lw_SU {own : String} {idx : Nat} {y : MethodName} {b : ByteArray} {L : Nat} {r : Option FieldType} (h1 : Cond.methodLink own idx y ∈ lw_all) (h2 : Cond.sameMethod y.cls y.cls y.name y.desc ∈ lw_all) (h3 : Cond.superclass own y.cls ∈ lw_all) (h4 : Cond.instanceMethod y ∈ lw_all) (h5 : Cond.initialized y.cls ∈ lw_all) (h6 : Cond.code y b L r ∈ lw_all) : GoodIn lw_all (va_wsSU own idx y (ws_ y b L r)) := by
  refine lw_app ?_ (lw_meth h6)
  intro w hw
  simp only [List.mem_cons, List.not_mem_nil, or_false] at hw
  rcases hw with e | e | e | e | e
  · rw [e]; exact h1
  · rw [e]; exact h2
  · rw [e]; exact h3
  · rw [e]; exact h4
  · rw [e]; exact h5
theorem amMet.none {β : Type} {y : MethodName} {cc : ByteArray} {nL : Nat} {rtp : Option FieldType} {F L : Nat} {enc : β → Option Value} {av : List Value} {P : am1 β} (h : ∀ φ S, P φ S = none) : amMet y cc nL rtp F L enc av P := by
  intro lc hlc D dA ad φ S sz b φ' S' kc ks hP
  rw [h] at hP
  cases hP
/-- a constructor's contract out of its walk -/
theorem amMet.ofI {β : Type} {y : MethodName} {cc : ByteArray} {nL : Nat} {rtp : Option FieldType} {F L : Nat} {enc : β → Option Value} {av : List Value} {P : am1 β} {own : String} (hy : plainName y.cls = true) (ho : y.cls = own) (hL : (lg_sl av).length ≤ nL) (hyn : y.name = "<init>")
    (body : ∀ X : amX, amOK X cc own nL F L rtp → X.2.1.2.2.2.1.name = "<init>" → WG X enc 0 (amArgs 0 av) [] (bd1 P rt1)) : amMet y cc nL rtp F L enc av P := by
  intro lc hlc D dA ad φ S sz b φ' S' kc ks hP hav
  refine Met.ofW (cc := cc) (maxL := nL) (ret := rtp) hy rfl ?_
  intro p e s m args below meth c s₁ B hml hv
  obtain ⟨rfl, hsz, hW, hK, hCo⟩ := hv
  have hin : meth.name = "<init>" := by rw [← hyn]; exact (name_of_methodNamed B.named B.method).1
  have hts := atoms_spec (ws := ws_ y cc nL rtp) B.pre
  have hts : ∀ w ∈ lw_all, w.before _ s = true := fun w h => hts w (List.mem_cons_of_mem _ h)
  have hown : s.vm.findClass own = some m.cls := by rw [← ho]; exact findClass_of_methodNamed B.named
  subst hsz
  have h2 : ∀ vs : List Value, (lg_sl (vs.map (cn ad))).length = (lg_sl vs).length := by
    intro vs
    induction vs with
    | nil => rfl
    | cons v vs ih =>
      simp only [lg_sl, List.map_cons, List.flatMap_cons, List.length_append, cn_cat] at ih ⊢
      rw [ih]
      by_cases h : v.category = 2 <;> simp [h]
  have hl := lv_entry (av.map (cn ad)) (n := nL) (by rw [h2]; exact hL)
  rw [lg_entry_eq]
  generalize (lg_sl (av.map (cn ad)) ++ List.replicate (nL - (lg_sl (av.map (cn ad))).length) Slot.unset).toArray = ls at hl ⊢
  rw [amArgs_cn] at hl
  have := body ((p, lc, e, (headSpec (ws_ y cc nL rtp) ({ frames := F, cells := kc, slots := ks, locals := L })).room, s), (m, ((av.map (cn ad)).toArray), below, meth, c), (D, dA, ad, φ, amA ad φ s.heap.size), (MQ below (amQc D dA ad φ (amA ad φ s.heap.size) (enc b, φ', S')) ((av.map (cn ad)).toArray) s kc ks (amA ad φ s.heap.size), (enc b, φ', S')))
    ⟨B.exec, B.bytes, hml, hown, hts, B.notSynchronized, rfl, rfl, hK, fun q h => Or.inl h, B.returns, fun _ _ _ _ _ _ h => h, hlc, hCo⟩ hin
  exact this φ S b φ' S' kc ks (by rw [bd1_rt]; exact hP) rfl ad s.heap [] 0 0 ls ⟨hW, fun p r h => Or.inr ⟨p, r, h, rfl⟩, va_S.rf, amE.rf⟩ (Nat.zero_add _) (Nat.zero_add _) trivial (fun q hq => amVs_all.mp hav _ (amArgs_mem _ _ _ hq)) (by rw [hml]; exact hl)
section am19
variable {X : amX} {cc : ByteArray} {own : String} {nL F L : Nat} {rtp : Option FieldType} {β : Type} {enc : β → Option Value} {pc : Nat} {l : List (Nat × Value)} {st : List Value}
theorem wg_cIv {m1 : am1 Unit} {g : Unit → am1 β} {q r idx n nLy Fy Ly : Nat} {y : MethodName} {ccy : ByteArray} {As rest st0 : List Value}  (hX : amOK X cc own nL F L rtp) (hM : amMet y ccy nLy none Fy Ly encV (.ref (rid q r) :: As) m1) (h0 : r ≠ 0) (hy1 : y.name = "<init>") (hlw : Cond.methodLink own idx y ∈ lw_all) (hi1 : Cond.instanceMethod y ∈ lw_all) (hi2 : Cond.initialized y.cls ∈ lw_all) (hco : Cond.code y ccy nLy none ∈ lw_all) (hd : y.cls ≠ "java/lang/invoke/MethodHandle" ∧ y.cls ≠ "java/lang/invoke/VarHandle" ∧ (parseMethodDescriptor y.desc).map (fun d => d.parameters.length) = some n) (hn : As.length = n) (hF : Fy + 1 ≤ F) (hLo : 8 + (nLy + 11) + Ly ≤ L) (hw : (rest.map fun v => v.category).sum ≤ 8) (hst : st0 = As.reverse ++ .ref (rid q r) :: rest) (hdg : decode cc pc = .ok (.invokespecial idx, 3)) (k : WG X enc (pc + 3) l rest (g ())) : WG X enc pc l st0 (bd1 m1 g) :=
  wg_cI hX hM h0 hy1 hlw hi1 hi2 hco hd hn hF hLo hw hst hdg (fun a => k)
theorem wg_cINv {m1 : am1 Unit} {g : Unit → am1 β} {q r idx n nLy Fy Ly : Nat} {y : MethodName} {ccy : ByteArray} {As rest st0 : List Value} {host : String} (hX : amOK X cc own nL F L rtp) (hM : amMet y ccy nLy none Fy Ly encV (.ref (rid q r) :: As) m1) (h0 : r ≠ 0) (hy1 : y.name = "<init>") (hlw : Cond.methodLinkNest own idx y host ∈ lw_tbl) (hi1 : Cond.instanceMethod y ∈ lw_all) (hi2 : Cond.initialized y.cls ∈ lw_all) (hco : Cond.code y ccy nLy none ∈ lw_all) (hd : y.cls ≠ "java/lang/invoke/MethodHandle" ∧ y.cls ≠ "java/lang/invoke/VarHandle" ∧ (parseMethodDescriptor y.desc).map (fun d => d.parameters.length) = some n) (hn : As.length = n) (hF : Fy + 1 ≤ F) (hLo : 8 + (nLy + 11) + Ly ≤ L) (hw : (rest.map fun v => v.category).sum ≤ 8) (hst : st0 = As.reverse ++ .ref (rid q r) :: rest) (hdg : decode cc pc = .ok (.invokespecial idx, 3)) (k : WG X enc (pc + 3) l rest (g ())) : WG X enc pc l st0 (bd1 m1 g) :=
  wg_cIN hX hM h0 hy1 hlw hi1 hi2 hco hd hn hF hLo hw hst hdg (fun a => k)
theorem wg_cSUi {m1 : am1 Int32} {g : Int32 → am1 β} {q r idx n nLy Fy Ly : Nat} {y : MethodName} {ccy : ByteArray} {rty : Option FieldType} {As rest st0 : List Value} (hX : amOK X cc own nL F L rtp) (hM : amMet y ccy nLy rty Fy Ly encI (.ref (rid q r) :: As) m1) (hq : q < 250) (hk : am_pk q = 0) (h0 : r ≠ 0) (hrc : ∀ c ∈ am_kl q, ∃ (C1 : String) (T1 : u_T) (N1 : Nat), am_cl[c]? = some (C1, T1, N1)) (hG : GoodIn lw_all (va_wsSU own idx y (ws_ y ccy nLy rty))) (hd : y.name ≠ "<init>" ∧ (parseMethodDescriptor y.desc).map (fun d => d.parameters.length) = some n) (hn : As.length = n) (hF : Fy + 1 ≤ F) (hLo : 8 + (nLy + 11) + Ly ≤ L) (hw : (rest.map fun v => v.category).sum ≤ 8) (hst : st0 = As.reverse ++ .ref (rid q r) :: rest) (hdg : decode cc pc = .ok (.invokespecial idx, 3)) (k : ∀ a : Int32, WG X enc (pc + 3) l (.int a :: rest) (g a)) : WG X enc pc l st0 (bd1 m1 g) :=
  wg_cSU hX hM hq hk h0 hrc hG hd hn hF hLo hw hst hdg (fun a => k a)
theorem wg_vci {f : Nat → am1 Int32} {g : Int32 → am1 β} {q r idx n : Nat} {x : MethodName} {As rest st0 : List Value} (hX : amOK X cc own nL F L rtp) (hq : q < 250) (hk : am_pk q = 0) (hsel : ∀ c ∈ am_kl q, (∀ φ S, f c φ S = none) ∨ ∃ (C : String) (T : u_T) (N : Nat) (y : MethodName) (ccy : ByteArray) (nLy : Nat) (rty : Option FieldType) (Fy Ly : Nat), am_cl[c]? = some (C, T, N) ∧ amSel own idx C x y ccy nLy rty n ∧ amMet y ccy nLy rty Fy Ly encI (.ref (rid q r) :: As) (f c) ∧ Fy + 1 ≤ F ∧ 8 + (nLy + 11) + Ly ≤ L) (hn : As.length = n) (hw : (rest.map fun v => v.category).sum ≤ 8) (hst : st0 = As.reverse ++ .ref (rid q r) :: rest) (hdg : decode cc pc = .ok (.invokevirtual idx, 3)) (k : ∀ a : Int32, WG X enc (pc + 3) l (.int a :: rest) (g a)) : WG X enc pc l st0 (bd1 (vc1 q r f) g) := by
  exact wg_vc (encz := encI) hX hq hk hsel hn hw hst hdg (fun a => k a)
theorem wg_vciu {f : Nat → am0 Int32} {g : Int32 → am1 β} {q r idx n : Nat} {x : MethodName} {As rest st0 : List Value} (hX : amOK X cc own nL F L rtp) (hq : q < 250) (hk : am_pk q = 0) (hsel : ∀ c ∈ am_kl q, (∀ φ S, (up (f c)) φ S = none) ∨ ∃ (C : String) (T : u_T) (N : Nat) (y : MethodName) (ccy : ByteArray) (nLy : Nat) (rty : Option FieldType) (Fy Ly : Nat), am_cl[c]? = some (C, T, N) ∧ amSel own idx C x y ccy nLy rty n ∧ amMet y ccy nLy rty Fy Ly encI (.ref (rid q r) :: As) (up (f c)) ∧ Fy + 1 ≤ F ∧ 8 + (nLy + 11) + Ly ≤ L) (hn : As.length = n) (hw : (rest.map fun v => v.category).sum ≤ 8) (hst : st0 = As.reverse ++ .ref (rid q r) :: rest) (hdg : decode cc pc = .ok (.invokevirtual idx, 3)) (k : ∀ a : Int32, WG X enc (pc + 3) l (.int a :: rest) (g a)) : WG X enc pc l st0 (bd1 (up (vc q r f)) g) := by
  rw [up_vc]
  exact wg_vc (encz := encI) hX hq hk hsel hn hw hst hdg (fun a => k a)
theorem wg_vcv {f : Nat → am1 Unit} {g : Unit → am1 β} {q r idx n : Nat} {x : MethodName} {As rest st0 : List Value} (hX : amOK X cc own nL F L rtp) (hq : q < 250) (hk : am_pk q = 0) (hsel : ∀ c ∈ am_kl q, (∀ φ S, f c φ S = none) ∨ ∃ (C : String) (T : u_T) (N : Nat) (y : MethodName) (ccy : ByteArray) (nLy : Nat) (rty : Option FieldType) (Fy Ly : Nat), am_cl[c]? = some (C, T, N) ∧ amSel own idx C x y ccy nLy rty n ∧ amMet y ccy nLy rty Fy Ly encV (.ref (rid q r) :: As) (f c) ∧ Fy + 1 ≤ F ∧ 8 + (nLy + 11) + Ly ≤ L) (hn : As.length = n) (hw : (rest.map fun v => v.category).sum ≤ 8) (hst : st0 = As.reverse ++ .ref (rid q r) :: rest) (hdg : decode cc pc = .ok (.invokevirtual idx, 3)) (k : WG X enc (pc + 3) l rest (g ())) : WG X enc pc l st0 (bd1 (vc1 q r f) g) := by
  exact wg_vc (encz := encV) hX hq hk hsel hn hw hst hdg (fun a => k)
theorem wg_vcvu {f : Nat → am0 Unit} {g : Unit → am1 β} {q r idx n : Nat} {x : MethodName} {As rest st0 : List Value} (hX : amOK X cc own nL F L rtp) (hq : q < 250) (hk : am_pk q = 0) (hsel : ∀ c ∈ am_kl q, (∀ φ S, (up (f c)) φ S = none) ∨ ∃ (C : String) (T : u_T) (N : Nat) (y : MethodName) (ccy : ByteArray) (nLy : Nat) (rty : Option FieldType) (Fy Ly : Nat), am_cl[c]? = some (C, T, N) ∧ amSel own idx C x y ccy nLy rty n ∧ amMet y ccy nLy rty Fy Ly encV (.ref (rid q r) :: As) (up (f c)) ∧ Fy + 1 ≤ F ∧ 8 + (nLy + 11) + Ly ≤ L) (hn : As.length = n) (hw : (rest.map fun v => v.category).sum ≤ 8) (hst : st0 = As.reverse ++ .ref (rid q r) :: rest) (hdg : decode cc pc = .ok (.invokevirtual idx, 3)) (k : WG X enc (pc + 3) l rest (g ())) : WG X enc pc l st0 (bd1 (up (vc q r f)) g) := by
  rw [up_vc]
  exact wg_vc (encz := encV) hX hq hk hsel hn hw hst hdg (fun a => k)
theorem wg_vcd {f : Nat → am1 UInt64} {g : UInt64 → am1 β} {q r idx n : Nat} {x : MethodName} {As rest st0 : List Value} (hX : amOK X cc own nL F L rtp) (hq : q < 250) (hk : am_pk q = 0) (hsel : ∀ c ∈ am_kl q, (∀ φ S, f c φ S = none) ∨ ∃ (C : String) (T : u_T) (N : Nat) (y : MethodName) (ccy : ByteArray) (nLy : Nat) (rty : Option FieldType) (Fy Ly : Nat), am_cl[c]? = some (C, T, N) ∧ amSel own idx C x y ccy nLy rty n ∧ amMet y ccy nLy rty Fy Ly encD (.ref (rid q r) :: As) (f c) ∧ Fy + 1 ≤ F ∧ 8 + (nLy + 11) + Ly ≤ L) (hn : As.length = n) (hw : (rest.map fun v => v.category).sum ≤ 8) (hst : st0 = As.reverse ++ .ref (rid q r) :: rest) (hdg : decode cc pc = .ok (.invokevirtual idx, 3)) (k : ∀ a : UInt64, WG X enc (pc + 3) l (.double a :: rest) (g a)) : WG X enc pc l st0 (bd1 (vc1 q r f) g) := by
  exact wg_vc (encz := encD) hX hq hk hsel hn hw hst hdg (fun a => k a)
theorem wg_vcdu {f : Nat → am0 UInt64} {g : UInt64 → am1 β} {q r idx n : Nat} {x : MethodName} {As rest st0 : List Value} (hX : amOK X cc own nL F L rtp) (hq : q < 250) (hk : am_pk q = 0) (hsel : ∀ c ∈ am_kl q, (∀ φ S, (up (f c)) φ S = none) ∨ ∃ (C : String) (T : u_T) (N : Nat) (y : MethodName) (ccy : ByteArray) (nLy : Nat) (rty : Option FieldType) (Fy Ly : Nat), am_cl[c]? = some (C, T, N) ∧ amSel own idx C x y ccy nLy rty n ∧ amMet y ccy nLy rty Fy Ly encD (.ref (rid q r) :: As) (up (f c)) ∧ Fy + 1 ≤ F ∧ 8 + (nLy + 11) + Ly ≤ L) (hn : As.length = n) (hw : (rest.map fun v => v.category).sum ≤ 8) (hst : st0 = As.reverse ++ .ref (rid q r) :: rest) (hdg : decode cc pc = .ok (.invokevirtual idx, 3)) (k : ∀ a : UInt64, WG X enc (pc + 3) l (.double a :: rest) (g a)) : WG X enc pc l st0 (bd1 (up (vc q r f)) g) := by
  rw [up_vc]
  exact wg_vc (encz := encD) hX hq hk hsel hn hw hst hdg (fun a => k a)
theorem wg_vfi {f : Nat → am1 Int32} {g : Int32 → am1 β} {q r idx n count : Nat} {x : MethodName} {As rest st0 : List Value} (hX : amOK X cc own nL F L rtp) (hq : q < 250) (hk : am_pk q = 0) (hsel : ∀ c ∈ am_kl q, (∀ φ S, f c φ S = none) ∨ ∃ (C : String) (T : u_T) (N : Nat) (y : MethodName) (ccy : ByteArray) (nLy : Nat) (rty : Option FieldType) (Fy Ly : Nat), am_cl[c]? = some (C, T, N) ∧ amSelF own idx C x y ccy nLy rty n ∧ amMet y ccy nLy rty Fy Ly encI (.ref (rid q r) :: As) (f c) ∧ Fy + 1 ≤ F ∧ 8 + (nLy + 11) + Ly ≤ L) (hn : As.length = n) (hw : (rest.map fun v => v.category).sum ≤ 8) (hst : st0 = As.reverse ++ .ref (rid q r) :: rest) (hdg : decode cc pc = .ok (.invokeinterface idx count, 5)) (k : ∀ a : Int32, WG X enc (pc + 5) l (.int a :: rest) (g a)) : WG X enc pc l st0 (bd1 (vc1 q r f) g) := by
  exact wg_vf (encz := encI) hX hq hk hsel hn hw hst hdg (fun a => k a)
theorem wg_vfiu {f : Nat → am0 Int32} {g : Int32 → am1 β} {q r idx n count : Nat} {x : MethodName} {As rest st0 : List Value} (hX : amOK X cc own nL F L rtp) (hq : q < 250) (hk : am_pk q = 0) (hsel : ∀ c ∈ am_kl q, (∀ φ S, (up (f c)) φ S = none) ∨ ∃ (C : String) (T : u_T) (N : Nat) (y : MethodName) (ccy : ByteArray) (nLy : Nat) (rty : Option FieldType) (Fy Ly : Nat), am_cl[c]? = some (C, T, N) ∧ amSelF own idx C x y ccy nLy rty n ∧ amMet y ccy nLy rty Fy Ly encI (.ref (rid q r) :: As) (up (f c)) ∧ Fy + 1 ≤ F ∧ 8 + (nLy + 11) + Ly ≤ L) (hn : As.length = n) (hw : (rest.map fun v => v.category).sum ≤ 8) (hst : st0 = As.reverse ++ .ref (rid q r) :: rest) (hdg : decode cc pc = .ok (.invokeinterface idx count, 5)) (k : ∀ a : Int32, WG X enc (pc + 5) l (.int a :: rest) (g a)) : WG X enc pc l st0 (bd1 (up (vc q r f)) g) := by
  rw [up_vc]
  exact wg_vf (encz := encI) hX hq hk hsel hn hw hst hdg (fun a => k a)
theorem wg_vfv {f : Nat → am1 Unit} {g : Unit → am1 β} {q r idx n count : Nat} {x : MethodName} {As rest st0 : List Value} (hX : amOK X cc own nL F L rtp) (hq : q < 250) (hk : am_pk q = 0) (hsel : ∀ c ∈ am_kl q, (∀ φ S, f c φ S = none) ∨ ∃ (C : String) (T : u_T) (N : Nat) (y : MethodName) (ccy : ByteArray) (nLy : Nat) (rty : Option FieldType) (Fy Ly : Nat), am_cl[c]? = some (C, T, N) ∧ amSelF own idx C x y ccy nLy rty n ∧ amMet y ccy nLy rty Fy Ly encV (.ref (rid q r) :: As) (f c) ∧ Fy + 1 ≤ F ∧ 8 + (nLy + 11) + Ly ≤ L) (hn : As.length = n) (hw : (rest.map fun v => v.category).sum ≤ 8) (hst : st0 = As.reverse ++ .ref (rid q r) :: rest) (hdg : decode cc pc = .ok (.invokeinterface idx count, 5)) (k : WG X enc (pc + 5) l rest (g ())) : WG X enc pc l st0 (bd1 (vc1 q r f) g) := by
  exact wg_vf (encz := encV) hX hq hk hsel hn hw hst hdg (fun a => k)
theorem wg_vfvu {f : Nat → am0 Unit} {g : Unit → am1 β} {q r idx n count : Nat} {x : MethodName} {As rest st0 : List Value} (hX : amOK X cc own nL F L rtp) (hq : q < 250) (hk : am_pk q = 0) (hsel : ∀ c ∈ am_kl q, (∀ φ S, (up (f c)) φ S = none) ∨ ∃ (C : String) (T : u_T) (N : Nat) (y : MethodName) (ccy : ByteArray) (nLy : Nat) (rty : Option FieldType) (Fy Ly : Nat), am_cl[c]? = some (C, T, N) ∧ amSelF own idx C x y ccy nLy rty n ∧ amMet y ccy nLy rty Fy Ly encV (.ref (rid q r) :: As) (up (f c)) ∧ Fy + 1 ≤ F ∧ 8 + (nLy + 11) + Ly ≤ L) (hn : As.length = n) (hw : (rest.map fun v => v.category).sum ≤ 8) (hst : st0 = As.reverse ++ .ref (rid q r) :: rest) (hdg : decode cc pc = .ok (.invokeinterface idx count, 5)) (k : WG X enc (pc + 5) l rest (g ())) : WG X enc pc l st0 (bd1 (up (vc q r f)) g) := by
  rw [up_vc]
  exact wg_vf (encz := encV) hX hq hk hsel hn hw hst hdg (fun a => k)
theorem wg_vfd {f : Nat → am1 UInt64} {g : UInt64 → am1 β} {q r idx n count : Nat} {x : MethodName} {As rest st0 : List Value} (hX : amOK X cc own nL F L rtp) (hq : q < 250) (hk : am_pk q = 0) (hsel : ∀ c ∈ am_kl q, (∀ φ S, f c φ S = none) ∨ ∃ (C : String) (T : u_T) (N : Nat) (y : MethodName) (ccy : ByteArray) (nLy : Nat) (rty : Option FieldType) (Fy Ly : Nat), am_cl[c]? = some (C, T, N) ∧ amSelF own idx C x y ccy nLy rty n ∧ amMet y ccy nLy rty Fy Ly encD (.ref (rid q r) :: As) (f c) ∧ Fy + 1 ≤ F ∧ 8 + (nLy + 11) + Ly ≤ L) (hn : As.length = n) (hw : (rest.map fun v => v.category).sum ≤ 8) (hst : st0 = As.reverse ++ .ref (rid q r) :: rest) (hdg : decode cc pc = .ok (.invokeinterface idx count, 5)) (k : ∀ a : UInt64, WG X enc (pc + 5) l (.double a :: rest) (g a)) : WG X enc pc l st0 (bd1 (vc1 q r f) g) := by
  exact wg_vf (encz := encD) hX hq hk hsel hn hw hst hdg (fun a => k a)
theorem wg_vfdu {f : Nat → am0 UInt64} {g : UInt64 → am1 β} {q r idx n count : Nat} {x : MethodName} {As rest st0 : List Value} (hX : amOK X cc own nL F L rtp) (hq : q < 250) (hk : am_pk q = 0) (hsel : ∀ c ∈ am_kl q, (∀ φ S, (up (f c)) φ S = none) ∨ ∃ (C : String) (T : u_T) (N : Nat) (y : MethodName) (ccy : ByteArray) (nLy : Nat) (rty : Option FieldType) (Fy Ly : Nat), am_cl[c]? = some (C, T, N) ∧ amSelF own idx C x y ccy nLy rty n ∧ amMet y ccy nLy rty Fy Ly encD (.ref (rid q r) :: As) (up (f c)) ∧ Fy + 1 ≤ F ∧ 8 + (nLy + 11) + Ly ≤ L) (hn : As.length = n) (hw : (rest.map fun v => v.category).sum ≤ 8) (hst : st0 = As.reverse ++ .ref (rid q r) :: rest) (hdg : decode cc pc = .ok (.invokeinterface idx count, 5)) (k : ∀ a : UInt64, WG X enc (pc + 5) l (.double a :: rest) (g a)) : WG X enc pc l st0 (bd1 (up (vc q r f)) g) := by
  rw [up_vc]
  exact wg_vf (encz := encD) hX hq hk hsel hn hw hst hdg (fun a => k a)
/-- copying within arrays of whole numbers -/
def cpI (ok : Int32 → Bool) (p0 r0 : Nat) (sp : Int32) (p1 r1 : Nat) (dp n : Int32) : am0 Unit := fun _ S => if r0 ≠ 0 ∧ r1 ≠ 0 ∧ ¬ sp < 0 ∧ ¬ dp < 0 ∧ ¬ n < 0 ∧ sp.toNatClampNeg + n.toNatClampNeg ≤ am_pl p0 r0 ∧ dp.toNatClampNeg + n.toNatClampNeg ≤ am_pl p1 r1 ∧ (∀ i, i < n.toNatClampNeg → ok (S.1 p0 r0 (sp.toNatClampNeg + i)) = true) then
  some ((), (u2 S.1 p1 r1 (va_cpy (S.1 p0 r0) (S.1 p1 r1) sp.toNatClampNeg dp.toNatClampNeg n.toNatClampNeg), S.2)) else none
theorem wg_cpI {ok : Int32 → Bool} {p0 r0 p1 r1 idx : Nat} {sp dp n : Int32} {ty : FieldType} {g : Unit → am1 β} (hX : amOK X cc own nL F L rtp) (hA0 : amAr p0 1 ty) (hA1 : amAr p1 1 ty) (hprim : refKind ty = false) (hok : ∀ v, ok v = true → fits ty (.int v) = true) (w1 : Cond.methodLink own idx arraycopyName ∈ lw_all) (w2 : Cond.native arraycopyName ∈ lw_all) (w3 : Cond.static arraycopyName ∈ lw_all) (w4 : Cond.initialized "java/lang/System" ∈ lw_all) (hF : 1 ≤ F) (hL : (st.map fun v => v.category).sum + (nativeFrameWords "java/lang/System" "arraycopy" 5 + 11) ≤ L) (hdg : decode cc pc = .ok (.invokestatic idx, 3)) (k : WG X enc (pc + 3) l st (g ())) : WG X enc pc l (.int n :: .int dp :: .ref (rid p1 r1) :: .int sp :: .ref (rid p0 r0) :: st) (bd1 (up (cpI ok p0 r0 sp p1 r1 dp n)) g) := by
  obtain ⟨⟨p, lc, e, R, s⟩, ⟨m, args, below, meth, c⟩, ⟨D, dA, ad0, φ0, A⟩, ⟨Q, fin⟩⟩ := X
  intro φ S b φ' S' kc ks hP hf ad H locs cells slots ls hI hc hs hv hvl hl
  obtain ⟨a1, S1, hm, hg⟩ := bd1_up_some hP
  obtain ⟨hx, hb, hml, hown, hts, hlk, hRf, hRl, hKK, hA, hrt, hQ, hlc, hCo⟩ := hX
  subst hRf
  subst hRl
  unfold cpI at hm
  split at hm
  · rename_i h0
    cases hm
    obtain ⟨g0, g1, h1, h2, h3, h4, h5, h6⟩ := h0
    have hq0 := hA0.1
    have hq1 := hA1.1
    have ho0 : amOk φ p0 r0 := ⟨hq0, Nat.pos_of_ne_zero g0, amV_r (by omega) hv.2.2.2.2.1⟩
    have ho1 : amOk φ p1 r1 := ⟨hq1, Nat.pos_of_ne_zero g1, amV_r (by omega) hv.2.2.1⟩
    have hat0 := hI.1.1 p0 r0 ho0
    have hat1 := hI.1.1 p1 r1 ho1
    rw [am_enI hA0.2.1] at hat0
    rw [am_enI hA1.2.1] at hat1
    have nn : ∀ z : Int32, ¬ z < 0 → z.toInt = (z.toNatClampNeg : Int) := by
      intro z hz
      have hz0 : (0 : Int) ≤ z.toInt := by
        have := Int32.not_lt.mp hz
        simpa using Int32.le_iff_toInt_le.mp this
      show z.toInt = ((z.toInt.toNat : Nat) : Int)
      omega
    simp only [List.map_cons]
    rw [cn_rid g0, cn_rid g1]
    intro T hT X
    have hc0 : H[ad (rid p0 r0)]? = some (vp_cell (dA (am_pt p0)) (am_pl p0 r0, .inl (S.1 p0 r0))) := hat0
    have hc1 : H[ad (rid p1 r1)]? = some (vp_cell (dA (am_pt p1)) (am_pl p1 r1, .inl (S.1 p1 r1))) := hat1
    obtain ⟨-, k0, hk0, cm0, hkk0⟩ := (hKK.2.1 _ _ hA0.2.2).1 (am_pl p0 r0) (fun j => .int (S.1 p0 r0 j))
    obtain ⟨-, k1, hk1, cm1, hkk1⟩ := (hKK.2.1 _ _ hA1.2.2).1 (am_pl p1 r1) (fun j => .int (S.1 p1 r1 j))
    obtain ⟨vm', X', step⟩ := X.arraycopy hx hown (hts _ w1) (hts _ w2) (hts _ w3) (hts _ w4) (src := ad (rid p0 r0)) (dst := ad (rid p1 r1)) (cs := vp_cell (dA (am_pt p0)) (am_pl p0 r0, .inl (S.1 p0 r0))) (cd := vp_cell (dA (am_pt p1)) (am_pl p1 r1, .inl (S.1 p1 r1))) (srcPos := sp) (destPos := dp) (n := n) (by rw [hT]; exact hc0) (by rw [hT]; exact hc1)
      (fun _ h => by cases h) (fun _ h => by cases h) (fun h => by cases h) (fun h => by cases h) hk0 hk1 hkk0 hkk1 (by simp [hprim]) h1 h2 h3
      (by rw [nn sp h1, nn n h3]; show ¬ _ > ((arrV _ _ _).slots.size : Int); rw [arrV_size]; omega)
      (by rw [nn dp h2, nn n h3]; show ¬ _ > ((arrV _ _ _).slots.size : Int); rw [arrV_size]; omega)
      (fun vm₁ _ i hi => by
        have e : (vp_cell (dA (am_pt p0)) (am_pl p0 r0, .inl (S.1 p0 r0))).slots.getD (sp.toNatClampNeg + i) .null = .int (S.1 p0 r0 (sp.toNatClampNeg + i)) := by
          show (arrV _ _ _).slots.getD _ _ = _
          rw [Array.getD_eq_getD_getElem?, arrV_read _ _ (by omega)]
          rfl
        refine ⟨?_, ?_⟩
        · rw [e]
          exact hok _ (h6 i hi)
        · rw [e]
          exact trivial)
      (g := F0 m pc ls (.int n :: .int dp :: .ref (ad (rid p1 r1)) :: .int sp :: .ref (ad (rid p0 r0)) :: st.map (cn ad))) rfl hl.1 (rest := st.map (cn ad)) rfl (by rw [hb]; exact hdg) hF (by rw [am_cats]; show 2 * 0 + _ + _ ≤ _; omega)
    have e1 : copied (vp_cell (dA (am_pt p0)) (am_pl p0 r0, .inl (S.1 p0 r0))) (vp_cell (dA (am_pt p1)) (am_pl p1 r1, .inl (S.1 p1 r1))) sp dp n = vp_cell (dA (am_pt p1)) (am_pl p1 r1, .inl (va_cpy (S.1 p0 r0) (S.1 p1 r1) sp.toNatClampNeg dp.toNatClampNeg n.toNatClampNeg)) := va_copied (fun z => .int z) _ _ (S.1 p0 r0) (S.1 p1 r1) h4
    rw [e1] at X' step
    have hl1 : ad (rid p1 r1) < H.size := (Array.getElem?_eq_some_iff.mp hc1).1
    generalize hN : va_cpy (S.1 p0 r0) (S.1 p1 r1) sp.toNatClampNeg dp.toNatClampNeg n.toNatClampNeg = N0 at X' step hg
    have hheap : ((T.setVm vm').setCell (ad (rid p1 r1)) (vp_cell (dA (am_pt p1)) (am_pl p1 r1, .inl N0))).heap = H.setIfInBounds (ad (rid p1 r1)) (vp_cell (dA (am_pt p1)) (am_pl p1 r1, .inl N0)) := by rw [← hT]; rfl
    have oq : ∀ q : Nat, q ≠ ad (rid p1 r1) → (H.setIfInBounds (ad (rid p1 r1)) (vp_cell (dA (am_pt p1)) (am_pl p1 r1, .inl N0)))[q]? = H[q]? := fun q hq => by simp [Array.getElem?_setIfInBounds, Ne.symm hq]
    have hz : (H.setIfInBounds (ad (rid p1 r1)) (vp_cell (dA (am_pt p1)) (am_pl p1 r1, .inl N0))).size = H.size := by simp
    have hI0 := hI.put (i := 0) (φ' := φ) (S' := (u2 S.1 p1 r1 N0, S.2)) ho1 rfl (fun p' r' hne => ⟨u2_other hne, rfl, rfl, rfl, rfl⟩) (by
      rw [am_enI hA1.2.1]
      dsimp only
      rw [u2_self]
      show (H.setIfInBounds (ad (rid p1 r1)) _)[ad (rid p1 r1)]? = some _
      simp [Array.getElem?_setIfInBounds, hl1]) hz oq (am_ve1 hA1.2.1)
    obtain ⟨t, a2, b2⟩ := k φ _ b φ' S' kc ks hg hf ad _ _ cells slots ls ⟨hI0.1, hI0.2.1, ⟨hI0.2.2.1.1, hI0.2.2.1.2.1, fun q hq => by
      rcases List.mem_append.mp hq with h | h
      · exact hI.2.2.1.2.2 q h
      · obtain ⟨z, -, hz⟩ := List.mem_map.mp h
        rw [← hz]
        exact hI.2.1 p1 r1 ho1⟩, hI0.2.2.2⟩ hc hs hv.2.2.2.2.2 hvl hl _ hheap X'
    exact ⟨t, step t a2, b2⟩
  · cases hm
end am19
def okI (_ : Int32) : Bool := true
def okZ (v : Int32) : Bool := v == 0 || v == 1
theorem okI_ok : ∀ v, okI v = true → fits .int (.int v) = true := fun v _ => rfl
theorem okZ_ok : ∀ v, okZ v = true → fits .boolean (.int v) = true := fun v h => by
  have h1 : v = 0 ∨ v = 1 := by simpa [okZ] using h
  exact (am_z01 h1).2
def amUqB (es : List (Nat × Nat × Nat)) (j s0 : Nat) : Nat → Bool
  | 0 => true
  | n + 1 => amUqB es j s0 n && (match es[n]? with
    | none => true
    | some x => n == j || !(Nat.ble 2 x.1 && Nat.ble x.1 4) || !(x.2.2 == s0))
theorem am_uq {es : List (Nat × Nat × Nat)} {j s0 : Nat} (h : amUqB es j s0 es.length = true) : amUq es j s0 := by
  have key : ∀ n, amUqB es j s0 n = true → ∀ i x, i < n → es[i]? = some x → i ≠ j → 2 ≤ x.1 → x.1 ≤ 4 → x.2.2 ≠ s0 := by
    intro n
    induction n with
    | zero => intro _ i x hi; omega
    | succ n ih =>
      intro hn i x hi hx hj h2 h4 e
      simp only [amUqB, Bool.and_eq_true] at hn
      by_cases hin : i = n
      · subst hin
        rw [hx] at hn
        have h2' : Nat.ble 2 x.1 = true := Nat.ble_eq.mpr h2
        have h4' : Nat.ble x.1 4 = true := Nat.ble_eq.mpr h4
        simp [h2', h4', hj, e] at hn
      · exact ih hn.1 i x (by omega) hx hj h2 h4 e
  intro i x hx hj h2 h4
  exact key _ h i x (List.getElem?_eq_some_iff.mp hx).1 hx hj h2 h4
theorem aq_int : Cond.arrayClass (newarray.typeOf .int) ∈ lw_all := q279
theorem aq_boolean : Cond.arrayClass (newarray.typeOf .boolean) ∈ lw_all := q278
theorem aq_byte : Cond.arrayClass (newarray.typeOf .byte) ∈ lw_all := q463
theorem aq_short : Cond.arrayClass (newarray.typeOf .short) ∈ lw_all := q1740
theorem aq_double : Cond.arrayClass (newarray.typeOf .double) ∈ lw_all := q2305
theorem aq_float : Cond.arrayClass (newarray.typeOf .float) ∈ lw_all := q1761
