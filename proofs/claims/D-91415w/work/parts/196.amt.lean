/-! thrown Faults: contracts, and rows -/
def amQx (D : va_G) (dA : Nat → ClassId) (ad : Nat → Nat) (φ : amSh) (A : Nat → Prop) (fin : Option Value × amSh × amSt) : Array Value → State → Outcome → State → Prop := fun v st o t => fin.1 ≠ am_thr ∧ amQc D dA ad φ A fin v st o t
def amXC (D : va_G) (dA : Nat → ClassId) (ad : Nat → Nat) (φ : amSh) (A : Nat → Prop) (fin : Option Value × amSh × amSt) : String → State → State → Prop := fun E st t =>
  E = "CityBrigade$Fault" ∧ fin.1 = am_thr ∧ ∃ ad' : Nat → Nat, amW D dA ad' fin.2.1 fin.2.2 t.heap ∧ amE ad φ ad' fin.2.1 ∧ va_F A st t ∧ (∀ p r, amOk fin.2.1 p r → A (ad' (rid p r)))
abbrev encX {β : Type} (enc : β → Option Value) : Option β → Option Value := fun o => match o with
  | some b => enc b
  | none => am_thr
def amMetX {β : Type} (y : MethodName) (cc : ByteArray) (nL : Nat) (rtp : Option FieldType) (F L : Nat) (enc : β → Option Value) (av : List Value) (P : am1 (Option β)) : Prop :=
  ∀ (lc : Launch), lc.flags = flags0 → ∀ (D : va_G) (dA : Nat → ClassId) (ad : Nat → Nat) (φ : amSh) (S : amSt) (sz : Nat) (b : Option β) (φ' : amSh) (S' : amSt) (kc ks : Nat), P φ S = some (b, φ', S', kc, ks) → amVs φ av →
    vx_Met lc y (ws_ y cc nL rtp) ({ frames := F, cells := kc, slots := ks, locals := L }) (amPc D dA ad φ S av sz) (amQx D dA ad φ (amA ad φ sz) (encX enc b, φ', S')) (amXC D dA ad φ (amA ad φ sz) (encX enc b, φ', S')) kc ks (amA ad φ sz)
def amMetW {β : Type} (y : MethodName) (cc : ByteArray) (nL : Nat) (rtp : Option FieldType) (hh : List (Nat × Nat × Nat × Nat)) (F L : Nat) (enc : β → Option Value) (av : List Value) (P : am1 β) : Prop :=
  ∀ (lc : Launch), lc.flags = flags0 → ∀ (D : va_G) (dA : Nat → ClassId) (ad : Nat → Nat) (φ : amSh) (S : amSt) (sz : Nat) (b : β) (φ' : amSh) (S' : amSt) (kc ks : Nat), P φ S = some (b, φ', S', kc, ks) → amVs φ av →
    vx_Met lc y (wsW_ y cc nL rtp hh) ({ frames := F, cells := kc, slots := ks, locals := L }) (amPc D dA ad φ S av sz) (amQc D dA ad φ (amA ad φ sz) (enc b, φ', S')) (fun _ _ _ => False) kc ks (amA ad φ sz)
def amOKX (X : amX) (cc : ByteArray) (own : String) (nL F L : Nat) (rtp : Option FieldType) : Prop := amOK X cc own nL F L rtp ∧ match X with
  | ((_, _, _, R, s), (_, args, below, _, c), (D, dA, ad0, φ0, A), (Q, fin)) =>
    (∀ x ∈ c.exceptionTable.toList, False) ∧ Q = vx_MQ below (amQx D dA ad0 φ0 A fin) (amXC D dA ad0 φ0 A fin) args s R.cells R.slots A
def amTb (X : amX) (hh : List (Nat × Nat × Nat × Nat)) : Prop := match X with
  | (_, (_, _, _, _, c), _, _) => c.exceptionTable.toList = tableOf hh
theorem am_MQ {p : Program} {l : Launch} {e : Env} {R : Room} {s : State} {m : MethodId} {args : Array Value} {below : List Frame} {meth : Method} {c : Code} {H : Heap} {locs : List Loc} {cells slots : Nat} {Qc Qc' : Array Value → State → Outcome → State → Prop} {XC : String → State → State → Prop} {mc ms : Nat} {free : Addr → Prop} {g : JFrame} (hq : ∀ o t, Qc args s o t → Qc' args s o t)
    (k : W p l e R s m args below meth c H locs cells slots (MQ below Qc args s mc ms free) g) : W p l e R s m args below meth c H locs cells slots (vx_MQ below Qc' XC args s mc ms free) g := by
  intro T hT X
  obtain ⟨t, a1, o, b1, b2, b3, b4⟩ := k T hT X
  exact ⟨t, a1, o, b1, b2, Or.inl ⟨hq _ _ b3, b4⟩⟩
theorem am_slLen {ad : Nat → Nat} : ∀ vs : List Value, (lg_sl (vs.map (cn ad))).length = (lg_sl vs).length := by
  intro vs
  induction vs with
  | nil => rfl
  | cons v vs ih =>
    simp only [lg_sl, List.map_cons, List.flatMap_cons, List.length_append, cn_cat] at ih ⊢
    rw [ih]
    by_cases h : v.category = 2 <;> simp [h]
theorem amMetX.of {β : Type} {y : MethodName} {cc : ByteArray} {nL : Nat} {rtp : Option FieldType} {F L : Nat} {enc : β → Option Value} {av : List Value} {P : am1 (Option β)} {own : String} (hy : plainName y.cls = true) (ho : y.cls = own) (hL : (lg_sl av).length ≤ nL)
    (body : ∀ X : amX, amOKX X cc own nL F L rtp → amPs X P → WG X (encX enc) 0 (amArgs 0 av) [] (bd1 P rt1)) : amMetX y cc nL rtp F L enc av P := by
  intro lc hlc D dA ad φ S sz b φ' S' kc ks hP hav
  refine vx_ofW (cc := cc) (maxL := nL) (ret := rtp) hy rfl ?_
  intro p e s m args below meth c s₁ B hml htb hv
  obtain ⟨rfl, hsz, hW, hK, hCo⟩ := hv
  have hts := atoms_spec (ws := ws_ y cc nL rtp) B.pre
  have hts : ∀ w ∈ lw_all, w.before _ s = true := fun w h => hts w (List.mem_cons_of_mem _ h)
  have hown : s.vm.findClass own = some m.cls := by rw [← ho]; exact findClass_of_methodNamed B.named
  subst hsz
  have hl := lv_entry (av.map (cn ad)) (n := nL) (by rw [am_slLen]; exact hL)
  rw [lg_entry_eq]
  generalize (lg_sl (av.map (cn ad)) ++ List.replicate (nL - (lg_sl (av.map (cn ad))).length) Slot.unset).toArray = ls at hl ⊢
  rw [amArgs_cn] at hl
  have := body ((p, lc, e, (headSpec (ws_ y cc nL rtp) ({ frames := F, cells := kc, slots := ks, locals := L })).room, s), (m, ((av.map (cn ad)).toArray), below, meth, c), (D, dA, ad, φ, amA ad φ s.heap.size), (vx_MQ below (amQx D dA ad φ (amA ad φ s.heap.size) (encX enc b, φ', S')) (amXC D dA ad φ (amA ad φ s.heap.size) (encX enc b, φ', S')) ((av.map (cn ad)).toArray) s kc ks (amA ad φ s.heap.size), (encX enc b, φ', S')))
    ⟨⟨B.exec, B.bytes, hml, hown, hts, B.notSynchronized, rfl, rfl, hK, fun q h => Or.inl h, B.returns, fun hne _ _ _ _ _ h => am_MQ (fun _ _ h => ⟨hne, h⟩) h, hlc, hCo⟩, htb, rfl⟩ ⟨S, fun h => by
      have hP' : P φ S = none := h
      rw [hP'] at hP
      cases hP⟩
  exact this φ S b φ' S' kc ks (by rw [bd1_rt]; exact hP) rfl ad s.heap [] 0 0 ls ⟨hW, fun p r h => Or.inr ⟨p, r, h, rfl⟩, va_S.rf, amE.rf⟩ (Nat.zero_add _) (Nat.zero_add _) trivial (fun q hq => amVs_all.mp hav _ (amArgs_mem _ _ _ hq)) (by rw [hml]; exact hl)
theorem amMetW.of {β : Type} {y : MethodName} {cc : ByteArray} {nL : Nat} {rtp : Option FieldType} {hh : List (Nat × Nat × Nat × Nat)} {F L : Nat} {enc : β → Option Value} {av : List Value} {P : am1 β} {own : String} (hy : plainName y.cls = true) (ho : y.cls = own) (hL : (lg_sl av).length ≤ nL)
    (body : ∀ X : amX, amOK X cc own nL F L rtp → amTb X hh → amPs X P → WG X enc 0 (amArgs 0 av) [] (bd1 P rt1)) : amMetW y cc nL rtp hh F L enc av P := by
  intro lc hlc D dA ad φ S sz b φ' S' kc ks hP hav
  refine vx_ofWH (cc := cc) (maxL := nL) (ret := rtp) (hh := hh) hy rfl ?_
  intro p e s m args below meth c s₁ B hml hv
  obtain ⟨rfl, hsz, hW, hK, hCo⟩ := hv
  have hts0 := atoms_spec (ws := wsW_ y cc nL rtp hh) B.pre
  have hts : ∀ w ∈ lw_all, w.before _ s = true := fun w h => hts0 w (List.mem_cons_of_mem _ h)
  have htb : c.exceptionTable.toList = tableOf hh := vx_table (x := y) B (hts0 _ List.mem_cons_self)
  have hown : s.vm.findClass own = some m.cls := by rw [← ho]; exact findClass_of_methodNamed B.named
  subst hsz
  have hl := lv_entry (av.map (cn ad)) (n := nL) (by rw [am_slLen]; exact hL)
  rw [lg_entry_eq]
  generalize (lg_sl (av.map (cn ad)) ++ List.replicate (nL - (lg_sl (av.map (cn ad))).length) Slot.unset).toArray = ls at hl ⊢
  rw [amArgs_cn] at hl
  have := body ((p, lc, e, (headSpec (wsW_ y cc nL rtp hh) ({ frames := F, cells := kc, slots := ks, locals := L })).room, s), (m, ((av.map (cn ad)).toArray), below, meth, c), (D, dA, ad, φ, amA ad φ s.heap.size), (vx_MQ below (amQc D dA ad φ (amA ad φ s.heap.size) (enc b, φ', S')) (fun _ _ _ => False) ((av.map (cn ad)).toArray) s kc ks (amA ad φ s.heap.size), (enc b, φ', S')))
    ⟨B.exec, B.bytes, hml, hown, hts, B.notSynchronized, rfl, rfl, hK, fun q h => Or.inl h, B.returns, fun _ _ _ _ _ _ h => am_MQ (fun _ _ h => h) h, hlc, hCo⟩ htb ⟨S, fun h => by
      have hP' : P φ S = none := h
      rw [hP'] at hP
      cases hP⟩
  exact this φ S b φ' S' kc ks (by rw [bd1_rt]; exact hP) rfl ad s.heap [] 0 0 ls ⟨hW, fun p r h => Or.inr ⟨p, r, h, rfl⟩, va_S.rf, amE.rf⟩ (Nat.zero_add _) (Nat.zero_add _) trivial (fun q hq => amVs_all.mp hav _ (amArgs_mem _ _ _ hq)) (by rw [hml]; exact hl)
/-- a thrown Fault q stands over the method's frame at pc -/
def WT {β : Type} (X : amX) (enc : β → Option Value) (pc : Nat) (l : List (Nat × Value)) (P : am1 β) : Prop := match X with
  | ((p, lc, e, R, s), (m, args, below, meth, c), (D, dA, ad0, φ0, A), (Q, fin)) =>
    ∀ (φ : amSh) (S : amSt) (b : β) (φ' : amSh) (S' : amSt) (kc ks : Nat), P φ S = some (b, φ', S', kc, ks) → fin = (enc b, φ', S') →
    ∀ (ad : Nat → Nat) (H : Heap) (locs : List Loc) (cells slots : Nat) (ls : Array Slot) (q : Addr) (ce : Cell) (rest : List Value), amI D dA ad0 φ0 A s ad φ S H locs → cells + kc = R.cells → slots + ks = R.slots → amVl φ l → lv_has ls c.maxLocals (amCl ad l) →
    H[q]? = some ce → ce.vm = .none → s.vm.findClass "CityBrigade$Fault" = some ce.cls →
    vx_W p lc e R s m args below meth c H locs cells slots Q (F0 m pc ls rest) q
def bdx {α β : Type} (m : am0 (Option α)) (h : am0 β) (f : α → am0 β) : am0 β := bd m fun o => match o with
  | none => h
  | some a => f a
def bdx1 {α β : Type} (m : am1 (Option α)) (h : am1 β) (f : α → am1 β) : am1 β := bd1 m fun o => match o with
  | none => h
  | some a => f a
section am40
variable {X : amX} {cc : ByteArray} {own : String} {nL F L : Nat} {rtp : Option FieldType} {β : Type} {enc : β → Option Value} {pc : Nat} {l : List (Nat × Value)} {st : List Value}
theorem wx_out (hX : amOKX X cc own nL F L rtp) : WT X (encX enc) pc l (rt1 (none : Option β)) := by
  obtain ⟨⟨p, lc, e, R, s⟩, ⟨m, args, below, meth, c⟩, ⟨D, dA, ad0, φ0, A⟩, ⟨Q, fin⟩⟩ := X
  intro φ S b φ' S' kc ks hP hf ad H locs cells slots ls q ce rest hI hc hs hvl hl hce hcv hcl
  cases hP
  obtain ⟨⟨hx, hb, -, -, -, hlk, -⟩, ht, hQ⟩ := hX
  rw [hQ]
  exact vx_out (fun x h => (ht x h).elim) hlk hce hcv hcl (fun t hT hA => ⟨rfl, by rw [hf], ad, by rw [hf, hT]; exact hI.1, by rw [hf]; exact hI.2.2.2, hI.2.2.1.F hT, by rw [hf]; exact hI.2.1⟩) hI.2.2.1.2.2 (by omega) (by omega)
theorem wx_throw {r0 : Nat} {P : am1 β} (hX : amOK X cc own nL F L rtp) (h0 : r0 ≠ 0) (hdg : decode cc pc = .ok (.athrow, 1)) (k : WT X enc pc l P) : WG X enc pc l [.ref (rid 12 r0)] P := by
  obtain ⟨⟨p, lc, e, R, s⟩, ⟨m, args, below, meth, c⟩, ⟨D, dA, ad0, φ0, A⟩, ⟨Q, fin⟩⟩ := X
  intro φ S b φ' S' kc ks hP hf ad H locs cells slots ls hI hc hs hv hvl hl
  have ho : amOk φ 12 r0 := ⟨by decide, Nat.pos_of_ne_zero h0, amV_r (by decide) hv.1⟩
  have hob := am_obj hI.1 ho (by decide)
  have hkl : ∀ c ∈ am_kl 12, ∃ (T1 : u_T) (N1 : Nat), am_cl[c]? = some ("CityBrigade$Fault", T1, N1) := by
    intro c hc
    have : c = 22 := by simpa [am_kl] using hc
    subst this
    exact ⟨_, _, rfl⟩
  obtain ⟨T1, N1, hcl⟩ := hkl _ hob.2.1
  obtain ⟨q', h1, ce, g1, g2, g3, -⟩ := hob.1
  have hcl2 := (hX.2.2.2.2.2.2.2.2.1.va.1 _ _ hcl).2.1
  rw [List.map_cons, cn_rid h0, List.map_nil]
  exact vx_athrow hX.1 hX.2.1 hdg (k φ S b φ' S' kc ks hP hf ad H locs cells slots ls _ ce [] hI hc hs hvl hl g1 g3 (by rw [g2]; exact hcl2))
theorem wx_catch {i a b t ct : Nat} {k0 : Fin 4} {l' : List (Nat × Value)} {P : am1 β} (hX : amOK X cc own nL F L rtp) (hTb : amTb X [(a, b, t, ct)]) (h1 : covers ⟨a, b, t, ct⟩ pc = true) (h0 : ct ≠ 0) (hlk : Cond.classLink own ct "CityBrigade$Fault" ∈ lw_all) (hca : Cond.castable "CityBrigade$Fault" "CityBrigade$Fault" ∈ lw_tbl) (hdg : decode cc t = .ok (.astore_n k0, 1)) (hi : (k0 : Nat) = i) (hn : i < nL) (hs0 : l.filter (fun q => !(q.1 == i) && !(q.1 + 1 == i && q.2.category == 2)) = l') (k : WG X enc (t + 1) l' [] P) : WT X enc pc l P := by
  obtain ⟨⟨p, lc, e, R, s⟩, ⟨m, args, below, meth, c⟩, ⟨D, dA, ad0, φ0, A⟩, ⟨Q, fin⟩⟩ := X
  intro φ S b' φ' S' kc ks hP hf ad H locs cells slots ls q ce rest hI hc hs hvl hl hce hcv hcl
  have hn1 : i < c.maxLocals := by rw [hX.2.2.1]; exact hn
  refine vx_catch hX.2.2.2.1 [] ⟨a, b, t, ct⟩ [] (by rw [show c.exceptionTable.toList = _ from hTb]; rfl) (fun z hz => by cases hz) h1 h0 (hX.2.2.2.2.1 _ hlk) (va_tabs rfl rfl (hX.2.2.2.2.2.2.2.2.1.2.2.1 _ hca rfl)) hce hcv hcl ?_
  refine lv_astore_n hX.1 hX.2.1 hdg hi hl hn1 rfl fun ls' h' => ?_
  refine k φ S b' φ' S' kc ks hP hf ad H locs cells slots ls' hI hc hs trivial (fun q0 hq => hvl q0 (List.mem_filter.mp (by rw [hs0]; exact hq)).1) (am_has_mono h' fun q0 hq => ?_)
  obtain ⟨q1, hq1, rfl⟩ := List.mem_map.mp hq
  rw [← hs0] at hq1
  obtain ⟨hq2, hq3⟩ := List.mem_filter.mp hq1
  refine List.mem_cons_of_mem _ (List.mem_filter.mpr ⟨List.mem_map.mpr ⟨q1, hq2, rfl⟩, ?_⟩)
  simp only [cn_cat]
  exact hq3
theorem am_backX {p : Program} {lc : Launch} {e : Env} {R : Room} {s : State} {m : MethodId} {args : Array Value} {below : List Frame} {meth : Method} {c : Code} {H : Heap} {locs : List Loc} {cells slots : Nat} {Q : State → Prop} {ls : Array Slot} {rest st0 : List Value} {a : Array Value} {mc ms : Nat} {D : va_G} {dA : Nat → ClassId} {ad0 ad : Nat → Nat} {φ0 φ φ1 : amSh} {S S1 : amSt} {A : Nat → Prop} {vo : Option Value} {pc : Nat}
    (hr : vx_Run p lc e R s m args below meth c H locs cells slots mc ms (F0 m pc ls st0) rest (amQx D dA ad φ (amA ad φ H.size) (vo, φ1, S1) a) (amXC D dA ad φ (amA ad φ H.size) (vo, φ1, S1)) (amA ad φ H.size))
    (hI : amI D dA ad0 φ0 A s ad φ S H locs) (hA : ∀ q : Nat, s.heap.size ≤ q → A q)
    (kk : vo ≠ am_thr → ∀ (ad1 : Nat → Nat) (H1 : Heap) (locs1 : List Loc), amI D dA ad0 φ0 A s ad1 φ1 S1 H1 locs1 → amE ad φ ad1 φ1 → (∀ v, vo = some v → amV φ1 v) → W p lc e R s m args below meth c H1 locs1 (cells + mc) (slots + ms) Q (F0 m (pc + 3) ls ((vo.map (cn ad1)).toList ++ rest)))
    (kx : vo = am_thr → ∀ (ad1 : Nat → Nat) (H1 : Heap) (locs1 : List Loc) (q : Addr) (ce : Cell), amI D dA ad0 φ0 A s ad1 φ1 S1 H1 locs1 → amE ad φ ad1 φ1 → H1[q]? = some ce → ce.vm = .none → s.vm.findClass "CityBrigade$Fault" = some ce.cls → vx_W p lc e R s m args below meth c H1 locs1 (cells + mc) (slots + ms) Q (F0 m pc ls rest) q) :
    W p lc e R s m args below meth c H locs cells slots Q (F0 m pc ls st0) := by
  intro T hT X
  have hsub := hI.sub hA
  have key : ∀ (st₀ t T' : State) (L : List Loc) (ad1 : Nat → Nat), st₀.heap = H → T'.heap = t.heap → (∀ q ∈ L, amA ad φ H.size q.base) → amW D dA ad1 φ1 S1 t.heap → amE ad φ ad1 φ1 → va_F (amA ad φ H.size) st₀ t → (∀ p r, amOk φ1 p r → amA ad φ H.size (ad1 (rid p r))) → amI D dA ad0 φ0 A s ad1 φ1 S1 T'.heap (locs ++ L) := by
    intro st₀ t T' L ad1 h0 e1 hL hW1 hE1 hF hA1
    have hz : H.size ≤ T'.heap.size := by rw [e1, ← h0]; exact hF.1
    have hk : ∀ q : Nat, q < H.size → ¬ amA ad φ H.size q → T'.heap[q]? = H[q]? := by
      intro q h1 h2
      rw [e1, ← h0]
      exact hF.2 q (by rw [h0]; exact h1) h2
    exact ⟨by rw [e1]; exact hW1, fun p r h => hsub _ (hA1 p r h), ⟨Nat.le_trans hI.2.2.1.1 hz, fun q h1 h2 => by rw [hk q (Nat.lt_of_lt_of_le h1 hI.2.2.1.1) (fun z => h2 (hsub q z))]; exact hI.2.2.1.2.1 q h1 h2, fun q hq => by
      rcases List.mem_append.mp hq with h | h
      · exact hI.2.2.1.2.2 q h
      · exact hsub _ (hL q h)⟩, hI.2.2.2.tr hE1⟩
  rcases hr T hT X with ⟨v, st₀, t, T', L, h0, X', hL, e1, e2, ⟨hne, ad1, hv, hW1, hE1, hV1, hF, hA1⟩, st⟩ | ⟨q, st₀, t, T', L, E, ce, h0, X', hL, e1, e2, ⟨hEE, hthr, ad1, hW1, hE1, hF, hA1⟩, hce, hcv, hcl, st⟩
  · cases hv
    obtain ⟨t2, a1, b1⟩ := kk hne ad1 T'.heap (locs ++ L) (key st₀ t T' L ad1 h0 e1 hL hW1 hE1 hF hA1) hE1 hV1 T' rfl X'
    exact ⟨t2, st t2 a1, b1⟩
  · subst hEE
    obtain ⟨t2, a1, b1⟩ := kx hthr ad1 T'.heap (locs ++ L) q ce (key st₀ t T' L ad1 h0 e1 hL hW1 hE1 hF hA1) hE1 (by rw [e1]; exact hce) hcv hcl T' rfl X'
    exact ⟨t2, st.trans a1, b1⟩
theorem wx_cV {α : Type} {encz : α → Option Value} {m1 : am1 (Option α)} {h0x : am1 β} {g : α → am1 β} {q r idx n nLy Fy Ly : Nat} {y : MethodName} {ccy : ByteArray} {rty : Option FieldType} {As rest st0 : List Value}  (hX : amOK X cc own nL F L rtp) (hnz : ∀ a, encz a ≠ am_thr) (hM : amMetX y ccy nLy rty Fy Ly encz (.ref (rid q r) :: As) m1) (hq : q < 250) (hk : am_pk q = 0) (h0 : r ≠ 0) (hrc : ∀ c ∈ am_kl q, ∃ (C1 : String) (T1 : u_T) (N1 : Nat), am_cl[c]? = some (C1, T1, N1) ∧ C1 = y.cls) (hG : GoodIn lw_all (wsV own idx y.cls y (ws_ y ccy nLy rty))) (hd : y.cls ≠ "java/lang/invoke/MethodHandle" ∧ y.cls ≠ "java/lang/invoke/VarHandle" ∧ (parseMethodDescriptor y.desc).map (fun d => d.parameters.length) = some n) (hn : As.length = n) (hF : Fy + 1 ≤ F) (hLo : 8 + (nLy + 11) + Ly ≤ L) (hw : (rest.map fun v => v.category).sum ≤ 8) (hst : st0 = As.reverse ++ .ref (rid q r) :: rest) (hdg : decode cc pc = .ok (.invokevirtual idx, 3)) (k : ∀ a, WG X enc (pc + 3) l ((encz a).toList ++ rest) (g a)) (kt : WT X enc pc l h0x) : WG X enc pc l st0 (bdx1 m1 h0x g) := by
  subst hst
  obtain ⟨⟨p, lc, e, R, s⟩, ⟨m, args, below, meth, c⟩, ⟨D, dA, ad0, φ0, A⟩, ⟨Q, fin⟩⟩ := X
  intro φ S b φ' S' kc ks hP hf ad H locs cells slots ls hI hc hs hv hvl hl
  obtain ⟨a1, φ1, S1, k1, n1, k2, n2, hm, hg, rfl, rfl⟩ := bd1_some hP
  obtain ⟨hx, hb, hml, hown, hts, hlk, hRf, hRl, hKK, hA, hrt, hQ, hlc, hCo⟩ := hX
  subst hRf
  subst hRl
  have hvs := amVs_app.mp hv
  have hvr : amVs φ rest := hvs.2.2
  have ho : amOk φ q r := ⟨hq, Nat.pos_of_ne_zero h0, amV_r (by omega) hvs.2.1⟩
  have hob := am_obj hI.1 ho hk
  obtain ⟨C1, T1, N1, hcl, hCC⟩ : ∃ (C1 : String) (T1 : u_T) (N1 : Nat), am_cl[amK φ q r]? = some (C1, T1, N1) ∧ C1 = y.cls := hrc _ hob.2.1
  have hmet := hM lc hlc D dA ad φ S H.size a1 φ1 S1 k1 n1 hm ⟨hvs.2.1, amVs_rev.mp hvs.1⟩
  have hpre : PreV s H y.cls (ad (rid q r)) (amPc D dA ad φ S (.ref (rid q r) :: As) H.size) (As.map (cn ad)) := ⟨amPc_blind, by
    have := va_recv hKK.va (va_P1 hob.1) hcl (q0 := 0) rfl
    rw [← hCC]
    exact this, fun U hU hW => ⟨by rw [List.map_cons, cn_rid h0], by rw [hU], by rw [hU]; exact hI.1, hKK.warm hW, by rw [hU]; exact hCo.tr hW hI.2.2.2 hI.2.2.1.2.1 (hI.sub hA)⟩⟩
  rw [List.map_append, List.map_cons, cn_rid h0, List.map_reverse]
  have hrun := vx_runV ⟨hx, hb, hml, hown, hts⟩ hmet (cwV n hts hG rfl rfl rfl ⟨rfl, hd⟩ ⟨hF, hLo⟩) hpre (g := F0 m pc ls ((As.map (cn ad)).reverse ++ .ref (ad (rid q r)) :: rest.map (cn ad))) (locs := locs) (cells := cells) (slots := slots) (rest := rest.map (cn ad)) (R := R) (e := e) (below := below) (meth := meth) rfl (by rw [List.length_map]; exact hn) (by rw [← hml]; exact hl.1) rfl (lv_room (by rw [am_cats]; exact hw)) hdg ⟨by omega, by omega⟩
  refine am_backX hrun hI hA (fun hne ad1 H1 locs1 hI1 hE1 hV1 => ?_) (fun he ad1 H1 locs1 q1 ce hI1 hE1 hce hcv hcl1 => ?_)
  · rcases a1 with _ | a1
    · exact absurd rfl hne
    have k3 := k a1 φ1 S1 b φ' S' k2 n2 hg hf ad1 H1 locs1 (cells + k1) (slots + n1) ls hI1 (by omega) (by omega) (amVs_app.mpr ⟨by
      rcases he : encz a1 with _ | v
      · trivial
      · exact ⟨hV1 v he, trivial⟩, amVs_up hE1 hvr⟩) (amVl_up hE1 hvl) (by rw [amCl_cn hE1 hvl]; exact hl)
    rw [List.map_append, amVs_cn hE1 hvr] at k3
    show W p lc e R s m args below meth c H1 locs1 _ _ Q (F0 m (pc + 3) ls (((encz a1).map (cn ad1)).toList ++ rest.map (cn ad)))
    rcases he : encz a1 with _ | v
    · rw [he] at k3
      exact k3
    · rw [he] at k3
      exact k3
  · rcases a1 with _ | a1
    · exact kt φ1 S1 b φ' S' k2 n2 hg hf ad1 H1 locs1 (cells + k1) (slots + n1) ls q1 ce _ hI1 (by omega) (by omega) (amVl_up hE1 hvl) (by rw [amCl_cn hE1 hvl]; exact hl) hce hcv hcl1
    · exact absurd he (hnz a1)
theorem wg_cVW {α : Type} {encz : α → Option Value} {m1 : am1 α} {g : α → am1 β} {q r idx n nLy Fy Ly : Nat} {y : MethodName} {hh : List (Nat × Nat × Nat × Nat)} {ccy : ByteArray} {rty : Option FieldType} {As rest st0 : List Value}  (hX : amOK X cc own nL F L rtp) (hM : amMetW y ccy nLy rty hh Fy Ly encz (.ref (rid q r) :: As) m1) (hq : q < 250) (hk : am_pk q = 0) (h0 : r ≠ 0) (hrc : ∀ c ∈ am_kl q, ∃ (C1 : String) (T1 : u_T) (N1 : Nat), am_cl[c]? = some (C1, T1, N1) ∧ C1 = y.cls) (hG : GoodIn lw_all (wsV own idx y.cls y (wsW_ y ccy nLy rty hh))) (hd : y.cls ≠ "java/lang/invoke/MethodHandle" ∧ y.cls ≠ "java/lang/invoke/VarHandle" ∧ (parseMethodDescriptor y.desc).map (fun d => d.parameters.length) = some n) (hn : As.length = n) (hF : Fy + 1 ≤ F) (hLo : 8 + (nLy + 11) + Ly ≤ L) (hw : (rest.map fun v => v.category).sum ≤ 8) (hst : st0 = As.reverse ++ .ref (rid q r) :: rest) (hdg : decode cc pc = .ok (.invokevirtual idx, 3)) (k : ∀ a, WG X enc (pc + 3) l ((encz a).toList ++ rest) (g a)) : WG X enc pc l st0 (bd1 m1 g) := by
  subst hst
  obtain ⟨⟨p, lc, e, R, s⟩, ⟨m, args, below, meth, c⟩, ⟨D, dA, ad0, φ0, A⟩, ⟨Q, fin⟩⟩ := X
  intro φ S b φ' S' kc ks hP hf ad H locs cells slots ls hI hc hs hv hvl hl
  obtain ⟨a1, φ1, S1, k1, n1, k2, n2, hm, hg, rfl, rfl⟩ := bd1_some hP
  obtain ⟨hx, hb, hml, hown, hts, hlk, hRf, hRl, hKK, hA, hrt, hQ, hlc, hCo⟩ := hX
  subst hRf
  subst hRl
  have hvs := amVs_app.mp hv
  have hvr : amVs φ rest := hvs.2.2
  have ho : amOk φ q r := ⟨hq, Nat.pos_of_ne_zero h0, amV_r (by omega) hvs.2.1⟩
  have hob := am_obj hI.1 ho hk
  obtain ⟨C1, T1, N1, hcl, hCC⟩ : ∃ (C1 : String) (T1 : u_T) (N1 : Nat), am_cl[amK φ q r]? = some (C1, T1, N1) ∧ C1 = y.cls := hrc _ hob.2.1
  have hmet := hM lc hlc D dA ad φ S H.size a1 φ1 S1 k1 n1 hm ⟨hvs.2.1, amVs_rev.mp hvs.1⟩
  have hpre : PreV s H y.cls (ad (rid q r)) (amPc D dA ad φ S (.ref (rid q r) :: As) H.size) (As.map (cn ad)) := ⟨amPc_blind, by
    have := va_recv hKK.va (va_P1 hob.1) hcl (q0 := 0) rfl
    rw [← hCC]
    exact this, fun U hU hW => ⟨by rw [List.map_cons, cn_rid h0], by rw [hU], by rw [hU]; exact hI.1, hKK.warm hW, by rw [hU]; exact hCo.tr hW hI.2.2.2 hI.2.2.1.2.1 (hI.sub hA)⟩⟩
  rw [List.map_append, List.map_cons, cn_rid h0, List.map_reverse]
  have hrun := vx_runVX ⟨hx, hb, hml, hown, hts⟩ hmet (vx_cwVW n hts hG rfl rfl rfl ⟨rfl, hd⟩ ⟨hF, hLo⟩) hpre (g := F0 m pc ls ((As.map (cn ad)).reverse ++ .ref (ad (rid q r)) :: rest.map (cn ad))) (locs := locs) (cells := cells) (slots := slots) (rest := rest.map (cn ad)) (R := R) (e := e) (below := below) (meth := meth) rfl (by rw [List.length_map]; exact hn) (by rw [← hml]; exact hl.1) rfl (lv_room (by rw [am_cats]; exact hw)) hdg ⟨by omega, by omega⟩
  refine am_back (np := pc + 3) (fun T hT X => (hrun T hT X).resolve_right fun ⟨_, _, _, _, _, _, _, _, _, _, _, _, hxx, _⟩ => hxx) hI hA fun ad1 H1 locs1 hI1 hE1 hV1 => ?_
  have k3 := k a1 φ1 S1 b φ' S' k2 n2 hg hf ad1 H1 locs1 (cells + k1) (slots + n1) ls hI1 (by omega) (by omega) (amVs_app.mpr ⟨by
    rcases he : encz a1 with _ | v
    · trivial
    · exact ⟨hV1 v he, trivial⟩, amVs_up hE1 hvr⟩) (amVl_up hE1 hvl) (by rw [amCl_cn hE1 hvl]; exact hl)
  rw [List.map_append, amVs_cn hE1 hvr] at k3
  rcases he : encz a1 with _ | v
  · rw [he] at k3
    exact k3
  · rw [he] at k3
    exact k3
theorem wux_ {α γ : Type} {m : am0 (Option α)} {h0 : am0 γ} {f : α → am0 γ} {K : γ → am1 β} (h : WG X enc pc l st (bdx1 (up m) (bd1 (up h0) K) fun a => bd1 (up (f a)) K)) : WG X enc pc l st (bd1 (up (bdx m h0 f)) K) := by
  have e : bd1 (up (bdx m h0 f)) K = bdx1 (up m) (bd1 (up h0) K) fun a => bd1 (up (f a)) K := by
    unfold bdx bdx1
    rw [bd1_up_bd]
    congr 1
    funext o
    cases o <;> rfl
  rw [e]
  exact h
theorem wvx_ {α γ : Type} {m : am1 (Option α)} {h0 : am1 γ} {f : α → am1 γ} {K : γ → am1 β} (h : WG X enc pc l st (bdx1 m (bd1 h0 K) fun a => bd1 (f a) K)) : WG X enc pc l st (bd1 (bdx1 m h0 f) K) := by
  have e : bd1 (bdx1 m h0 f) K = bdx1 m (bd1 h0 K) fun a => bd1 (f a) K := by
    unfold bdx1
    rw [bd1_assoc]
    congr 1
    funext o
    cases o <;> rfl
  rw [e]
  exact h
theorem wux_out (hX : amOKX X cc own nL F L rtp) : WT X (encX enc) pc l (bd1 (up (rt (none : Option β))) rt1) := by
  rw [bd1_up_rt]
  exact wx_out hX
theorem wvx_out (hX : amOKX X cc own nL F L rtp) : WT X (encX enc) pc l (bd1 (rt1 (none : Option β)) rt1) := by
  rw [bd1_rt1]
  exact wx_out hX
theorem wut_rw {P P' : am1 β} (e : P = P') (h : WT X enc pc l P') : WT X enc pc l P := e ▸ h
theorem wx_cVi {m1 : am1 (Option Int32)} {h0x : am1 β} {g : Int32 → am1 β} {q r idx n nLy Fy Ly : Nat} {y : MethodName} {ccy : ByteArray} {rty : Option FieldType} {As rest st0 : List Value}  (hX : amOK X cc own nL F L rtp) (hM : amMetX y ccy nLy rty Fy Ly encI (.ref (rid q r) :: As) m1) (hq : q < 250) (hk : am_pk q = 0) (h0 : r ≠ 0) (hrc : ∀ c ∈ am_kl q, ∃ (C1 : String) (T1 : u_T) (N1 : Nat), am_cl[c]? = some (C1, T1, N1) ∧ C1 = y.cls) (hG : GoodIn lw_all (wsV own idx y.cls y (ws_ y ccy nLy rty))) (hd : y.cls ≠ "java/lang/invoke/MethodHandle" ∧ y.cls ≠ "java/lang/invoke/VarHandle" ∧ (parseMethodDescriptor y.desc).map (fun d => d.parameters.length) = some n) (hn : As.length = n) (hF : Fy + 1 ≤ F) (hLo : 8 + (nLy + 11) + Ly ≤ L) (hw : (rest.map fun v => v.category).sum ≤ 8) (hst : st0 = As.reverse ++ .ref (rid q r) :: rest) (hdg : decode cc pc = .ok (.invokevirtual idx, 3)) (k : ∀ a : Int32, WG X enc (pc + 3) l (.int a :: rest) (g a)) (kt : WT X enc pc l h0x) : WG X enc pc l st0 (bdx1 m1 h0x g) :=
  wx_cV hX (fun _ h => by cases h) hM hq hk h0 hrc hG hd hn hF hLo hw hst hdg (fun a => k a) kt
theorem wg_cVWi {m1 : am1 Int32} {g : Int32 → am1 β} {q r idx n nLy Fy Ly : Nat} {y : MethodName} {hh : List (Nat × Nat × Nat × Nat)} {ccy : ByteArray} {rty : Option FieldType} {As rest st0 : List Value}  (hX : amOK X cc own nL F L rtp) (hM : amMetW y ccy nLy rty hh Fy Ly encI (.ref (rid q r) :: As) m1) (hq : q < 250) (hk : am_pk q = 0) (h0 : r ≠ 0) (hrc : ∀ c ∈ am_kl q, ∃ (C1 : String) (T1 : u_T) (N1 : Nat), am_cl[c]? = some (C1, T1, N1) ∧ C1 = y.cls) (hG : GoodIn lw_all (wsV own idx y.cls y (wsW_ y ccy nLy rty hh))) (hd : y.cls ≠ "java/lang/invoke/MethodHandle" ∧ y.cls ≠ "java/lang/invoke/VarHandle" ∧ (parseMethodDescriptor y.desc).map (fun d => d.parameters.length) = some n) (hn : As.length = n) (hF : Fy + 1 ≤ F) (hLo : 8 + (nLy + 11) + Ly ≤ L) (hw : (rest.map fun v => v.category).sum ≤ 8) (hst : st0 = As.reverse ++ .ref (rid q r) :: rest) (hdg : decode cc pc = .ok (.invokevirtual idx, 3)) (k : ∀ a : Int32, WG X enc (pc + 3) l (.int a :: rest) (g a)) : WG X enc pc l st0 (bd1 m1 g) :=
  wg_cVW hX hM hq hk h0 hrc hG hd hn hF hLo hw hst hdg (fun a => k a)
theorem wx_cVv {m1 : am1 (Option Unit)} {h0x : am1 β} {g : Unit → am1 β} {q r idx n nLy Fy Ly : Nat} {y : MethodName} {ccy : ByteArray} {rty : Option FieldType} {As rest st0 : List Value}  (hX : amOK X cc own nL F L rtp) (hM : amMetX y ccy nLy rty Fy Ly encV (.ref (rid q r) :: As) m1) (hq : q < 250) (hk : am_pk q = 0) (h0 : r ≠ 0) (hrc : ∀ c ∈ am_kl q, ∃ (C1 : String) (T1 : u_T) (N1 : Nat), am_cl[c]? = some (C1, T1, N1) ∧ C1 = y.cls) (hG : GoodIn lw_all (wsV own idx y.cls y (ws_ y ccy nLy rty))) (hd : y.cls ≠ "java/lang/invoke/MethodHandle" ∧ y.cls ≠ "java/lang/invoke/VarHandle" ∧ (parseMethodDescriptor y.desc).map (fun d => d.parameters.length) = some n) (hn : As.length = n) (hF : Fy + 1 ≤ F) (hLo : 8 + (nLy + 11) + Ly ≤ L) (hw : (rest.map fun v => v.category).sum ≤ 8) (hst : st0 = As.reverse ++ .ref (rid q r) :: rest) (hdg : decode cc pc = .ok (.invokevirtual idx, 3)) (k : WG X enc (pc + 3) l (rest) (g ())) (kt : WT X enc pc l h0x) : WG X enc pc l st0 (bdx1 m1 h0x g) :=
  wx_cV hX (fun _ h => by cases h) hM hq hk h0 hrc hG hd hn hF hLo hw hst hdg (fun a => k) kt
theorem wg_cVWv {m1 : am1 Unit} {g : Unit → am1 β} {q r idx n nLy Fy Ly : Nat} {y : MethodName} {hh : List (Nat × Nat × Nat × Nat)} {ccy : ByteArray} {rty : Option FieldType} {As rest st0 : List Value}  (hX : amOK X cc own nL F L rtp) (hM : amMetW y ccy nLy rty hh Fy Ly encV (.ref (rid q r) :: As) m1) (hq : q < 250) (hk : am_pk q = 0) (h0 : r ≠ 0) (hrc : ∀ c ∈ am_kl q, ∃ (C1 : String) (T1 : u_T) (N1 : Nat), am_cl[c]? = some (C1, T1, N1) ∧ C1 = y.cls) (hG : GoodIn lw_all (wsV own idx y.cls y (wsW_ y ccy nLy rty hh))) (hd : y.cls ≠ "java/lang/invoke/MethodHandle" ∧ y.cls ≠ "java/lang/invoke/VarHandle" ∧ (parseMethodDescriptor y.desc).map (fun d => d.parameters.length) = some n) (hn : As.length = n) (hF : Fy + 1 ≤ F) (hLo : 8 + (nLy + 11) + Ly ≤ L) (hw : (rest.map fun v => v.category).sum ≤ 8) (hst : st0 = As.reverse ++ .ref (rid q r) :: rest) (hdg : decode cc pc = .ok (.invokevirtual idx, 3)) (k : WG X enc (pc + 3) l (rest) (g ())) : WG X enc pc l st0 (bd1 m1 g) :=
  wg_cVW hX hM hq hk h0 hrc hG hd hn hF hLo hw hst hdg (fun a => k)
theorem wx_cVr {m1 : am1 (Option Nat)} {h0x : am1 β} {g : Nat → am1 β} {q r idx n nLy Fy Ly t : Nat} {y : MethodName} {ccy : ByteArray} {rty : Option FieldType} {As rest st0 : List Value}  (hX : amOK X cc own nL F L rtp) (hM : amMetX y ccy nLy rty Fy Ly (encR t) (.ref (rid q r) :: As) m1) (hq : q < 250) (hk : am_pk q = 0) (h0 : r ≠ 0) (hrc : ∀ c ∈ am_kl q, ∃ (C1 : String) (T1 : u_T) (N1 : Nat), am_cl[c]? = some (C1, T1, N1) ∧ C1 = y.cls) (hG : GoodIn lw_all (wsV own idx y.cls y (ws_ y ccy nLy rty))) (hd : y.cls ≠ "java/lang/invoke/MethodHandle" ∧ y.cls ≠ "java/lang/invoke/VarHandle" ∧ (parseMethodDescriptor y.desc).map (fun d => d.parameters.length) = some n) (hn : As.length = n) (hF : Fy + 1 ≤ F) (hLo : 8 + (nLy + 11) + Ly ≤ L) (hw : (rest.map fun v => v.category).sum ≤ 8) (hst : st0 = As.reverse ++ .ref (rid q r) :: rest) (hdg : decode cc pc = .ok (.invokevirtual idx, 3)) (k : ∀ a : Nat, WG X enc (pc + 3) l (.ref (rid t a) :: rest) (g a)) (kt : WT X enc pc l h0x) : WG X enc pc l st0 (bdx1 m1 h0x g) :=
  wx_cV hX (fun _ h => by cases h) hM hq hk h0 hrc hG hd hn hF hLo hw hst hdg (fun a => k a) kt
theorem wg_cVWr {m1 : am1 Nat} {g : Nat → am1 β} {q r idx n nLy Fy Ly t : Nat} {y : MethodName} {hh : List (Nat × Nat × Nat × Nat)} {ccy : ByteArray} {rty : Option FieldType} {As rest st0 : List Value}  (hX : amOK X cc own nL F L rtp) (hM : amMetW y ccy nLy rty hh Fy Ly (encR t) (.ref (rid q r) :: As) m1) (hq : q < 250) (hk : am_pk q = 0) (h0 : r ≠ 0) (hrc : ∀ c ∈ am_kl q, ∃ (C1 : String) (T1 : u_T) (N1 : Nat), am_cl[c]? = some (C1, T1, N1) ∧ C1 = y.cls) (hG : GoodIn lw_all (wsV own idx y.cls y (wsW_ y ccy nLy rty hh))) (hd : y.cls ≠ "java/lang/invoke/MethodHandle" ∧ y.cls ≠ "java/lang/invoke/VarHandle" ∧ (parseMethodDescriptor y.desc).map (fun d => d.parameters.length) = some n) (hn : As.length = n) (hF : Fy + 1 ≤ F) (hLo : 8 + (nLy + 11) + Ly ≤ L) (hw : (rest.map fun v => v.category).sum ≤ 8) (hst : st0 = As.reverse ++ .ref (rid q r) :: rest) (hdg : decode cc pc = .ok (.invokevirtual idx, 3)) (k : ∀ a : Nat, WG X enc (pc + 3) l (.ref (rid t a) :: rest) (g a)) : WG X enc pc l st0 (bd1 m1 g) :=
  wg_cVW hX hM hq hk h0 hrc hG hd hn hF hLo hw hst hdg (fun a => k a)
theorem amMetX.none {β : Type} {y : MethodName} {cc : ByteArray} {nL : Nat} {rtp : Option FieldType} {F L : Nat} {enc : β → Option Value} {av : List Value} {P : am1 (Option β)} (h : ∀ φ S, P φ S = none) : amMetX y cc nL rtp F L enc av P := by
  intro lc hlc D dA ad φ S sz b φ' S' kc ks hP
  rw [h] at hP
  cases hP
end am40
