/-! calls that land in an interface's default method -/
theorem am_wpI {Q : Unit → Pre} {E : CtlPost} {e : Env} {d : Bool} {acts : List Action} {s : State} {f : JFrame} {index a : Nat} {m : MethodId} {k dk : Class} {meth : Method} {args rest : List Value}
    (hs : s.topJava?.isSome) (hnamed : namesResolved s.vm f.method.cls index m.cls) (hr : s.vm.methodReady f.method.cls index m)
    (hk : s.vm.classes[m.cls]? = some k) (hki : k.isInterface = true) (hd : s.vm.classes[f.method.cls]? = some dk) (hdi : dk.isInterface = false) (hm : s.vm.method? m = some meth) (hname : meth.name ≠ "<init>")
    (hstatic : meth.isStatic = false) (habs : meth.isAbstract = false)
    (hfound : lookupSpecial s.vm m.cls meth.name meth.desc = .method m)
    (hlen : args.length = meth.sig.parameters.length) (hstack : f.stack = args.reverse ++ .ref a :: rest) :
    wp (Op.invokespecial.sem index) Q E e d acts (s.setTop f) ↔ E (.invoke m (.ref a :: args).toArray) acts (s.setTop { f with stack := rest }) := by
  obtain ⟨kc, cf, ci, n, h1, h2, h3, h4⟩ := hnamed
  cases hd.symm.trans h1
  have hpre : ∀ {Q' : ClassId → Pre} {d' : Bool} {acts' : List Action}, wp (Jvm.refClassAt index) Q' E e d' acts' (s.setTop f) ↔ Q' m.cls d' acts' (s.setTop f) := by
    intro Q' d' acts'
    rcases h3 with h3 | h3 <;>
      simp [Jvm.refClassAt, Jvm.constantAt, State.method?_setTop f hs, h1, h2, h3, W.resolveClassAt_ready (State.method?_setTop f hs) h4]
  simp only [Op.invokespecial.sem, wp_bind', W.resolveMethodAt_ready (State.method?_setTop f hs) hr]
  simp only [W.theMethod, State.vm_setTop, hm, Option.some.injEq, exists_eq_left', wp_bind', hpre]
  simp [hs, hname, hstatic, habs, h1, hk, hki, hdi, hm, hfound, State.method?_setTop f hs, Jvm.popArgs, ← hlen, popN_top hs hstack]
theorem am_stepI {tb : Tables} [Ours tb] {e : Env} {below : List Frame} {s U : State} {mm : MethodId} {cc : Code} (h : At U mm cc below) (hexec : tb.exec = Jvm.exec) (hW : s.WarmedH U.vm)
    (hpl : e.platform.magicAccessors = ({} : Platform).magicAccessors) {own : String} (hown : s.vm.findClass own = some mm.cls) {idx : Nat} {t : MethodName} (ht1 : t.name ≠ "<init>")
    (hnot : t.cls ≠ "java/lang/invoke/MethodHandle" ∧ t.cls ≠ "java/lang/invoke/VarHandle") {args : Array Value} {bytes : ByteArray} {maxL : Nat} {ret : Option FieldType}
    (hlink : (Cond.methodLink own idx t).before args s = true) (hinst : (Cond.instanceMethod t).before args s = true) (hcode : (Cond.code t bytes maxL ret).before args s = true)
    {nm9 ds9 : String} (hface : (Cond.interfaceMethod t.cls t.cls nm9 ds9).before args s = true) (hdk : ∃ dk, s.vm.classes[mm.cls]? = some dk ∧ dk.isInterface = false)
    {f : JFrame} (hf : f.method = mm) {a : Addr} {argsL rest : List Value} (hlen : ∀ sig, parseMethodDescriptor t.desc = some sig → argsL.length = sig.parameters.length) (hstack : f.stack = argsL.reverse ++ .ref a :: rest) (hd : decode cc.code f.pc = .ok (.invokespecial idx, 3)) :
    ∃ tm meth cd k vm', s.methodNamed? t = some tm ∧ s.vm.method? tm = some meth ∧ meth.code = some cd ∧ cd.code = bytes ∧ cd.maxLocals = maxL ∧ meth.locks = false ∧ meth.sig.returnType = ret ∧ s.vm.classes[tm.cls]? = some k ∧ k.name = t.cls ∧ s.WarmedH vm' ∧
      ∀ target, (∀ acts, Steps tb e below (doInvoke e ((U.setVm vm').setTop { f with stack := rest }) acts tm (.ref a :: argsL).toArray).1 target) → Steps tb e below (U.setTop f) target := by
  subst hf
  obtain ⟨obj, methO, hnO, hmO, hstO, habO⟩ := Cond.instanceMethod_spec hinst
  obtain ⟨methO', cO, hmO', hcO, hbO, hlO, hrO, hlockO, -, hsigO⟩ := Cond.code_spec hnO hcode
  cases hmO.symm.trans hmO'
  obtain ⟨kO, hkO, hnameO⟩ := className_of_methodNamed hnO
  obtain ⟨hnameMO, hdescO⟩ := name_of_methodNamed hnO hmO
  obtain ⟨cI, kI, mI, hcI, hkI, hiI, -, -⟩ := Cond.interfaceMethod_spec hface
  have hcO9 := findClass_of_methodNamed hnO
  cases hcI.symm.trans hcO9
  cases hkI.symm.trans hkO
  obtain ⟨dk9, hdk9, hdi9⟩ := hdk
  obtain ⟨ci, hl, hright⟩ := Cond.methodLink_spec hown hnO hlink e.platform hpl
  have hE : s.MethodEntry e U.vm f.method.cls idx obj ci := State.methodEntry hW hl hright fun k hk => by
    cases hkO.symm.trans hk
    rw [hnameO]; exact hnot
  obtain ⟨dk, cf, nt, _, _, via, _, _, hd', hcf, hcp, -⟩ := hl.here
  cases hdk9.symm.trans hd'
  have hcp' : cf.constantPool[idx]? = some (.methodref ci nt) ∨ cf.constantPool[idx]? = some (.interfaceMethodref ci nt) := by
    cases via
    · exact Or.inl (by simpa using hcp)
    · exact Or.inr (by simpa using hcp)
  have hwarm := hE.warmed
  have hreadyM := hE.ready
  have hreadyC := hE.classReady
  generalize hvm₂ : U.vm.called f.method.cls ci idx obj = vm₂ at hwarm hreadyM hreadyC
  obtain ⟨dk₂, hdk₂, hed₂⟩ := hwarm.alike.2.2 _ _ hd'
  obtain ⟨kO₂, hkO₂, heO₂⟩ := hwarm.alike.2.2 _ _ hkO
  have hmO₂ : vm₂.method? obj = some methO := by rw [hwarm.alike.method?]; exact hmO
  have hfound : lookupSpecial vm₂ obj.cls methO.name methO.desc = .method obj := by
    rw [hwarm.alike.lookupSpecial, hdescO, hnameMO]; exact lookupSpecial_of_named hnO hmO hstO
  refine ⟨obj, methO, cO, kO, vm₂, hnO, hmO, hcO, hbO, hlO, hlockO, hrO, hkO, hnameO, hwarm, fun target hrest => ?_⟩
  have hAt₂ : At (U.setVm vm₂) f.method cc below := h.setVm (hW.alike.symm.trans hwarm.alike)
  jvm_step h [hexec, hd, Op.invokespecial.wp_cold (e := e) (s := U) (s₀ := s) (f := f) (meth := methO) h.top hE hd' hcf hcp' hmO, hvm₂,
    am_wpI (e := e) (s := U.setVm vm₂) (k := kO₂) (dk := dk₂) (meth := methO) (m := obj) (a := a) (args := argsL) (rest := rest) (f := f)
      hAt₂.top ⟨dk₂, cf, ci, nt, hdk₂, by rw [hed₂]; exact hcf, hcp', hreadyC⟩ hreadyM hkO₂ (by rw [heO₂]; exact hiI) hdk₂ (by rw [hed₂]; exact hdi9) hmO₂ (by rw [hnameMO]; exact ht1) hstO habO hfound (hlen _ hsigO) hstack]
  exact hrest
/-- a callee that is walked in its frame, its class initialised or not -/
theorem am_rawBack {p : Program} {l : Launch} {e : Env} {R : Room} {s : State} {m : MethodId} {sargs : Array Value} {below : List Frame} {meth : Method} {c : Code} {U : State} {Ls : List Loc} {c0 s0 : Nat}
    (X : Stand p l e R s m sargs below meth c U Ls c0 s0) {g : JFrame} (hg : g.method = m) (hsize : g.locals.size = c.maxLocals) {ig : Instr} {len : Nat} (hdg : decode c.code g.pc = .ok (ig, len))
    {y : MethodName} {mk : MethodId} {a : Array Value} {methY : Method} {cY : Code} {maxL : Nat} (hy : plainName y.cls = true) (hn : U.methodNamed? y = some mk) (hmY : U.vm.method? mk = some methY) (hcY : methY.code = some cY) (hlY : cY.maxLocals = maxL) (hlk : methY.locks = false)
    {R' : Room} (hframes : R'.frames + 1 ≤ R.frames) (hlocals : 2 * g.monitorRoom + (g.stack.map fun v => v.category).sum + (maxL + 11) + R'.locals ≤ R.locals) (h4 : c0 + R'.cells ≤ R.cells) (h5 : s0 + R'.slots ≤ R.slots)
    {Qc : Array Value → State → Outcome → State → Prop} {free : Addr → Prop} {mc ms : Nat}
    (body : W p l e R' (U.calling g mk a) mk a (.java g :: U.frames.tail) methY cY (U.calling g mk a).heap [] 0 0 (MQ (.java g :: U.frames.tail) Qc a (U.calling g mk a) mc ms free) (entryFrame mk a maxL)) :
    ∃ (v : Option Value) (st₀ t T' : State) (L : List Loc), st₀.heap = U.heap ∧ Stand p l e R s m sargs below meth c T' (Ls ++ L) (c0 + mc) (s0 + ms) ∧ (∀ q ∈ L, free q.base) ∧ T'.heap = t.heap ∧ T'.vm = t.vm ∧ Qc a st₀ (.returned v) t ∧
      Steps p.tables e below (doInvoke e (U.setTop g) [] mk a).1 (T'.setTop { g with pc := g.pc + len, stack := v.toList ++ g.stack }) := by
  have h : At U g.method c below := by rw [hg]; exact X.here
  obtain ⟨mid, hmid⟩ := h.above
  have hroom : (U.calling g mk a).hasRoom e.platform R' = true := X.room_calling (g := g) (R' := R') hsize hmY hcY hframes (by rw [hlY]; omega) h4 h5
  have hcf : (U.calling g mk a).frames = .invoking mk a :: .java g :: U.frames.tail := State.frames_calling h.top g mk a
  have hcur := State.cur_lt_of_frames hcf
  obtain ⟨th, hth, -⟩ := State.frames_cons hcf
  have hf1 : ((U.calling g mk a).setFrames (.java (entryFrame mk a maxL) :: .java g :: U.frames.tail)).frames = .java (entryFrame mk a maxL) :: .java g :: U.frames.tail := State.frames_setFrames _ hcur
  have ht1 := State.topJava?_of_frames hf1
  have hplain : ((U.calling g mk a).setFrames (.java (entryFrame mk a maxL) :: .java g :: U.frames.tail)).plainMethod mk := by
    refine State.plainMethod.of_name ?_
    intro k hk
    obtain ⟨k', hk', hn'⟩ := className_of_methodNamed hn
    cases (show U.vm.classes[mk.cls]? = some k from hk).symm.trans hk'
    rw [hn']; exact hy
  have hable : (U.calling g mk a).curStatus? = some .runnable := by simpa [State.calling] using h.runnable
  have halone : (U.calling g mk a).alone = true := by simpa [State.calling] using h.alone
  have hAt : At ((U.calling g mk a).setFrames (.java (entryFrame mk a maxL) :: .java g :: U.frames.tail)) mk cY (.java g :: U.frames.tail) :=
    ⟨by rw [ht1]; rfl, ⟨[], by rw [hf1]; rfl⟩, h.running, by simpa using hable, by simpa using halone,
      by
        rw [State.code?_eq]
        show (U.vm.method? mk).bind _ = _
        simp [hmY, hcY], hplain⟩
  have hcode : (U.calling g mk a).code? g.method = some c := by
    have := h.code
    rw [State.code?_eq] at this ⊢
    simpa [State.calling, State.pushFrame, State.setFrames] using this
  have hears : (U.calling g mk a).hears mk (.java g :: U.frames.tail) = true := by
    simp [State.hears, hcode, hdg, Except.toOption]
  have X' : Stand p l e R' (U.calling g mk a) mk a (.java g :: U.frames.tail) methY cY ((U.calling g mk a).setFrames (.java (entryFrame mk a maxL) :: .java g :: U.frames.tail)) [] 0 0 := by
    refine ⟨X.admits, X.cas, X.clock, hcf, hroom, hears, hmY, hcY, hAt, by rw [hf1]; rfl, State.WarmedH.refl _, by rw [State.stackLimits_setFrames], by rw [State.stackBytes_setFrames], ?_⟩
    exact (State.sameButNew.refl (U.calling g mk a) hth).setFrames (.java (entryFrame mk a maxL) :: .java g :: U.frames.tail) hcur
  obtain ⟨s₂, hst, o, hrun2, hend, hqc, L, hfe, hL⟩ := body ((U.calling g mk a).setFrames (.java (entryFrame mk a maxL) :: .java g :: U.frames.tail)) rfl X'
  have hfull : e.platform.stackFull (((U.setTop g).threads[(U.setTop g).cur]?).getD { frames := [] }) (U.setTop g).frames cY.maxLocals = false := by
    obtain ⟨-, h1, -, h2⟩ := State.hasRoom_stack hroom
    rw [hcf, List.length_cons] at h1
    rw [State.localsInUse_invoking hcf hmY hcY] at h2
    have hw := stackUse_le_stackWeight (.java g :: U.frames.tail)
    have e1 : (U.setTop g).frames = .java g :: U.frames.tail := State.frames_setTop' g h.top
    have e2 : e.platform.stackLimits (((U.setTop g).threads[(U.setTop g).cur]?).getD { frames := [] }) = e.platform.stackLimits (U.calling g mk a).me := by
      show _ = e.platform.stackLimits ((U.setTop g).pushFrame _).me
      rw [State.pushFrame, State.stackLimits_setFrames]
      rfl
    rw [e1]
    exact Platform.stackFull_eq_false (by rw [e2]; omega) (by rw [e2]; omega)
  have hstep : (doInvoke e (U.setTop g) [] mk a).1 = ((U.calling g mk a).setFrames (.java (entryFrame mk a maxL) :: .java g :: U.frames.tail)).setTop (entryFrame mk a maxL) := by
    rw [(doInvoke_java (s := U.setTop g) (e := e) (acts := []) (args := a) (meth := methY) (code := cY) hmY hcY hlk hfull).1, State.setTop_self ht1]
    simp only [State.calling, State.pushFrame, State.setFrames_setFrames, hlY, entryFrame, State.frames_setTop' g h.top]
  have hsteps : Steps p.tables e below (doInvoke e (U.setTop g) [] mk a).1 s₂ := by
    rw [hstep]
    obtain ⟨n, hn1, hw⟩ := hst
    refine ⟨n, hn1, fun k hk => ?_⟩
    have key : ∀ (Z : State) (bl : List Frame), bl = (Frame.java g :: mid) ++ below → Within Z bl → Within Z below := by
      intro Z bl hbl hZ
      subst hbl
      exact hZ.weaken
    exact key _ _ (by rw [hmid]; rfl) (hw k hk)
  obtain ⟨g₀, hg0⟩ := Option.isSome_iff_exists.mp h.top
  obtain ⟨r, hr⟩ := State.topJava?_eq_some.mp hg0
  have hr' : (({ U with heap := s₂.heap, slotsUsed := s₂.slotsUsed } : State).setVm s₂.vm).frames = .java g₀ :: r := hr
  obtain ⟨⟨v, rfl⟩, hW₂, e2, q2, q3, q4, q5, q6⟩ := id hfe
  have e3 : s₂ = ({ (U.calling g mk a).setFrames s₂.frames with heap := s₂.heap, slotsUsed := s₂.slotsUsed } : State).setVm s₂.vm := by
    have : s₂ = ({ s₂ with vm := (U.calling g mk a).vm } : State).setVm s₂.vm := rfl
    rw [e2] at this
    exact this
  obtain ⟨c₂, i₂, len₂, hc₂, hd₂, hf₂⟩ := hend
  have hW' : U.WarmedH s₂.vm := hW₂
  have hcc : c₂ = c := by
    have h1 : s₂.code? g.method = U.code? g.method := by
      rw [State.code?_eq, State.code?_eq, hW'.alike.method?]
    exact Option.some.inj (hc₂.symm.trans (h1.trans h.code))
  subst hcc
  have hlen : len₂ = len := by rw [hdg] at hd₂; cases hd₂; rfl
  subst hlen
  have hs₂ : s₂ = (({ U with heap := s₂.heap, slotsUsed := s₂.slotsUsed } : State).setVm s₂.vm).setTop { g with pc := g.pc + len₂, stack := v.toList ++ g.stack } := by
    refine e3.trans ?_
    rw [hf₂, State.calling_eq h.top, State.setFrames_setFrames, State.setTop_of_frames _ hr', hr]
    rfl
  have hsame : U.sameButNew ({ U with heap := s₂.heap, slotsUsed := s₂.slotsUsed } : State) L mc ms := by
    refine ⟨?_, q2, q3, q4, q5, q6⟩
    obtain ⟨t, ht, -⟩ := State.frames_cons hr
    show ({ U with heap := s₂.heap, slotsUsed := s₂.slotsUsed } : State) = { U.setFrames U.frames with heap := s₂.heap, slotsUsed := s₂.slotsUsed }
    rw [State.setFrames_self ht]
  subst hg
  refine ⟨v, U.calling g mk a, s₂, (({ U with heap := s₂.heap, slotsUsed := s₂.slotsUsed } : State).setVm s₂.vm), L, by rw [State.calling_eq h.top]; rfl,
    ⟨X.admits, X.cas, X.clock, X.frames, X.room, X.hears, X.method, X.code, (X.here.setHeapUsed s₂.heap s₂.slotsUsed).setVm hW'.alike, X.tail, State.WarmedH.trans X.warmed hW', X.limits, X.bytes, X.same.trans (hsame.setVm s.vm)⟩, hL, rfl, rfl, hqc, ?_⟩
  show Steps p.tables e below _ ((({ U with heap := s₂.heap, slotsUsed := s₂.slotsUsed } : State).setVm s₂.vm).setTop { g with pc := g.pc + len₂, stack := v.toList ++ g.stack })
  rw [← hs₂]
  exact hsteps
section am42
variable {X : amX} {cc : ByteArray} {own : String} {nL F L : Nat} {rtp : Option FieldType} {β : Type} {enc : β → Option Value} {pc : Nat} {l : List (Nat × Value)} {st : List Value}
/-- a default method, called by its interface's name -/
theorem wg_cSI {m1 : am1 Int32} {g : Int32 → am1 β} {q r idx n nLy Fy Ly : Nat} {y : MethodName} {ccy : ByteArray} {As rest st0 : List Value} {sn sd : String} {fw : String × MethodName × MethodName} (hX : amOK X cc own nL F L rtp)
    (hM : ∀ X' : amX, amOK X' ccy y.cls nLy Fy Ly (some .int) → WG X' encI 0 (amArgs 0 (.ref (rid q r) :: As)) [] (bd1 m1 rt1)) (hp : plainName y.cls = true) (hnm : y.name ≠ "<init>" ∧ y.cls ≠ "java/lang/invoke/MethodHandle" ∧ y.cls ≠ "java/lang/invoke/VarHandle" ∧ (parseMethodDescriptor y.desc).map (fun d => d.parameters.length) = some n) (h0 : r ≠ 0)
    (hl0 : Cond.methodLink own idx y ∈ lw_all) (hinst : Cond.instanceMethod y ∈ lw_all) (hcode : Cond.code y ccy nLy (some .int) ∈ lw_all) (hfw : fw ∈ am_fw) (hfy : fw.2.1.cls = y.cls) (hsame : Cond.sameMethod own own sn sd ∈ lw_all) (hn : As.length = n) (hL : (lg_sl (.ref (rid q r) :: As)).length ≤ nLy) (hF : Fy + 1 ≤ F) (hLo : 8 + (nLy + 11) + Ly ≤ L) (hw : (rest.map fun v => v.category).sum ≤ 8) (hst : st0 = As.reverse ++ .ref (rid q r) :: rest) (hdg : decode cc pc = .ok (.invokespecial idx, 3)) (k : ∀ a : Int32, WG X enc (pc + 3) l (.int a :: rest) (g a)) : WG X enc pc l st0 (bd1 m1 g) := by
  subst hst
  obtain ⟨⟨p, lc, e, R, s⟩, ⟨m, args, below, meth, c⟩, ⟨D, dA, ad0, φ0, A⟩, ⟨Q, fin⟩⟩ := X
  intro φ S b φ' S' kc ks hP hf ad H locs cells slots ls hI hc hs hv hvl hl
  obtain ⟨a1, φ1, S1, k1, n1, k2, n2, hm, hg, rfl, rfl⟩ := bd1_some hP
  obtain ⟨hx, hb, hml, hown, hts, hlk, hRf, hRl, hKK, hA, hrt, hQ, hlc, hCo⟩ := hX
  subst hRf
  subst hRl
  have hvs := amVs_app.mp hv
  have hvr : amVs φ rest := hvs.2.2
  have hav : (Value.ref (ad (rid q r)) :: As.map (cn ad)) = (Value.ref (rid q r) :: As).map (cn ad) := by rw [List.map_cons, cn_rid h0]
  rw [List.map_append, List.map_cons, cn_rid h0, List.map_reverse]
  refine am_back (np := pc + 3) (vo := some (.int a1)) (φ1 := φ1) (S1 := S1) (mc := k1) (ms := n1) (a := (Value.ref (ad (rid q r)) :: As.map (cn ad)).toArray) (rest := rest.map (cn ad)) (fun T hT X => ?_) hI hA fun ad1 H1 locs1 hI1 hE1 hV1 => ?_
  · subst hT
    have hpl : e.platform.magicAccessors = ({} : Platform).magicAccessors := by rw [X.admits.platform]
    have hface : (Cond.interfaceMethod y.cls y.cls fw.2.1.name fw.2.1.desc).before args s = true := by
      have := (hKK.2.2.2.1 _ hfw).2.1
      rw [hfy] at this
      exact va_tabs rfl rfl this
    have hdk : ∃ dk, s.vm.classes[m.cls]? = some dk ∧ dk.isInterface = false := by
      obtain ⟨c9, k9, -, h1, h2, h3, -⟩ := Cond.sameMethod_found (hts _ hsame)
      cases hown.symm.trans h1
      exact ⟨k9, h2, h3⟩
    have hlen : ∀ sig, parseMethodDescriptor y.desc = some sig → (As.map (cn ad)).length = sig.parameters.length := by
      intro sig h
      have h2 := hnm.2.2.2
      rw [h] at h2
      rw [List.length_map, hn]
      exact (Option.some.inj h2).symm
    obtain ⟨mk, methY, cY, kP, vm₁, hnamed, hmethY, hcY, hbY, hlY, hlkY, hrtY, hkP, hkPn, hW₁, hstep₁⟩ := am_stepI (e := e) (args := args) X.here hx X.warmed hpl hown hnm.1 ⟨hnm.2.1, hnm.2.2.1⟩ (hts _ hl0) (hts _ hinst) (hts _ hcode) hface hdk (f := F0 m pc ls ((As.map (cn ad)).reverse ++ .ref (ad (rid q r)) :: rest.map (cn ad))) rfl (a := ad (rid q r)) (argsL := As.map (cn ad)) (rest := rest.map (cn ad)) hlen rfl (by rw [hb]; exact hdg)
    have X₁ := X.noted hW₁
    have hn₁ := X₁.named hnamed
    have hroomL : 2 * (F0 m pc ls (rest.map (cn ad))).monitorRoom + ((rest.map (cn ad)).map fun v => v.category).sum ≤ 8 := lv_room (by rw [am_cats]; exact hw)
    obtain ⟨v, st₀, t, T', Lc, h0', X', hL', e1, e2, hq, st⟩ := am_rawBack X₁ (g := F0 m pc ls (rest.map (cn ad))) rfl hl.1 (ig := .invokespecial idx) (len := 3) (by rw [hb]; exact hdg) (y := y) (mk := mk) (a := (Value.ref (ad (rid q r)) :: As.map (cn ad)).toArray) (methY := methY) (cY := cY) (maxL := nLy) hp hn₁ (by
        show vm₁.method? mk = some methY
        rw [hW₁.alike.method?]; exact hmethY) hcY hlY hlkY (R' := { frames := Fy, cells := k1, slots := n1, locals := Ly }) hF (by
        show 2 * (F0 m pc ls (rest.map (cn ad))).monitorRoom + ((rest.map (cn ad)).map fun v => v.category).sum + (nLy + 11) + Ly ≤ _
        omega) (by show cells + k1 ≤ R.cells; omega) (by show slots + n1 ≤ R.slots; omega) (Qc := amQc D dA ad φ (amA ad φ T.heap.size) (some (.int a1), φ1, S1)) (free := amA ad φ T.heap.size) (mc := k1) (ms := n1) (by
        rw [hav]
        have hl2 := lv_entry ((Value.ref (rid q r) :: As).map (cn ad)) (n := nLy) (by rw [am_slLen]; exact hL)
        rw [lg_entry_eq]
        generalize (lg_sl ((Value.ref (rid q r) :: As).map (cn ad)) ++ List.replicate (nLy - (lg_sl ((Value.ref (rid q r) :: As).map (cn ad))).length) Slot.unset).toArray = ls2 at hl2 ⊢
        rw [amArgs_cn] at hl2
        generalize hgg : F0 m pc ls (rest.map (cn ad)) = gg
        have hbd := hM ((p, lc, e, { frames := Fy, cells := k1, slots := n1, locals := Ly }, (T.setVm vm₁).calling gg mk ((Value.ref (rid q r) :: As).map (cn ad)).toArray), (mk, ((Value.ref (rid q r) :: As).map (cn ad)).toArray, .java gg :: (T.setVm vm₁).frames.tail, methY, cY), (D, dA, ad, φ, amA ad φ T.heap.size), (MQ (.java gg :: (T.setVm vm₁).frames.tail) (amQc D dA ad φ (amA ad φ T.heap.size) (some (.int a1), φ1, S1)) ((Value.ref (rid q r) :: As).map (cn ad)).toArray ((T.setVm vm₁).calling gg mk ((Value.ref (rid q r) :: As).map (cn ad)).toArray) k1 n1 (amA ad φ T.heap.size), (some (.int a1), φ1, S1)))
          ⟨hx, hbY, hlY, findClass_of_methodNamed hn₁, fun w hw9 => pay_in hts (lw_meth hcode) w (List.mem_cons_of_mem _ hw9) _ _ hW₁, hlkY, rfl, rfl, hKK.warm (U := (T.setVm vm₁).calling gg mk ((Value.ref (rid q r) :: As).map (cn ad)).toArray) hW₁, fun q h => Or.inl h, hrtY, fun _ _ _ _ _ _ h => h, hlc, hCo.tr (U := (T.setVm vm₁).calling gg mk ((Value.ref (rid q r) :: As).map (cn ad)).toArray) hW₁ hI.2.2.2 hI.2.2.1.2.1 (hI.sub hA)⟩
        exact hbd φ S a1 φ1 S1 k1 n1 (by rw [bd1_rt]; exact hm) rfl ad T.heap [] 0 0 ls2 ⟨hI.1, fun p r h => Or.inr ⟨p, r, h, rfl⟩, va_S.rf, amE.rf⟩ (Nat.zero_add _) (Nat.zero_add _) trivial (fun q0 hq0 => amVs_all.mp (show amVs φ (.ref (rid q r) :: As) from ⟨hvs.2.1, amVs_rev.mp hvs.1⟩) _ (amArgs_mem _ _ _ hq0)) (by rw [hlY]; exact hl2))
    refine ⟨v, st₀, t, T', Lc, h0', X', hL', e1, e2, hq, fun t2 a2 => hstep₁ _ (fun acts => ?_)⟩
    rw [doInvoke_state]
    exact st.trans a2
  · have k3 := k a1 φ1 S1 b φ' S' k2 n2 hg hf ad1 H1 locs1 (cells + k1) (slots + n1) ls hI1 (by omega) (by omega) ⟨trivial, amVs_up hE1 hvr⟩ (amVl_up hE1 hvl) (by rw [amCl_cn hE1 hvl]; exact hl)
    rw [List.map_cons, amVs_cn hE1 hvr] at k3
    exact k3
/-- a call that lands in a default method -/
theorem wg_cD {m1 : am1 Int32} {g : Int32 → am1 β} {q r n nLy Fy Ly : Nat} {ccy : ByteArray} {As rest st0 : List Value} (hX : amOK X cc "CityBrigade$Crew" nL F L rtp)
    (hM : amMet yTm ccy nLy (some .int) Fy Ly encI (.ref (rid q r) :: As) m1) (hq : q < 250) (hk : am_pk q = 0) (h0 : r ≠ 0) (hrc : ∀ c ∈ am_kl q, ∃ (C1 : String) (T1 : u_T) (N1 : Nat), am_cl[c]? = some (C1, T1, N1) ∧ C1 ∈ ["CityBrigade$Pump", "CityBrigade$Steamer", "CityBrigade$Ladder", "CityBrigade$Chief"])
    (hinst : Cond.instanceMethod yTm ∈ lw_all) (hini : Cond.initialized yTm.cls ∈ lw_all) (hcode : Cond.code yTm ccy nLy (some .int) ∈ lw_all) (hdc : Cond.declares yTm ∈ lw_tbl) (hpd : (parseMethodDescriptor yCm.desc).map (fun d => d.parameters.length) = some n) (hn : As.length = n) (hF : Fy + 1 ≤ F) (hLo : 8 + (nLy + 11) + Ly ≤ L) (hw : (rest.map fun v => v.category).sum ≤ 8) (hst : st0 = As.reverse ++ .ref (rid q r) :: rest) (hdg : decode cc pc = .ok (.invokevirtual 56, 3)) (k : ∀ a : Int32, WG X enc (pc + 3) l (.int a :: rest) (g a)) : WG X enc pc l st0 (bd1 m1 g) := by
  subst hst
  obtain ⟨⟨p, lc, e, R, s⟩, ⟨m, args, below, meth, c⟩, ⟨D, dA, ad0, φ0, A⟩, ⟨Q, fin⟩⟩ := X
  intro φ S b φ' S' kc ks hP hf ad H locs cells slots ls hI hc hs hv hvl hl
  obtain ⟨a1, φ1, S1, k1, n1, k2, n2, hm, hg, rfl, rfl⟩ := bd1_some hP
  obtain ⟨hx, hb, hml, hown, hts, hlk, hRf, hRl, hKK, hA, hrt, hQ, hlc, hCo⟩ := hX
  subst hRf
  subst hRl
  have hvs := amVs_app.mp hv
  have hvr : amVs φ rest := hvs.2.2
  have ho : amOk φ q r := ⟨hq, Nat.pos_of_ne_zero h0, amV_r (by omega) hvs.2.1⟩
  have hob := am_obj hI.1 ho hk
  obtain ⟨C1, T1, N1, hcl, hCC⟩ := hrc _ hob.2.1
  have hmet := hM lc hlc D dA ad φ S H.size a1 φ1 S1 k1 n1 hm ⟨hvs.2.1, amVs_rev.mp hvs.1⟩
  obtain ⟨cellB, hcB, hoB, hclB⟩ := va_recv hKK.va (va_P1 hob.1) hcl (q0 := 0) rfl
  rw [List.map_append, List.map_cons, cn_rid h0, List.map_reverse]
  have hK : Back lc R p e below s args yTm 3 8 (PreOf R k1 n1 (amPc D dA ad φ S (.ref (rid q r) :: As) H.size)) (PostOf (amQc D dA ad φ (amA ad φ H.size) (encI a1, φ1, S1)) k1 n1 (amA ad φ H.size)) := back_of (bytes := ccy) (maxL := nLy) (ret := some .int) hmet amPc_blind rfl rfl hF hLo (pay_in hts (lw_meth hcode)) List.mem_cons_self (fun a' U hW => word_at hW (Or.inl (by first | rfl | simp [Cond.onTables, Cond.keeps, Cond.steady])) (hts _ hini))
  refine am_back (np := pc + 3) (vo := some (.int a1)) (φ1 := φ1) (S1 := S1) (mc := k1) (ms := n1) (a := (Value.ref (ad (rid q r)) :: As.map (cn ad)).toArray) (rest := rest.map (cn ad)) (fun T hT X => ?_) hI hA fun ad1 H1 locs1 hI1 hE1 hV1 => ?_
  · have hlen : ∀ sig, parseMethodDescriptor yCm.desc = some sig → (As.map (cn ad)).length = sig.parameters.length := by
      intro sig h
      have h2 := hpd
      rw [h] at h2
      rw [List.length_map, hn]
      exact (Option.some.inj h2).symm
    have hdm := hKK.2.2.2.2.2
    obtain ⟨v, vm₁, ⟨U', l2, c2, s2⟩, hW₁, X', ⟨g', mk, t, Lc, e1, e2, hqc, h1, hL, h2, h3⟩, st⟩ := X.virtualBackUpD hx (own := "CityBrigade$Crew") (C := C1) (owner := "CityBrigade$Tires") (index := 56) (x := yCm) (y := yTm) hown (va_tabs rfl rfl hdm.2.2) (va_tabs rfl rfl hdm.2.1) (va_tabs rfl rfl (hKK.2.2.1 _ hdc rfl)) ⟨by decide, by decide⟩ (hdm.1 _ hCC) (hts _ hinst) hK hclB ⟨cellB, by rw [hT]; exact hcB, rfl, hoB⟩ (g := F0 m pc ls ((As.map (cn ad)).reverse ++ .ref (ad (rid q r)) :: rest.map (cn ad))) rfl hl.1 (Steps.refl _) (argsL := As.map (cn ad)) (rest := rest.map (cn ad)) hlen rfl (lv_room (by rw [am_cats]; exact hw)) (by rw [hb]; exact hdg)
      (fun vm₁ hW₁ => ⟨by show cells + k1 ≤ R.cells; omega, by show slots + n1 ≤ R.slots; omega, by rw [List.map_cons, cn_rid h0], by show T.heap.size = _; rw [hT], by show amW D dA ad φ S T.heap; rw [hT]; exact hI.1, hKK.warm hW₁, by show amCo ad φ _ _ T.heap; rw [hT]; exact hCo.tr hW₁ hI.2.2.2 hI.2.2.1.2.1 (hI.sub hA)⟩)
    dsimp only [Pt.U, Pt.locs, Pt.cells, Pt.slots] at X' e1 e2 h1 h2 h3 st
    subst h1; subst h2; subst h3
    exact ⟨v, _, t, U', Lc, hT, X', hL, e1, e2, hqc, fun t2 a2 => st.trans a2⟩
  · have k3 := k a1 φ1 S1 b φ' S' k2 n2 hg hf ad1 H1 locs1 (cells + k1) (slots + n1) ls hI1 (by omega) (by omega) ⟨trivial, amVs_up hE1 hvr⟩ (amVl_up hE1 hvl) (by rw [amCl_cn hE1 hvl]; exact hl)
    rw [List.map_cons, amVs_cn hE1 hvr] at k3
    exact k3
end am42
