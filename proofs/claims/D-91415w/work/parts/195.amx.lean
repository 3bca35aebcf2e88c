/-! more rows: a wide float constant -/

theorem am_ldcwF {p : Program} {l : Launch} {e : Env} {R : Room} {s : State} {m : MethodId} {args : Array Value} {below : List Frame} {meth : Method} {c : Code} {T : State} {locs : List Loc} {cells slots : Nat} (X : Stand p l e R s m args below meth c T locs cells slots) (hexec : p.tables.exec = Jvm.exec) {own : String} {index : Nat} {v : UInt32} (hown : s.vm.findClass own = some m.cls)
    (hconst : (Cond.constantFloat own index v).before args s = true) {g : JFrame} (hg : g.method = m) (hdg : decode c.code g.pc = .ok (.ldc_w index, 3)) :
    ∀ target, Steps p.tables e below (T.setTop { g with pc := g.pc + 3, stack := .float v :: g.stack }) target → Steps p.tables e below (T.setTop g) target := by
  obtain ⟨k, cf, hk, hcf, hcp⟩ := Cond.constantFloat_spec hown hconst
  obtain ⟨k', hk', he⟩ := X.warmed.alike.2.2 _ _ hk
  intro target hrest
  subst hg
  jvm_step X.here [hexec, hdg, Op.ldc_w.wp_float (s := T) (f := g) X.here.top hk' (by rw [he]; exact hcf) hcp]
  exact hrest
theorem wg_ldcfw {X : amX} {cc : ByteArray} {own : String} {nL F L : Nat} {rtp : Option FieldType} {β : Type} {enc : β → Option Value} {pc : Nat} {l : List (Nat × Value)} {st : List Value} {P : am1 β} {index : Nat} {v : UInt32} (hX : amOK X cc own nL F L rtp) (hdg : decode cc pc = .ok (.ldc_w index, 3)) (hq : Cond.constantFloat own index v ∈ lw_all) (k : WG X enc (pc + 3) l (.float v :: st) P) : WG X enc pc l st P := by
  obtain ⟨⟨p, lc, e, R, s⟩, ⟨m, args, below, meth, c⟩, ⟨D, dA, ad0, φ0, A⟩, ⟨Q, fin⟩⟩ := X
  intro φ S b φ' S' kc ks hP hf ad H locs cells slots ls hI hc hs hv hvl hl T hT X
  obtain ⟨t, a, b⟩ := k φ S b φ' S' kc ks hP hf ad H locs cells slots ls hI hc hs ⟨trivial, hv⟩ hvl hl T hT X
  exact ⟨t, am_ldcwF X hX.1 hX.2.2.2.1 (hX.2.2.2.2.1 _ hq) (g := F0 m pc ls (st.map (cn ad))) rfl (by rw [hX.2.1]; exact hdg) t a, b⟩
