/-! returns and calls -/
section am11
variable {X : amX} {cc : ByteArray} {own : String} {nL F L : Nat} {rtp : Option FieldType} {β : Type} {enc : β → Option Value} {pc : Nat} {l : List (Nat × Value)} {st : List Value}
theorem am_fin {D : va_G} {dA : Nat → ClassId} {ad0 : Nat → Nat} {φ0 : amSh} {A : Nat → Prop} {s : State} {ad : Nat → Nat} {φ : amSh} {S : amSt} {H : Heap} {locs : List Loc} (hI : amI D dA ad0 φ0 A s ad φ S H locs) {vo : Option Value} {fin : Option Value × amSh × amSt} (hf : fin = (vo, φ, S)) (hv : ∀ v, vo = some v → amV φ v) {args : Array Value} {t : State} (ht : t.heap = H) {ov : Option Value} (ho : ov = vo.map (cn ad)) : amQc D dA ad0 φ0 A fin args s (.returned ov) t := by
  subst hf
  exact ⟨ad, by rw [ho], by rw [ht]; exact hI.1, hI.2.2.2, hv, hI.2.2.1.F ht, hI.2.1⟩
theorem wg_iret {x : Int32} {b0 : β} (hX : amOK X cc own nL F L rtp) (hr : rtp = some .int)  (henc : enc b0 = some (.int x)) (hdg : decode cc pc = .ok (.ireturn, 1)) : WG X enc pc l [.int x] (rt1 b0) := by
  obtain ⟨⟨p, lc, e, R, s⟩, ⟨m, args, below, meth, c⟩, ⟨D, dA, ad0, φ0, A⟩, ⟨Q, fin⟩⟩ := X
  intro φ S b φ' S' kc ks hP hf ad H locs cells slots ls hI hc hs hv hvl hl
  cases hP
  obtain ⟨hx, hb, -, -, -, hlk, -, -, -, -, hrt, hQ, -⟩ := hX
  refine hQ (by rw [hf]; show enc b0 ≠ am_thr; rw [henc]; exact fun h => by cases h) _ _ _ _ _ ?_
  rw [← hc, ← hs]
  exact W.iret hx hb (by rw [hrt, hr])  (fun t ht hW => am_fin hI hf (fun v h => by rw [henc] at h; cases h; trivial) ht (by rw [henc]; rfl)) hI.2.2.1.2.2 hdg hlk
theorem wg_zret {x : Int32} {b0 : β} (hX : amOK X cc own nL F L rtp) (hr : rtp = some .boolean) (hz : x = 0 ∨ x = 1) (henc : enc b0 = some (.int x)) (hdg : decode cc pc = .ok (.ireturn, 1)) : WG X enc pc l [.int x] (rt1 b0) := by
  obtain ⟨⟨p, lc, e, R, s⟩, ⟨m, args, below, meth, c⟩, ⟨D, dA, ad0, φ0, A⟩, ⟨Q, fin⟩⟩ := X
  intro φ S b φ' S' kc ks hP hf ad H locs cells slots ls hI hc hs hv hvl hl
  cases hP
  obtain ⟨hx, hb, -, -, -, hlk, -, -, -, -, hrt, hQ, -⟩ := hX
  refine hQ (by rw [hf]; show enc b0 ≠ am_thr; rw [henc]; exact fun h => by cases h) _ _ _ _ _ ?_
  rw [← hc, ← hs]
  exact W.zret hx hb (by rw [hrt, hr]) (am_z01 hz).1 (fun t ht hW => am_fin hI hf (fun v h => by rw [henc] at h; cases h; trivial) ht (by rw [henc]; rfl)) hI.2.2.1.2.2 hdg hlk
theorem wg_dret {x : UInt64} {b0 : β} (hX : amOK X cc own nL F L rtp) (hr : rtp = some .double)  (henc : enc b0 = some (.double x)) (hdg : decode cc pc = .ok (.dreturn, 1)) : WG X enc pc l [.double x] (rt1 b0) := by
  obtain ⟨⟨p, lc, e, R, s⟩, ⟨m, args, below, meth, c⟩, ⟨D, dA, ad0, φ0, A⟩, ⟨Q, fin⟩⟩ := X
  intro φ S b φ' S' kc ks hP hf ad H locs cells slots ls hI hc hs hv hvl hl
  cases hP
  obtain ⟨hx, hb, -, -, -, hlk, -, -, -, -, hrt, hQ, -⟩ := hX
  refine hQ (by rw [hf]; show enc b0 ≠ am_thr; rw [henc]; exact fun h => by cases h) _ _ _ _ _ ?_
  rw [← hc, ← hs]
  exact W.dret hx hb (by rw [hrt, hr])  (fun t ht hW => am_fin hI hf (fun v h => by rw [henc] at h; cases h; trivial) ht (by rw [henc]; rfl)) hI.2.2.1.2.2 hdg hlk
theorem wg_aret {q x : Nat} {rt0 : FieldType} {b0 : β} (hX : amOK X cc own nL F L rtp) (hr : rtp = some rt0) (hrt0 : (∃ n, rt0 = .object n) ∨ ∃ t, rt0 = .array t) (hq : q < 256) (henc : enc b0 = some (.ref (rid q x))) (hdg : decode cc pc = .ok (.areturn, 1)) : WG X enc pc l [.ref (rid q x)] (rt1 b0) := by
  obtain ⟨⟨p, lc, e, R, s⟩, ⟨m, args, below, meth, c⟩, ⟨D, dA, ad0, φ0, A⟩, ⟨Q, fin⟩⟩ := X
  intro φ S b φ' S' kc ks hP hf ad H locs cells slots ls hI hc hs hv hvl hl
  cases hP
  obtain ⟨hx, hb, -, -, -, hlk, -, -, -, -, hrt, hQ, -⟩ := hX
  refine hQ (by rw [hf]; show enc b0 ≠ am_thr; rw [henc]; exact fun h => by cases h) _ _ _ _ _ ?_
  rw [← hc, ← hs]
  exact W.aret (v := cn ad (.ref (rid q x))) hx hb (by rw [hrt, hr]) hrt0 (by rw [cn_rad hq]; cases rad ad q x with
    | none => exact Or.inl rfl
    | some a => exact Or.inr ⟨a, rfl⟩) (fun t ht hW => am_fin hI hf (fun v h => by rw [henc] at h; cases h; exact hv.1) ht (by rw [henc]; rfl)) hI.2.2.1.2.2 hdg hlk
theorem wg_vret {b0 : β} (hX : amOK X cc own nL F L rtp) (hr : rtp = none) (henc : enc b0 = none) (hdg : decode cc pc = .ok (.return_, 1)) : WG X enc pc l [] (rt1 b0) := by
  obtain ⟨⟨p, lc, e, R, s⟩, ⟨m, args, below, meth, c⟩, ⟨D, dA, ad0, φ0, A⟩, ⟨Q, fin⟩⟩ := X
  intro φ S b φ' S' kc ks hP hf ad H locs cells slots ls hI hc hs hv hvl hl
  cases hP
  obtain ⟨hx, hb, -, -, -, hlk, -, -, -, -, hrt, hQ, -⟩ := hX
  refine hQ (by rw [hf]; show enc b0 ≠ am_thr; rw [henc]; exact fun h => by cases h) _ _ _ _ _ ?_
  rw [← hc, ← hs]
  exact W.vret hx hb (by rw [hrt, hr]) (fun t ht hW => am_fin hI hf (fun v h => by rw [henc] at h; cases h) ht (by rw [henc]; rfl)) hI.2.2.1.2.2 hdg hlk
theorem amI.sub {D : va_G} {dA : Nat → ClassId} {ad0 : Nat → Nat} {φ0 : amSh} {A : Nat → Prop} {s : State} {ad : Nat → Nat} {φ : amSh} {S : amSt} {H : Heap} {locs : List Loc} (hI : amI D dA ad0 φ0 A s ad φ S H locs) (hA : ∀ q : Nat, s.heap.size ≤ q → A q) : ∀ q, amA ad φ H.size q → A q := by
  intro q h
  rcases h with h | ⟨p, r, h, rfl⟩
  · exact hA q (Nat.le_trans hI.2.2.1.1 h)
  · exact hI.2.1 p r h
/-- behind a call -/
theorem am_back {p : Program} {lc : Launch} {e : Env} {R : Room} {s : State} {m : MethodId} {args : Array Value} {below : List Frame} {meth : Method} {c : Code} {H : Heap} {locs : List Loc} {cells slots : Nat} {Q : State → Prop} {ls : Array Slot} {rest st0 : List Value} {a : Array Value} {mc ms : Nat} {D : va_G} {dA : Nat → ClassId} {ad0 ad : Nat → Nat} {φ0 φ φ1 : amSh} {S S1 : amSt} {A : Nat → Prop} {vo : Option Value} {np : Nat}
    (hr : ∀ T : State, T.heap = H → Stand p lc e R s m args below meth c T locs cells slots → ∃ (v : Option Value) (st₀ t T' : State) (L : List Loc), st₀.heap = H ∧ Stand p lc e R s m args below meth c T' (locs ++ L) (cells + mc) (slots + ms) ∧ (∀ q ∈ L, amA ad φ H.size q.base) ∧ T'.heap = t.heap ∧ T'.vm = t.vm ∧ amQc D dA ad φ (amA ad φ H.size) (vo, φ1, S1) a st₀ (.returned v) t ∧ Goes p e below T (F0 m pc ls st0) T' (F0 m np ls (v.toList ++ rest)))
    (hI : amI D dA ad0 φ0 A s ad φ S H locs) (hA : ∀ q : Nat, s.heap.size ≤ q → A q)
    (kk : ∀ (ad1 : Nat → Nat) (H1 : Heap) (locs1 : List Loc), amI D dA ad0 φ0 A s ad1 φ1 S1 H1 locs1 → amE ad φ ad1 φ1 → (∀ v, vo = some v → amV φ1 v) → W p lc e R s m args below meth c H1 locs1 (cells + mc) (slots + ms) Q (F0 m np ls ((vo.map (cn ad1)).toList ++ rest))) : W p lc e R s m args below meth c H locs cells slots Q (F0 m pc ls st0) := by
  intro T hT X
  obtain ⟨v, st₀, t, T', L, h0, X', hL, e1, e2, ⟨ad1, hv, hW1, hE1, hV1, hF, hA1⟩, st⟩ := hr T hT X
  cases hv
  have hsub := hI.sub hA
  have hz : H.size ≤ T'.heap.size := by rw [e1, ← h0]; exact hF.1
  have hk : ∀ q : Nat, q < H.size → ¬ amA ad φ H.size q → T'.heap[q]? = H[q]? := by
    intro q h1 h2
    rw [e1, ← h0]
    exact hF.2 q (by rw [h0]; exact h1) h2
  obtain ⟨t2, a1, b1⟩ := kk ad1 T'.heap (locs ++ L) ⟨by rw [e1]; exact hW1, fun p r h => hsub _ (hA1 p r h), ⟨Nat.le_trans hI.2.2.1.1 hz, fun q h1 h2 => by rw [hk q (Nat.lt_of_lt_of_le h1 hI.2.2.1.1) (fun z => h2 (hsub q z))]; exact hI.2.2.1.2.1 q h1 h2, fun q hq => by
      rcases List.mem_append.mp hq with h | h
      · exact hI.2.2.1.2.2 q h
      · exact hsub _ (hL q h)⟩, hI.2.2.2.tr hE1⟩ hE1 hV1 T' rfl X'
  exact ⟨t2, st t2 a1, b1⟩
theorem amPc_blind {D : va_G} {dA : Nat → ClassId} {ad : Nat → Nat} {φ : amSh} {S : amSt} {av : List Value} {sz : Nat} : FrameBlind (amPc D dA ad φ S av sz) := fun a U g mk h => ⟨h.1, h.2.1, h.2.2.1, amKK.same (u := U) (U := U.calling g mk a) rfl h.2.2.2.1, amCo.same (u := U) (U := U.calling g mk a) (H := U.heap) rfl h.2.2.2.2⟩
theorem amVs_cn {φ0 φ1 : amSh} {ad0 ad1 : Nat → Nat} (e : amE ad0 φ0 ad1 φ1) {l : List Value} (h : amVs φ0 l) : l.map (cn ad1) = l.map (cn ad0) := List.map_congr_left fun v hv => (amVs_all.mp h v hv).cn e
theorem amVs_up {φ0 φ1 : amSh} {ad0 ad1 : Nat → Nat} (e : amE ad0 φ0 ad1 φ1) {l : List Value} (h : amVs φ0 l) : amVs φ1 l := amVs_all.mpr fun v hv => (amVs_all.mp h v hv).up e
theorem amCl_cn {φ0 φ1 : amSh} {ad0 ad1 : Nat → Nat} (e : amE ad0 φ0 ad1 φ1) {l : List (Nat × Value)} (h : amVl φ0 l) : amCl ad1 l = amCl ad0 l := List.map_congr_left fun q hq => by rw [(h q hq).cn e]
theorem amVl_up {φ0 φ1 : amSh} {ad0 ad1 : Nat → Nat} (e : amE ad0 φ0 ad1 φ1) {l : List (Nat × Value)} (h : amVl φ0 l) : amVl φ1 l := fun q hq => (h q hq).up e
theorem amVs_app {φ : amSh} {a b : List Value} : amVs φ (a ++ b) ↔ amVs φ a ∧ amVs φ b := by
  simp only [amVs_all, List.mem_append]
  exact ⟨fun h => ⟨fun v hv => h v (Or.inl hv), fun v hv => h v (Or.inr hv)⟩, fun h v hv => hv.elim (h.1 v) (h.2 v)⟩
theorem amVs_rev {φ : amSh} {a : List Value} : amVs φ a.reverse ↔ amVs φ a := by
  simp only [amVs_all, List.mem_reverse]
theorem am_cats {ad : Nat → Nat} {l : List Value} : ((l.map (cn ad)).map fun v => v.category) = l.map fun v => v.category := by
  rw [List.map_map]
  exact List.map_congr_left fun v _ => cn_cat ad v
theorem wg_cV {α : Type} {encz : α → Option Value} {m1 : am1 α} {g : α → am1 β} {q r idx n nLy Fy Ly : Nat} {y : MethodName} {ccy : ByteArray} {rty : Option FieldType} {As rest st0 : List Value}  (hX : amOK X cc own nL F L rtp) (hM : amMet y ccy nLy rty Fy Ly encz (.ref (rid q r) :: As) m1) (hq : q < 250) (hk : am_pk q = 0) (h0 : r ≠ 0) (hrc : ∀ c ∈ am_kl q, ∃ (C1 : String) (T1 : u_T) (N1 : Nat), am_cl[c]? = some (C1, T1, N1) ∧ C1 = y.cls) (hG : GoodIn lw_all (wsV own idx y.cls y (ws_ y ccy nLy rty))) (hd : y.cls ≠ "java/lang/invoke/MethodHandle" ∧ y.cls ≠ "java/lang/invoke/VarHandle" ∧ (parseMethodDescriptor y.desc).map (fun d => d.parameters.length) = some n) (hn : As.length = n) (hF : Fy + 1 ≤ F) (hLo : 8 + (nLy + 11) + Ly ≤ L) (hw : (rest.map fun v => v.category).sum ≤ 8) (hst : st0 = As.reverse ++ .ref (rid q r) :: rest) (hdg : decode cc pc = .ok (.invokevirtual idx, 3)) (k : ∀ a, WG X enc (pc + 3) l ((encz a).toList ++ rest) (g a)) : WG X enc pc l st0 (bd1 m1 g) := by
  subst hst
  obtain ⟨⟨p, lc, e, R, s⟩, ⟨m, args, below, meth, c⟩, ⟨D, dA, ad0, φ0, A⟩, ⟨Q, fin⟩⟩ := X
  intro φ S b φ' S' kc ks hP hf ad H locs cells slots ls hI hc hs hv hvl hl
  obtain ⟨a1, φ1, S1, k1, n1, k2, n2, hm, hg, rfl, rfl⟩ := bd1_some hP
  obtain ⟨hx, hb, hml, hown, hts, hlk, hRf, hRl, hKK, hA, hrt, hQ, hlc, hCo⟩ := hX
  subst hRf
  subst hRl
  have hvs := amVs_app.mp hv
  have hvr : amVs φ rest := hvs.2.2
  have ho : amOk φ q r := ⟨hq, Nat.pos_of_ne_zero h0, amV_r (by omega) hvs.2.1⟩
  have hob := am_obj hI.1 ho hk
  obtain ⟨C1, T1, N1, hcl, hCC⟩ : ∃ (C1 : String) (T1 : u_T) (N1 : Nat), am_cl[amK φ q r]? = some (C1, T1, N1) ∧ C1 = y.cls := hrc _ hob.2.1
  have hmet := hM lc hlc D dA ad φ S H.size a1 φ1 S1 k1 n1 hm ⟨hvs.2.1, amVs_rev.mp hvs.1⟩
  have hpre : PreV s H y.cls (ad (rid q r)) (amPc D dA ad φ S (.ref (rid q r) :: As) H.size) (As.map (cn ad)) := ⟨amPc_blind, by
    have := va_recv hKK.va (va_P1 hob.1) hcl (q0 := 0) rfl
    rw [← hCC]
    exact this, fun U hU hW => ⟨by rw [List.map_cons, cn_rid h0], by rw [hU], by rw [hU]; exact hI.1, hKK.warm hW, by rw [hU]; exact hCo.tr hW hI.2.2.2 hI.2.2.1.2.1 (hI.sub hA)⟩⟩
  rw [List.map_append, List.map_cons, cn_rid h0, List.map_reverse]
  have hrun := va_runV ⟨hx, hb, hml, hown, hts⟩ hmet (cwV n hts hG rfl rfl rfl ⟨rfl, hd⟩ ⟨hF, hLo⟩) hpre (g := F0 m pc ls ((As.map (cn ad)).reverse ++ .ref (ad (rid q r)) :: rest.map (cn ad))) (locs := locs) (cells := cells) (slots := slots) (rest := rest.map (cn ad)) (R := R) (e := e) (below := below) (meth := meth) rfl (by rw [List.length_map]; exact hn) (by rw [← hml]; exact hl.1) rfl (lv_room (by rw [am_cats]; exact hw)) hdg ⟨by omega, by omega⟩
  refine am_back (np := pc + 3) hrun hI hA fun ad1 H1 locs1 hI1 hE1 hV1 => ?_
  have k3 := k a1 φ1 S1 b φ' S' k2 n2 hg hf ad1 H1 locs1 (cells + k1) (slots + n1) ls hI1 (by omega) (by omega) (amVs_app.mpr ⟨by
    rcases he : encz a1 with _ | v
    · trivial
    · exact ⟨hV1 v he, trivial⟩, amVs_up hE1 hvr⟩) (amVl_up hE1 hvl) (by rw [amCl_cn hE1 hvl]; exact hl)
  rw [List.map_append, amVs_cn hE1 hvr] at k3
  rcases he : encz a1 with _ | v
  · rw [he] at k3
    exact k3
  · rw [he] at k3
    exact k3
theorem wg_cS {α : Type} {encz : α → Option Value} {m1 : am1 α} {g : α → am1 β} {idx n nLy Fy Ly : Nat} {y : MethodName} {ccy : ByteArray} {rty : Option FieldType} {As rest st0 : List Value}  (hX : amOK X cc own nL F L rtp) (hM : amMet y ccy nLy rty Fy Ly encz As m1) (hG : GoodIn lw_all (va_wsS own idx y (ws_ y ccy nLy rty))) (hd : y.cls ≠ "java/lang/invoke/MethodHandle" ∧ y.cls ≠ "java/lang/invoke/VarHandle" ∧ (parseMethodDescriptor y.desc).map (fun d => d.parameters.length) = some n) (hn : As.length = n) (hF : Fy + 1 ≤ F) (hLo : 8 + (nLy + 11) + Ly ≤ L) (hw : (rest.map fun v => v.category).sum ≤ 8) (hst : st0 = As.reverse ++ rest) (hdg : decode cc pc = .ok (.invokestatic idx, 3)) (k : ∀ a, WG X enc (pc + 3) l ((encz a).toList ++ rest) (g a)) : WG X enc pc l st0 (bd1 m1 g) := by
  subst hst
  obtain ⟨⟨p, lc, e, R, s⟩, ⟨m, args, below, meth, c⟩, ⟨D, dA, ad0, φ0, A⟩, ⟨Q, fin⟩⟩ := X
  intro φ S b φ' S' kc ks hP hf ad H locs cells slots ls hI hc hs hv hvl hl
  obtain ⟨a1, φ1, S1, k1, n1, k2, n2, hm, hg, rfl, rfl⟩ := bd1_some hP
  obtain ⟨hx, hb, hml, hown, hts, hlk, hRf, hRl, hKK, hA, hrt, hQ, hlc, hCo⟩ := hX
  subst hRf
  subst hRl
  have hvs := amVs_app.mp hv
  have hvr : amVs φ rest := hvs.2
  have hmet := hM lc hlc D dA ad φ S H.size a1 φ1 S1 k1 n1 hm (amVs_rev.mp hvs.1)
  have hpre : PreS s H (amPc D dA ad φ S As H.size) (As.map (cn ad)) := ⟨amPc_blind, fun U hU hW => ⟨rfl, by rw [hU], by rw [hU]; exact hI.1, hKK.warm hW, by rw [hU]; exact hCo.tr hW hI.2.2.2 hI.2.2.1.2.1 (hI.sub hA)⟩⟩
  rw [List.map_append, List.map_reverse]
  have hrun := va_runS ⟨hx, hb, hml, hown, hts⟩ hmet (va_cwS n hts hG rfl rfl rfl hd ⟨hF, hLo⟩) hpre (g := F0 m pc ls ((As.map (cn ad)).reverse ++ rest.map (cn ad))) (locs := locs) (cells := cells) (slots := slots) (rest := rest.map (cn ad)) (R := R) (e := e) (below := below) (meth := meth) rfl (by rw [List.length_map]; exact hn) (by rw [← hml]; exact hl.1) rfl (lv_room (by rw [am_cats]; exact hw)) hdg ⟨by omega, by omega⟩
  refine am_back (np := pc + 3) hrun hI hA fun ad1 H1 locs1 hI1 hE1 hV1 => ?_
  have k3 := k a1 φ1 S1 b φ' S' k2 n2 hg hf ad1 H1 locs1 (cells + k1) (slots + n1) ls hI1 (by omega) (by omega) (amVs_app.mpr ⟨by
    rcases he : encz a1 with _ | v
    · trivial
    · exact ⟨hV1 v he, trivial⟩, amVs_up hE1 hvr⟩) (amVl_up hE1 hvl) (by rw [amCl_cn hE1 hvl]; exact hl)
  rw [List.map_append, amVs_cn hE1 hvr] at k3
  rcases he : encz a1 with _ | v
  · rw [he] at k3
    exact k3
  · rw [he] at k3
    exact k3
theorem wg_cVN {α : Type} {encz : α → Option Value} {m1 : am1 α} {g : α → am1 β} {q r idx n nLy Fy Ly : Nat} {y : MethodName} {ccy : ByteArray} {rty : Option FieldType} {As rest st0 : List Value} {host : String} (hX : amOK X cc own nL F L rtp) (hM : amMet y ccy nLy rty Fy Ly encz (.ref (rid q r) :: As) m1) (hq : q < 250) (hk : am_pk q = 0) (h0 : r ≠ 0) (hrc : ∀ c ∈ am_kl q, ∃ (C1 : String) (T1 : u_T) (N1 : Nat), am_cl[c]? = some (C1, T1, N1) ∧ C1 = y.cls) (hl2 : Cond.methodLinkNest own idx y host ∈ lw_tbl) (hi1 : Cond.instanceMethod y ∈ lw_all) (hse : Cond.selects y.cls y y ∈ lw_all) (hi2 : Cond.initialized y.cls ∈ lw_all) (hco : Cond.code y ccy nLy rty ∈ lw_all) (hd : y.cls ≠ "java/lang/invoke/MethodHandle" ∧ y.cls ≠ "java/lang/invoke/VarHandle" ∧ (parseMethodDescriptor y.desc).map (fun d => d.parameters.length) = some n) (hn : As.length = n) (hF : Fy + 1 ≤ F) (hLo : 8 + (nLy + 11) + Ly ≤ L) (hw : (rest.map fun v => v.category).sum ≤ 8) (hst : st0 = As.reverse ++ .ref (rid q r) :: rest) (hdg : decode cc pc = .ok (.invokevirtual idx, 3)) (k : ∀ a, WG X enc (pc + 3) l ((encz a).toList ++ rest) (g a)) : WG X enc pc l st0 (bd1 m1 g) := by
  subst hst
  obtain ⟨⟨p, lc, e, R, s⟩, ⟨m, args, below, meth, c⟩, ⟨D, dA, ad0, φ0, A⟩, ⟨Q, fin⟩⟩ := X
  intro φ S b φ' S' kc ks hP hf ad H locs cells slots ls hI hc hs hv hvl hl
  obtain ⟨a1, φ1, S1, k1, n1, k2, n2, hm, hg, rfl, rfl⟩ := bd1_some hP
  obtain ⟨hx, hb, hml, hown, hts, hlk, hRf, hRl, hKK, hA, hrt, hQ, hlc, hCo⟩ := hX
  subst hRf
  subst hRl
  have hvs := amVs_app.mp hv
  have hvr : amVs φ rest := hvs.2.2
  have ho : amOk φ q r := ⟨hq, Nat.pos_of_ne_zero h0, amV_r (by omega) hvs.2.1⟩
  have hob := am_obj hI.1 ho hk
  obtain ⟨C1, T1, N1, hcl, hCC⟩ : ∃ (C1 : String) (T1 : u_T) (N1 : Nat), am_cl[amK φ q r]? = some (C1, T1, N1) ∧ C1 = y.cls := hrc _ hob.2.1
  have hmet := hM lc hlc D dA ad φ S H.size a1 φ1 S1 k1 n1 hm ⟨hvs.2.1, amVs_rev.mp hvs.1⟩
  have hpre : PreV s H y.cls (ad (rid q r)) (amPc D dA ad φ S (.ref (rid q r) :: As) H.size) (As.map (cn ad)) := ⟨amPc_blind, by
    have := va_recv hKK.va (va_P1 hob.1) hcl (q0 := 0) rfl
    rw [← hCC]
    exact this, fun U hU hW => ⟨by rw [List.map_cons, cn_rid h0], by rw [hU], by rw [hU]; exact hI.1, hKK.warm hW, by rw [hU]; exact hCo.tr hW hI.2.2.2 hI.2.2.1.2.1 (hI.sub hA)⟩⟩
  rw [List.map_append, List.map_cons, cn_rid h0, List.map_reverse]
  have hrun := va_runVN ⟨hx, hb, hml, hown, hts⟩ hmet (⟨va_cnB n hts (lw_meth hco) rfl rfl rfl (hKK.2.2.1 _ hl2 rfl) (hts _ hi2) hd ⟨hF, hLo⟩, hts _ hi1, hts _ hse⟩) hpre (g := F0 m pc ls ((As.map (cn ad)).reverse ++ .ref (ad (rid q r)) :: rest.map (cn ad))) (locs := locs) (cells := cells) (slots := slots) (rest := rest.map (cn ad)) (R := R) (e := e) (below := below) (meth := meth) rfl (by rw [List.length_map]; exact hn) (by rw [← hml]; exact hl.1) rfl (lv_room (by rw [am_cats]; exact hw)) hdg ⟨by omega, by omega⟩
  refine am_back (np := pc + 3) hrun hI hA fun ad1 H1 locs1 hI1 hE1 hV1 => ?_
  have k3 := k a1 φ1 S1 b φ' S' k2 n2 hg hf ad1 H1 locs1 (cells + k1) (slots + n1) ls hI1 (by omega) (by omega) (amVs_app.mpr ⟨by
    rcases he : encz a1 with _ | v
    · trivial
    · exact ⟨hV1 v he, trivial⟩, amVs_up hE1 hvr⟩) (amVl_up hE1 hvl) (by rw [amCl_cn hE1 hvl]; exact hl)
  rw [List.map_append, amVs_cn hE1 hvr] at k3
  rcases he : encz a1 with _ | v
  · rw [he] at k3
    exact k3
  · rw [he] at k3
    exact k3
theorem wg_cSN {α : Type} {encz : α → Option Value} {m1 : am1 α} {g : α → am1 β} {idx n nLy Fy Ly : Nat} {y : MethodName} {ccy : ByteArray} {rty : Option FieldType} {As rest st0 : List Value} {host : String} (hX : amOK X cc own nL F L rtp) (hM : amMet y ccy nLy rty Fy Ly encz As m1) (hl2 : Cond.methodLinkNest own idx y host ∈ lw_tbl) (hst2 : Cond.static y ∈ lw_all) (hi2 : Cond.initialized y.cls ∈ lw_all) (hco : Cond.code y ccy nLy rty ∈ lw_all) (hd : y.cls ≠ "java/lang/invoke/MethodHandle" ∧ y.cls ≠ "java/lang/invoke/VarHandle" ∧ (parseMethodDescriptor y.desc).map (fun d => d.parameters.length) = some n) (hn : As.length = n) (hF : Fy + 1 ≤ F) (hLo : 8 + (nLy + 11) + Ly ≤ L) (hw : (rest.map fun v => v.category).sum ≤ 8) (hst : st0 = As.reverse ++ rest) (hdg : decode cc pc = .ok (.invokestatic idx, 3)) (k : ∀ a, WG X enc (pc + 3) l ((encz a).toList ++ rest) (g a)) : WG X enc pc l st0 (bd1 m1 g) := by
  subst hst
  obtain ⟨⟨p, lc, e, R, s⟩, ⟨m, args, below, meth, c⟩, ⟨D, dA, ad0, φ0, A⟩, ⟨Q, fin⟩⟩ := X
  intro φ S b φ' S' kc ks hP hf ad H locs cells slots ls hI hc hs hv hvl hl
  obtain ⟨a1, φ1, S1, k1, n1, k2, n2, hm, hg, rfl, rfl⟩ := bd1_some hP
  obtain ⟨hx, hb, hml, hown, hts, hlk, hRf, hRl, hKK, hA, hrt, hQ, hlc, hCo⟩ := hX
  subst hRf
  subst hRl
  have hvs := amVs_app.mp hv
  have hvr : amVs φ rest := hvs.2
  have hmet := hM lc hlc D dA ad φ S H.size a1 φ1 S1 k1 n1 hm (amVs_rev.mp hvs.1)
  have hpre : PreS s H (amPc D dA ad φ S As H.size) (As.map (cn ad)) := ⟨amPc_blind, fun U hU hW => ⟨rfl, by rw [hU], by rw [hU]; exact hI.1, hKK.warm hW, by rw [hU]; exact hCo.tr hW hI.2.2.2 hI.2.2.1.2.1 (hI.sub hA)⟩⟩
  rw [List.map_append, List.map_reverse]
  have hrun := va_runSN ⟨hx, hb, hml, hown, hts⟩ hmet (⟨va_cnB n hts (lw_meth hco) rfl rfl rfl (hKK.2.2.1 _ hl2 rfl) (hts _ hi2) hd ⟨hF, hLo⟩, hts _ hst2, trivial⟩) hpre (g := F0 m pc ls ((As.map (cn ad)).reverse ++ rest.map (cn ad))) (locs := locs) (cells := cells) (slots := slots) (rest := rest.map (cn ad)) (R := R) (e := e) (below := below) (meth := meth) rfl (by rw [List.length_map]; exact hn) (by rw [← hml]; exact hl.1) rfl (lv_room (by rw [am_cats]; exact hw)) hdg ⟨by omega, by omega⟩
  refine am_back (np := pc + 3) hrun hI hA fun ad1 H1 locs1 hI1 hE1 hV1 => ?_
  have k3 := k a1 φ1 S1 b φ' S' k2 n2 hg hf ad1 H1 locs1 (cells + k1) (slots + n1) ls hI1 (by omega) (by omega) (amVs_app.mpr ⟨by
    rcases he : encz a1 with _ | v
    · trivial
    · exact ⟨hV1 v he, trivial⟩, amVs_up hE1 hvr⟩) (amVl_up hE1 hvl) (by rw [amCl_cn hE1 hvl]; exact hl)
  rw [List.map_append, amVs_cn hE1 hvr] at k3
  rcases he : encz a1 with _ | v
  · rw [he] at k3
    exact k3
  · rw [he] at k3
    exact k3
end am11
