section am6
variable {p : Program} {lc : Launch} {e : Env} {R : Room} {s : State} {m : MethodId} {args : Array Value} {below : List Frame} {meth : Method} {c : Code} {H : Heap} {locs : List Loc} {cells slots : Nat} {Q : State → Prop}
variable {cc : ByteArray} {pc : Nat} {ls : Array Slot} {rest : List Value} {D : va_G} {dA : Nat → ClassId} {ad : Nat → Nat} {φ : amSh} {S : amSt} {q r : Nat} {own : String} {idx j : Nat} {en : Nat × Nat × Nat} {cs : List Nat}
theorem am_obj (hW : amW D dA ad φ S H) (ho : amOk φ q r) (hk : am_pk q = 0) : va_at D am_cl (ad (rid q r), .inr (amK φ q r, (amFs φ S q r 0 (am_lay (amK φ q r))).map (cn ad))) H ∧ amK φ q r ∈ am_kl q ∧ ∀ v ∈ amFs φ S q r 0 (am_lay (amK φ q r)), amV φ v := by
  have h1 := hW.1 q r ho
  have h2 := hW.2.2 q r ho
  unfold amEn at h1
  unfold amVE at h2
  rw [hk] at h1 h2
  exact ⟨h1, h2⟩
theorem am_en (hk : am_pk q = 0) : amEn dA ad φ S q r = .inr (amK φ q r, (amFs φ S q r 0 (am_lay (amK φ q r))).map (cn ad)) := by
  unfold amEn
  rw [hk]
  rfl
theorem am_ve (hk : am_pk q = 0) : amVE φ S q r = (amK φ q r ∈ am_kl q ∧ ∀ v ∈ amFs φ S q r 0 (am_lay (amK φ q r)), amV φ v) := by
  unfold amVE
  rw [hk]
  rfl
theorem am_getf (hexec : p.tables.exec = Jvm.exec) (hb : c.code = cc) (hts : ∀ w ∈ lw_all, w.before args s = true) (hown : s.vm.findClass own = some m.cls) (hKK : amKK D dA s) (hW : amW D dA ad φ S H) (hF : amFd own idx q j en cs) (ho : amOk φ q r) (hcs : amK φ q r ∈ cs) (hdg : decode cc pc = .ok (.getfield idx, 3))
    (k : (am_lay (amK φ q r))[j]? = some en → W p lc e R s m args below meth c H locs cells slots Q (F0 m (pc + 3) ls (cn ad (amF φ S q r j en) :: rest))) : W p lc e R s m args below meth c H locs cells slots Q (F0 m pc ls (.ref (ad (rid q r)) :: rest)) := by
  obtain ⟨C, T, n, ref, hcl, hj, hlay, hin, hlink, hsame⟩ := hF.2.2 _ hcs
  have hat := (am_obj hW ho hF.2.1).1
  have hv : ((amFs φ S q r 0 (am_lay (amK φ q r))).map (cn ad))[j]? = some (cn ad (amF φ S q r j en)) := by
    rw [List.getElem?_map, amFs_get, hlay]
    simp
  have hs2 : ∀ x, s.fieldFound? (T j).1 (T j).2.1 (T j).2.2.1 = some x → s.fieldFound? ref (T j).2.1 (T j).2.2.1 = some x := by
    intro x hx
    rcases hsame with h | h
    · rw [← h]; exact hx
    · exact u_same (hts _ h) x hx
  rcases hlink with hl | ⟨host, hl⟩
  · exact va_get hexec hb hts hin hown hKK.va (va_P1 hat) 0 rfl hcl j hj (hts _ hl) hs2 hv hdg (k hlay)
  · exact va_getN hexec hb hts hin hown hKK.va (va_P1 hat) 0 rfl hcl j hj (va_Nw.use rfl (hKK.2.2.1 _ hl rfl)) hs2 hv hdg (k hlay)
theorem am_putf (hexec : p.tables.exec = Jvm.exec) (hb : c.code = cc) (hts : ∀ w ∈ lw_all, w.before args s = true) (hown : s.vm.findClass own = some m.cls) (hKK : amKK D dA s) (hW : amW D dA ad φ S H) {ty : FieldType} {fi : Bool} (hP : amFp own idx q j en cs ty fi) (ho : amOk φ q r) (hcs : amK φ q r ∈ cs) (hini : fi = true → meth.name = "<init>") {v : Value} (hn : narrow ty v = v) (hfit : fits ty v = true) (hdg : decode cc pc = .ok (.putfield idx, 3))
    (kk : ∀ (H1 : Heap) (i : Nat), (am_lay (amK φ q r))[j]? = some en → va_at D am_cl (ad (rid q r), .inr (amK φ q r, ((amFs φ S q r 0 (am_lay (amK φ q r))).map (cn ad)).set j v)) H1 → H1.size = H.size → (∀ x : Nat, x ≠ ad (rid q r) → H1[x]? = H[x]?) → W p lc e R s m args below meth c H1 (locs ++ [⟨ad (rid q r), i⟩]) cells slots Q (F0 m (pc + 3) ls rest)) : W p lc e R s m args below meth c H locs cells slots Q (F0 m pc ls (v :: .ref (ad (rid q r)) :: rest)) := by
  obtain ⟨hF, hP2⟩ := hP
  obtain ⟨C, T, n, ref, hcl, hj, hlay, hin, hlink, hsame⟩ := hF.2.2 _ hcs
  obtain ⟨⟨ty0, hty⟩, hnm, hd, hfin, hfi⟩ := hP2 _ hcs C T n hcl
  have hat := (am_obj hW ho hF.2.1).1
  have hs2 : ∀ x, s.fieldFound? (T j).1 (T j).2.1 (T j).2.2.1 = some x → s.fieldFound? ref (T j).2.1 (T j).2.2.1 = some x := by
    intro x hx
    rcases hsame with h | h
    · rw [← h]; exact hx
    · exact u_same (hts _ h) x hx
  have hl0 : j < ((amFs φ S q r 0 (am_lay (amK φ q r))).map (cn ad)).length := by
    have : ((amFs φ S q r 0 (am_lay (amK φ q r))).map (cn ad))[j]? = some (cn ad (amF φ S q r j en)) := by
      rw [List.getElem?_map, amFs_get, hlay]
      simp
    exact (List.getElem?_eq_some_iff.mp this).1
  generalize (amFs φ S q r 0 (am_lay (amK φ q r))).map (cn ad) = fs at hat kk hl0
  generalize amK φ q r = ci at hat kk hlay hcl
  have hap := va_apart (own := own) hts hin ty0 hty hnm hKK.va hcl
  obtain ⟨r1, h1, cell, q1, q2, q3, q4⟩ := hat
  have hr : r1 = (C, T, n) := Option.some.inj (h1.symm.trans hcl)
  subst hr
  obtain ⟨hS, hfc, kC, hkC, hkind⟩ := hKK.1 ci _ hcl
  obtain ⟨cf, kf, fj, f, hi, hsl⟩ := hS j hj
  have hlw := hts _ (hin _ (u_in_lay hj))
  have hst := (u_facts hfc hkC (u_lays hts hin hj) hi).1
  have fin1 : ∀ H', H'[ad (rid q r)]? = some (cell.setSlot f.slot v) → va_at D am_cl (ad (rid q r), .inr (ci, fs.set j v)) H' := by
    intro H' e1
    rw [hsl] at e1
    exact ⟨_, hcl, t_OB.to (V := updV (vp_V fs) j v) ⟨_, e1, q2, q3, t_set q4 hap hj v⟩ (fun i _ => vp_updV_set hl0 v i)⟩
  cases fi with
  | false =>
    unfold u_lay at hlw
    rw [if_neg (by rw [hfin]; decide)] at hlw
    have h6 := u_store hfc hkC hkind hlw hi hd hn hfit
    rcases hlink with hl | ⟨host, hl⟩
    · exact W.putK hexec hb (f := f) ⟨hown, hts _ hl, ⟨_, _, _, hs2 _ hi⟩, hst⟩ (by rw [q2]; exact h6) q1 q3 (by rw [hsl]; exact k2_hasslot (q4 j hj)) rfl rfl hdg fun H' e1 e2 e3 => kk H' _ hlay (fin1 H' e1) e2 e3
    · exact va_WputK hexec hb (f := f) hown (va_Nw.use rfl (hKK.2.2.1 _ hl rfl)) (hs2 _ hi) hst (by rw [q2]; exact h6) q1 q3 (by rw [hsl]; exact k2_hasslot (q4 j hj)) rfl rfl hdg fun H' e1 e2 e3 => kk H' _ hlay (fin1 H' e1) e2 e3
  | true =>
    obtain ⟨hdecl, ref', hl, hsm⟩ := hfi rfl
    have hi' : s.fieldFound? ref' (T j).2.1 (T j).2.2.1 = some (cf, kf, fj, f) := by rw [← hsm]; exact hi
    unfold u_lay at hlw
    rw [if_pos hfin] at hlw
    have hcf : m.cls = cf := by
      obtain ⟨_, _, c', _, _, _, -, -, hf', -, -, -, hown2, -⟩ := Cond.laysFinal_spec hlw
      have e1 : c' = cf := by have := hi.symm.trans hf'; simp at this; exact this.1.symm
      rw [hdecl] at hown2
      rw [← e1]; exact Option.some.inj (hown.symm.trans hown2)
    have h6 := u_fits hfc hkC hkind (Or.inr hlw) hi hd hn hfit
    exact W.putFinK hexec hb hown (hts _ hl) hi' hst hcf (hini rfl) (by rw [q2]; exact h6) q1 q3 (by rw [hsl]; exact k2_hasslot (q4 j hj)) rfl rfl hdg fun H' e1 e2 e3 => kk H' _ hlay (fin1 H' e1) e2 e3
end am6
section am7
variable {X : amX} {cc : ByteArray} {own : String} {nL F L : Nat} {rtp : Option FieldType} {β : Type} {enc : β → Option Value} {pc : Nat} {l : List (Nat × Value)} {st : List Value}
theorem wg_gI {q r idx j a0 b0 : Nat} {g : Int32 → am1 β} (hX : amOK X cc own nL F L rtp) (hF : amFd own idx q j (0, a0, b0) (am_kl q)) (hdg : decode cc pc = .ok (.getfield idx, 3)) (k : ∀ v : Int32, WG X enc (pc + 3) l (.int v :: st) (g v)) : WG X enc pc l (.ref (rid q r) :: st) (bd1 (up (gI q r j)) g) := by
  obtain ⟨⟨p, lc, e, R, s⟩, ⟨m, args, below, meth, c⟩, ⟨D, dA, ad0, φ0, A⟩, ⟨Q, fin⟩⟩ := X
  intro φ S b φ' S' kc ks hP hf ad H locs cells slots ls hI hc hs hv hvl hl
  obtain ⟨a1, S1, hm, hg⟩ := bd1_up_some hP
  unfold gI at hm
  split at hm
  · cases hm
  · rename_i h0
    cases hm
    have hq := hF.1
    have ho : amOk φ q r := ⟨hq, Nat.pos_of_ne_zero h0, amV_r (by omega) hv.1⟩
    have hob := am_obj hI.1 ho hF.2.1
    rw [List.map_cons, cn_rid h0]
    exact am_getf hX.1 hX.2.1 hX.2.2.2.2.1 hX.2.2.2.1 hX.2.2.2.2.2.2.2.2.1 hI.1 hF ho hob.2.1 hdg fun _ => k _ φ S b φ' S' kc ks hg hf ad H locs cells slots ls hI hc hs ⟨trivial, hv.2⟩ hvl hl
theorem wg_gIs {q r idx j a0 b0 : Nat} {cs : List Nat} {g : Int32 → am1 β} (hX : amOK X cc own nL F L rtp) (hF : amFd own idx q j (0, a0, b0) cs) (hdg : decode cc pc = .ok (.getfield idx, 3)) (k : ∀ v : Int32, WG X enc (pc + 3) l (.int v :: st) (g v)) : WG X enc pc l (.ref (rid q r) :: st) (bd1 (up (gIs cs q r j)) g) := by
  obtain ⟨⟨p, lc, e, R, s⟩, ⟨m, args, below, meth, c⟩, ⟨D, dA, ad0, φ0, A⟩, ⟨Q, fin⟩⟩ := X
  intro φ S b φ' S' kc ks hP hf ad H locs cells slots ls hI hc hs hv hvl hl
  obtain ⟨a1, S1, hm, hg⟩ := bd1_up_some hP
  unfold gIs at hm
  split at hm
  · rename_i h0
    cases hm
    have hq := hF.1
    have ho : amOk φ q r := ⟨hq, Nat.pos_of_ne_zero h0.1, amV_r (by omega) hv.1⟩
    rw [List.map_cons, cn_rid h0.1]
    exact am_getf hX.1 hX.2.1 hX.2.2.2.2.1 hX.2.2.2.1 hX.2.2.2.2.2.2.2.2.1 hI.1 hF ho h0.2 hdg fun _ => k _ φ S b φ' S' kc ks hg hf ad H locs cells slots ls hI hc hs ⟨trivial, hv.2⟩ hvl hl
  · cases hm
theorem wg_gR {q r idx j t b0 : Nat} {g : Nat → am1 β} (hX : amOK X cc own nL F L rtp) (hF : amFd own idx q j (1, t, b0) (am_kl q)) (hdg : decode cc pc = .ok (.getfield idx, 3)) (k : ∀ v : Nat, WG X enc (pc + 3) l (.ref (rid t v) :: st) (g v)) : WG X enc pc l (.ref (rid q r) :: st) (bd1 (up (gR q r j)) g) := by
  obtain ⟨⟨p, lc, e, R, s⟩, ⟨m, args, below, meth, c⟩, ⟨D, dA, ad0, φ0, A⟩, ⟨Q, fin⟩⟩ := X
  intro φ S b φ' S' kc ks hP hf ad H locs cells slots ls hI hc hs hv hvl hl
  obtain ⟨a1, S1, hm, hg⟩ := bd1_up_some hP
  unfold gR at hm
  split at hm
  · cases hm
  · rename_i h0
    cases hm
    have hq := hF.1
    have ho : amOk φ q r := ⟨hq, Nat.pos_of_ne_zero h0, amV_r (by omega) hv.1⟩
    have hob := am_obj hI.1 ho hF.2.1
    rw [List.map_cons, cn_rid h0]
    refine am_getf hX.1 hX.2.1 hX.2.2.2.2.1 hX.2.2.2.1 hX.2.2.2.2.2.2.2.2.1 hI.1 hF ho hob.2.1 hdg fun hlay => k _ φ S b φ' S' kc ks hg hf ad H locs cells slots ls hI hc hs ⟨?_, hv.2⟩ hvl hl
    refine hob.2.2 (amF φ S q r j (1, t, b0)) (List.mem_of_getElem? (i := j) ?_)
    rw [amFs_get, hlay]
    simp
theorem wg_gRs {q r idx j t b0 : Nat} {cs : List Nat} {g : Nat → am1 β} (hX : amOK X cc own nL F L rtp) (hF : amFd own idx q j (1, t, b0) cs) (hdg : decode cc pc = .ok (.getfield idx, 3)) (k : ∀ v : Nat, WG X enc (pc + 3) l (.ref (rid t v) :: st) (g v)) : WG X enc pc l (.ref (rid q r) :: st) (bd1 (up (gRs cs q r j)) g) := by
  obtain ⟨⟨p, lc, e, R, s⟩, ⟨m, args, below, meth, c⟩, ⟨D, dA, ad0, φ0, A⟩, ⟨Q, fin⟩⟩ := X
  intro φ S b φ' S' kc ks hP hf ad H locs cells slots ls hI hc hs hv hvl hl
  obtain ⟨a1, S1, hm, hg⟩ := bd1_up_some hP
  unfold gRs at hm
  split at hm
  · rename_i h0
    cases hm
    have hq := hF.1
    have ho : amOk φ q r := ⟨hq, Nat.pos_of_ne_zero h0.1, amV_r (by omega) hv.1⟩
    have hob := am_obj hI.1 ho hF.2.1
    rw [List.map_cons, cn_rid h0.1]
    refine am_getf hX.1 hX.2.1 hX.2.2.2.2.1 hX.2.2.2.1 hX.2.2.2.2.2.2.2.2.1 hI.1 hF ho h0.2 hdg fun hlay => k _ φ S b φ' S' kc ks hg hf ad H locs cells slots ls hI hc hs ⟨?_, hv.2⟩ hvl hl
    refine hob.2.2 (amF φ S q r j (1, t, b0)) (List.mem_of_getElem? (i := j) ?_)
    rw [amFs_get, hlay]
    simp
  · cases hm
/-- a constant of a finished object: kinds 2, 3, 4 of its fields -/
def amCv (kd r : Nat) : Nat := match kd with
  | 2 => r
  | 3 => 2 * r - 1
  | _ => 2 * r
theorem amF_c {φ : amSh} {S : amSt} {p r j kd t s0 : Nat} (hkd : kd = 2 ∨ kd = 3 ∨ kd = 4) (h : s0 < φ.2.1 p r) : amF φ S p r j (kd, t, s0) = .ref (rid t (amCv kd r)) := by
  rcases hkd with rfl | rfl | rfl <;> simp [amF, amCv, h]
theorem wg_gC {q r idx j kd t s0 v : Nat} {g : Unit → am1 β} (hX : amOK X cc own nL F L rtp) (hF : amFd own idx q j (kd, t, s0) (am_kl q)) (hkd : kd = 2 ∨ kd = 3 ∨ kd = 4) (hv0 : amCv kd r = v) (hdg : decode cc pc = .ok (.getfield idx, 3)) (k : WG X enc (pc + 3) l (.ref (rid t v) :: st) (g ())) : WG X enc pc l (.ref (rid q r) :: st) (bd1 (up (gC q r s0)) g) := by
  obtain ⟨⟨p, lc, e, R, s⟩, ⟨m, args, below, meth, c⟩, ⟨D, dA, ad0, φ0, A⟩, ⟨Q, fin⟩⟩ := X
  intro φ S b φ' S' kc ks hP hf ad H locs cells slots ls hI hc hs hv hvl hl
  obtain ⟨a1, S1, hm, hg⟩ := bd1_up_some hP
  unfold gC at hm
  split at hm
  · rename_i h0
    cases hm
    have hq := hF.1
    have ho : amOk φ q r := ⟨hq, Nat.pos_of_ne_zero h0.1, amV_r (by omega) hv.1⟩
    have hob := am_obj hI.1 ho hF.2.1
    rw [List.map_cons, cn_rid h0.1]
    refine am_getf hX.1 hX.2.1 hX.2.2.2.2.1 hX.2.2.2.1 hX.2.2.2.2.2.2.2.2.1 hI.1 hF ho hob.2.1 hdg fun hlay => ?_
    have e1 := amF_c (S := S) (j := j) (t := t) hkd h0.2
    rw [e1, hv0]
    refine k φ S b φ' S' kc ks hg hf ad H locs cells slots ls hI hc hs ⟨?_, hv.2⟩ hvl hl
    rw [← hv0, ← e1]
    refine hob.2.2 _ (List.mem_of_getElem? (i := j) ?_)
    rw [amFs_get, hlay]
    simp
  · cases hm
/-- a constant of the one big object -/
theorem wg_gK {q r idx j t v : Nat} {P : am1 β} (hX : amOK X cc own nL F L rtp) (hM0 : am0M X) (hF : amFd own idx q j (5, t, v) (am_kl q)) (h0 : r ≠ 0) (hdg : decode cc pc = .ok (.getfield idx, 3)) (k : WG X enc (pc + 3) l (.ref (rid t v) :: st) P) : WG X enc pc l (.ref (rid q r) :: st) P := by
  obtain ⟨⟨p, lc, e, R, s⟩, ⟨m, args, below, meth, c⟩, ⟨D, dA, ad0, φ0, A⟩, ⟨Q, fin⟩⟩ := X
  intro φ S b φ' S' kc ks hP hf ad H locs cells slots ls hI hc hs hv hvl hl
  have hq := hF.1
  have ho : amOk φ q r := ⟨hq, Nat.pos_of_ne_zero h0, amV_r (by omega) hv.1⟩
  have hob := am_obj hI.1 ho hF.2.1
  have hs0 : φ.1 255 ≠ 0 := fun e => hM0 (Nat.le_zero.mp (by rw [← e]; exact hI.2.2.2.1 255))
  rw [List.map_cons, cn_rid h0]
  have hFv : amF φ S q r j (5, t, v) = .ref (rid t v) := if_neg hs0
  refine am_getf hX.1 hX.2.1 hX.2.2.2.2.1 hX.2.2.2.1 hX.2.2.2.2.2.2.2.2.1 hI.1 hF ho hob.2.1 hdg fun hlay => ?_
  rw [hFv]
  refine k φ S b φ' S' kc ks hP hf ad H locs cells slots ls hI hc hs ⟨?_, hv.2⟩ hvl hl
  refine hob.2.2 (.ref (rid t v)) (List.mem_of_getElem? (i := j) ?_)
  rw [← hFv, amFs_get, hlay]
  simp
/-- the big objects are whole: their arrays stand -/
def gM : am0 Unit := fun φ S => if φ.1 255 = 0 then none else some ((), S)
theorem wg_gM {g : Unit → am1 β} (k : WG X enc pc l st (g ())) : WG X enc pc l st (bd1 (up gM) g) := by
  obtain ⟨⟨p, lc, e, R, s⟩, ⟨m, args, below, meth, c⟩, ⟨D, dA, ad0, φ0, A⟩, ⟨Q, fin⟩⟩ := X
  intro φ S b φ' S' kc ks hP hf ad H locs cells slots ls hI hc hs hv hvl hl
  obtain ⟨a1, S1, hm, hg⟩ := bd1_up_some hP
  unfold gM at hm
  split at hm
  · cases hm
  · cases hm
    exact k φ S b φ' S' kc ks hg hf ad H locs cells slots ls hI hc hs hv hvl hl
theorem amPs.m0 {α : Type} {f : Unit → am0 α} (h : amPs X (up (bd gM f))) : am0M X := by
  obtain ⟨S, h⟩ := h
  intro e
  exact h (by unfold up bd gM; rw [if_pos e])
theorem amPs.m1 {α : Type} {f : Unit → am1 α} (h : amPs X (bd1 (up gM) f)) : am0M X := by
  obtain ⟨S, h⟩ := h
  intro e
  exact h (by unfold bd1 up gM; rw [if_pos e])
/-- the big object under construction: its arrays come one by one -/
def gR5 (p r j : Nat) : am0 Nat := fun φ S => if r = 0 ∨ φ.1 255 ≠ 0 then none else some (S.2.2 p r j, S)
def pR5 (p r j : Nat) (v : Nat) : am0 Unit := fun φ S => if r = 0 ∨ φ.1 255 ≠ 0 then none else some ((), (S.1, S.2.1, u3 S.2.2 p r j v))
theorem wg_gR5 {q r idx j t b0 : Nat} {g : Nat → am1 β} (hX : amOK X cc own nL F L rtp) (hF : amFd own idx q j (5, t, b0) (am_kl q)) (hdg : decode cc pc = .ok (.getfield idx, 3)) (k : ∀ v : Nat, WG X enc (pc + 3) l (.ref (rid t v) :: st) (g v)) : WG X enc pc l (.ref (rid q r) :: st) (bd1 (up (gR5 q r j)) g) := by
  obtain ⟨⟨p, lc, e, R, s⟩, ⟨m, args, below, meth, c⟩, ⟨D, dA, ad0, φ0, A⟩, ⟨Q, fin⟩⟩ := X
  intro φ S b φ' S' kc ks hP hf ad H locs cells slots ls hI hc hs hv hvl hl
  obtain ⟨a1, S1, hm, hg⟩ := bd1_up_some hP
  unfold gR5 at hm
  split at hm
  · cases hm
  · rename_i h0
    cases hm
    have hq := hF.1
    have h1 : φ.1 255 = 0 := Decidable.byContradiction fun z => h0 (Or.inr z)
    have h0 : r ≠ 0 := fun z => h0 (Or.inl z)
    have hFv : amF φ S q r j (5, t, b0) = .ref (rid t (S.2.2 q r j)) := if_pos h1
    have ho : amOk φ q r := ⟨hq, Nat.pos_of_ne_zero h0, amV_r (by omega) hv.1⟩
    have hob := am_obj hI.1 ho hF.2.1
    rw [List.map_cons, cn_rid h0]
    refine am_getf hX.1 hX.2.1 hX.2.2.2.2.1 hX.2.2.2.1 hX.2.2.2.2.2.2.2.2.1 hI.1 hF ho hob.2.1 hdg fun hlay => ?_
    rw [hFv]
    refine k _ φ S b φ' S' kc ks hg hf ad H locs cells slots ls hI hc hs ⟨?_, hv.2⟩ hvl hl
    refine hob.2.2 (.ref (rid t (S.2.2 q r j))) (List.mem_of_getElem? (i := j) ?_)
    rw [← hFv, amFs_get, hlay]
    simp
end am7
