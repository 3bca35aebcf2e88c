/-! texts: the String constants of the program -/
theorem am_strA {ad0 ad : Nat → Nat} {φ0 φ : amSh} {A : Nat → Prop} {s : State} {r : Nat} (hCo : amCo ad0 φ0 A s s.heap) (hE : amE ad0 φ0 ad φ) (hr : r ≠ 0 ∧ r ≤ am_strN) :
    va_O "java/lang/String" (ad (rid 250 r)) A s s.heap ∧ va_OF "java/lang/String" "coder" "B" (.int 0) (ad (rid 250 r)) A s s.heap ∧ va_OF "java/lang/String" "value" "[B" (.ref (ad (rid 251 r))) (ad (rid 250 r)) A s s.heap ∧ va_T .byte (ad (rid 251 r)) (am_strL.getD (r - 1) 0) (fun j => .int ((am_strB.getD (r - 1) []).getD j 0)) A s s.heap ∧ r ≤ φ.1 250 ∧ r ≤ φ.1 251 := by
  have h := hCo.2.2.1.1 (r - 1) (by omega)
  dsimp only at h
  rw [show r - 1 + 1 = r by omega] at h
  rw [hE.2 250 r (by decide) (by omega) (Nat.le_trans hr.2 hCo.1), hE.2 251 r (by decide) (by omega) (Nat.le_trans hr.2 hCo.2.1)]
  exact ⟨h.1, h.2.1, h.2.2.1, h.2.2.2, Nat.le_trans hr.2 (Nat.le_trans hCo.1 (hE.1 _)), Nat.le_trans hr.2 (Nat.le_trans hCo.2.1 (hE.1 _))⟩
def sB (r : Nat) (i : Int32) : am0 Int32 := fun _ S => if r ≠ 0 ∧ r ≤ am_strN ∧ amIn i (am_strL.getD (r - 1) 0) then some ((am_strB.getD (r - 1) []).getD i.toNatClampNeg 0, S) else none
section am41
variable {X : amX} {cc : ByteArray} {own : String} {nL F L : Nat} {rtp : Option FieldType} {β : Type} {enc : β → Option Value} {pc : Nat} {l : List (Nat × Value)} {st : List Value}
theorem wg_fl {γ : Type} {K : γ → am1 β} : WG X enc pc l st (bd1 (up (fl0 : am0 γ)) K) := by
  obtain ⟨⟨p, lc, e, R, s⟩, ⟨m, args, below, meth, c⟩, ⟨D, dA, ad0, φ0, A⟩, ⟨Q, fin⟩⟩ := X
  intro φ S b φ' S' kc ks hP
  cases hP
theorem wg_fl1 {γ : Type} {K : γ → am1 β} : WG X enc pc l st (bd1 (fl1 : am1 γ) K) := by
  obtain ⟨⟨p, lc, e, R, s⟩, ⟨m, args, below, meth, c⟩, ⟨D, dA, ad0, φ0, A⟩, ⟨Q, fin⟩⟩ := X
  intro φ S b φ' S' kc ks hP
  cases hP
theorem wg_bret {x : Int32} {b0 : β} (hX : amOK X cc own nL F L rtp) (hr : rtp = some .byte) (hz : x.toInt8.toInt32 = x) (henc : enc b0 = some (.int x)) (hdg : decode cc pc = .ok (.ireturn, 1)) : WG X enc pc l [.int x] (rt1 b0) := by
  obtain ⟨⟨p, lc, e, R, s⟩, ⟨m, args, below, meth, c⟩, ⟨D, dA, ad0, φ0, A⟩, ⟨Q, fin⟩⟩ := X
  intro φ S b φ' S' kc ks hP hf ad H locs cells slots ls hI hc hs hv hvl hl
  cases hP
  obtain ⟨hx, hb, -, -, -, hlk, -, -, -, -, hrt, hQ, -⟩ := hX
  refine hQ (by rw [hf]; show enc b0 ≠ am_thr; rw [henc]; exact fun h => by cases h) _ _ _ _ _ ?_
  rw [← hc, ← hs]
  exact W.zret hx hb (by rw [hrt, hr]) (by show Value.int x.toInt8.toInt32 = _; rw [hz]) (fun t ht hW => am_fin hI hf (fun v h => by rw [henc] at h; cases h; trivial) ht (by rw [henc]; rfl)) hI.2.2.1.2.2 hdg hlk
theorem wg_sV {r idx : Nat} {P : am1 β} (hX : amOK X cc own nL F L rtp) (hr : r ≠ 0 ∧ r ≤ am_strN) (hl0 : Cond.fieldLink own idx "java/lang/String" "value" "[B" ∈ lw_all) (hdg : decode cc pc = .ok (.getfield idx, 3)) (k : WG X enc (pc + 3) l (.ref (rid 251 r) :: st) P) : WG X enc pc l (.ref (rid 250 r) :: st) P := by
  obtain ⟨⟨p, lc, e, R, s⟩, ⟨m, args, below, meth, c⟩, ⟨D, dA, ad0, φ0, A⟩, ⟨Q, fin⟩⟩ := X
  intro φ S b φ' S' kc ks hP hf ad H locs cells slots ls hI hc hs hv hvl hl
  obtain ⟨hx, hb, hml, hown, hts, hlk, hRf, hRl, hKK, hA, hrt, hQ, hlc, hCo⟩ := hX
  have hsr := am_strA hCo hI.2.2.2 hr
  have k1 := k φ S b φ' S' kc ks hP hf ad H locs cells slots ls hI hc hs ⟨amV_mk (by decide) hsr.2.2.2.2.2, hv.2⟩ hvl hl
  rw [List.map_cons, cn_rid hr.1] at k1 ⊢
  exact vk_getf hx hb hsr.2.2.1 hI.2.2.1 hown (hts _ hl0) (fun _ h => h) hdg k1
theorem wg_sC {r idx : Nat} {P : am1 β} (hX : amOK X cc own nL F L rtp) (hr : r ≠ 0 ∧ r ≤ am_strN) (hl0 : Cond.fieldLink own idx "java/lang/String" "coder" "B" ∈ lw_all) (hdg : decode cc pc = .ok (.getfield idx, 3)) (k : WG X enc (pc + 3) l (.int 0 :: st) P) : WG X enc pc l (.ref (rid 250 r) :: st) P := by
  obtain ⟨⟨p, lc, e, R, s⟩, ⟨m, args, below, meth, c⟩, ⟨D, dA, ad0, φ0, A⟩, ⟨Q, fin⟩⟩ := X
  intro φ S b φ' S' kc ks hP hf ad H locs cells slots ls hI hc hs hv hvl hl
  obtain ⟨hx, hb, hml, hown, hts, hlk, hRf, hRl, hKK, hA, hrt, hQ, hlc, hCo⟩ := hX
  have hsr := am_strA hCo hI.2.2.2 hr
  have k1 := k φ S b φ' S' kc ks hP hf ad H locs cells slots ls hI hc hs ⟨trivial, hv.2⟩ hvl hl
  rw [List.map_cons, cn_rid hr.1]
  exact vk_getf hx hb hsr.2.1 hI.2.2.1 hown (hts _ hl0) (fun _ h => h) hdg k1
theorem wg_sG {idx : Nat} {P : am1 β} (hX : amOK X cc own nL F L rtp) (hl0 : Cond.fieldLink own idx "java/lang/String" "COMPACT_STRINGS" "Z" ∈ lw_all) (hdg : decode cc pc = .ok (.getstatic idx, 3)) (k : WG X enc (pc + 3) l (.int 1 :: st) P) : WG X enc pc l st P := by
  obtain ⟨⟨p, lc, e, R, s⟩, ⟨m, args, below, meth, c⟩, ⟨D, dA, ad0, φ0, A⟩, ⟨Q, fin⟩⟩ := X
  intro φ S b φ' S' kc ks hP hf ad H locs cells slots ls hI hc hs hv hvl hl
  obtain ⟨hx, hb, hml, hown, hts, hlk, hRf, hRl, hKK, hA, hrt, hQ, hlc, hCo⟩ := hX
  exact va_gets hx hb hCo.2.2.2.2.1 hI.2.2.1 hown (hts _ hl0) (fun _ h => h) hdg (k φ S b φ' S' kc ks hP hf ad H locs cells slots ls hI hc hs ⟨trivial, hv⟩ hvl hl)
theorem wg_sL {r : Nat} {P : am1 β} (hX : amOK X cc own nL F L rtp) (hr : r ≠ 0 ∧ r ≤ am_strN) (hdg : decode cc pc = .ok (.arraylength, 1)) (k : WG X enc (pc + 1) l (.int (Int32.ofNat (am_strL.getD (r - 1) 0)) :: st) P) : WG X enc pc l (.ref (rid 251 r) :: st) P := by
  obtain ⟨⟨p, lc, e, R, s⟩, ⟨m, args, below, meth, c⟩, ⟨D, dA, ad0, φ0, A⟩, ⟨Q, fin⟩⟩ := X
  intro φ S b φ' S' kc ks hP hf ad H locs cells slots ls hI hc hs hv hvl hl
  obtain ⟨hx, hb, hml, hown, hts, hlk, hRf, hRl, hKK, hA, hrt, hQ, hlc, hCo⟩ := hX
  have hsr := am_strA hCo hI.2.2.2 hr
  rw [List.map_cons, cn_rid hr.1]
  exact va_tlen hx hb hsr.2.2.2.1 hI.2.2.1 rfl hdg (k φ S b φ' S' kc ks hP hf ad H locs cells slots ls hI hc hs ⟨trivial, hv.2⟩ hvl hl)
theorem wg_sB {r : Nat} {i : Int32} {g : Int32 → am1 β} (hX : amOK X cc own nL F L rtp) (hdg : decode cc pc = .ok (.baload, 1)) (k : ∀ v : Int32, WG X enc (pc + 1) l (.int v :: st) (g v)) : WG X enc pc l (.int i :: .ref (rid 251 r) :: st) (bd1 (up (sB r i)) g) := by
  obtain ⟨⟨p, lc, e, R, s⟩, ⟨m, args, below, meth, c⟩, ⟨D, dA, ad0, φ0, A⟩, ⟨Q, fin⟩⟩ := X
  intro φ S b φ' S' kc ks hP hf ad H locs cells slots ls hI hc hs hv hvl hl
  obtain ⟨a1, S1, hm, hg⟩ := bd1_up_some hP
  obtain ⟨hx, hb, hml, hown, hts, hlk, hRf, hRl, hKK, hA, hrt, hQ, hlc, hCo⟩ := hX
  unfold sB at hm
  split at hm
  · rename_i h0
    cases hm
    have hsr := am_strA hCo hI.2.2.2 ⟨h0.1, h0.2.1⟩
    rw [List.map_cons, List.map_cons, cn_rid h0.1]
    exact va_tb hx hb hsr.2.2.2.1 hI.2.2.1 h0.2.2 rfl hdg (k _ φ S b φ' S' kc ks hg hf ad H locs cells slots ls hI hc hs ⟨trivial, hv.2.2⟩ hvl hl)
  · cases hm
theorem wg_ldS {idx i : Nat} {tx : String} {P : am1 β} (hX : amOK X cc own nL F L rtp) (hm : (own, idx, tx, i) ∈ am_strR) (hdg : decode cc pc = .ok (.ldc idx, 2)) (k : WG X enc (pc + 2) l (.ref (rid 250 (i + 1)) :: st) P) : WG X enc pc l st P := by
  obtain ⟨⟨p, lc, e, R, s⟩, ⟨m, args, below, meth, c⟩, ⟨D, dA, ad0, φ0, A⟩, ⟨Q, fin⟩⟩ := X
  intro φ S b φ' S' kc ks hP hf ad H locs cells slots ls hI hc hs hv hvl hl
  obtain ⟨hx, hb, hml, hown, hts, hlk, hRf, hRl, hKK, hA, hrt, hQ, hlc, hCo⟩ := hX
  have hi := am_strR_ok _ hm
  have hR := hCo.2.2.2.1 _ hm
  dsimp only at hi hR
  have hE : amE ad0 φ0 ad φ := hI.2.2.2
  have hsr := am_strA (r := i + 1) hCo hE ⟨Nat.succ_ne_zero _, hi⟩
  have k1 := k φ S b φ' S' kc ks hP hf ad H locs cells slots ls hI hc hs ⟨amV_mk (by decide) hsr.2.2.2.2.1, hv⟩ hvl hl
  rw [List.map_cons, cn_rid (Nat.succ_ne_zero _), hE.2 250 (i + 1) (by decide) (by omega) (Nat.le_trans hi hCo.1)] at k1
  exact va_ldcS hx hb hown hR hdg k1
theorem wg_ldSw {idx i : Nat} {tx : String} {P : am1 β} (hX : amOK X cc own nL F L rtp) (hm : (own, idx, tx, i) ∈ am_strR) (hdg : decode cc pc = .ok (.ldc_w idx, 3)) (k : WG X enc (pc + 3) l (.ref (rid 250 (i + 1)) :: st) P) : WG X enc pc l st P := by
  obtain ⟨⟨p, lc, e, R, s⟩, ⟨m, args, below, meth, c⟩, ⟨D, dA, ad0, φ0, A⟩, ⟨Q, fin⟩⟩ := X
  intro φ S b φ' S' kc ks hP hf ad H locs cells slots ls hI hc hs hv hvl hl
  obtain ⟨hx, hb, hml, hown, hts, hlk, hRf, hRl, hKK, hA, hrt, hQ, hlc, hCo⟩ := hX
  have hi := am_strR_ok _ hm
  have hR := hCo.2.2.2.1 _ hm
  dsimp only at hi hR
  have hE : amE ad0 φ0 ad φ := hI.2.2.2
  have hsr := am_strA (r := i + 1) hCo hE ⟨Nat.succ_ne_zero _, hi⟩
  have k1 := k φ S b φ' S' kc ks hP hf ad H locs cells slots ls hI hc hs ⟨amV_mk (by decide) hsr.2.2.2.2.1, hv⟩ hvl hl
  rw [List.map_cons, cn_rid (Nat.succ_ne_zero _), hE.2 250 (i + 1) (by decide) (by omega) (Nat.le_trans hi hCo.1)] at k1
  intro T hT X
  obtain ⟨t, a1, b1⟩ := k1 T hT X
  exact ⟨t, X.ldcStringW hx hown (text := tx) (a := ad0 (rid 250 (i + 1))) hR.1 hR.2 (g := F0 m pc ls (st.map (cn ad))) rfl (by rw [hb]; exact hdg) t a1, b1⟩
theorem wg_cVs {α : Type} {encz : α → Option Value} {m1 : am1 α} {g : α → am1 β} {r idx n nLy Fy Ly : Nat} {y : MethodName} {ccy : ByteArray} {rty : Option FieldType} {As rest st0 : List Value}  (hX : amOK X cc own nL F L rtp) (hM : amMet y ccy nLy rty Fy Ly encz (.ref (rid 250 r) :: As) m1) (hr : r ≠ 0 ∧ r ≤ am_strN) (hyc : y.cls = "java/lang/String") (hG : GoodIn lw_all (wsV own idx y.cls y (ws_ y ccy nLy rty))) (hd : y.cls ≠ "java/lang/invoke/MethodHandle" ∧ y.cls ≠ "java/lang/invoke/VarHandle" ∧ (parseMethodDescriptor y.desc).map (fun d => d.parameters.length) = some n) (hn : As.length = n) (hF : Fy + 1 ≤ F) (hLo : 8 + (nLy + 11) + Ly ≤ L) (hw : (rest.map fun v => v.category).sum ≤ 8) (hst : st0 = As.reverse ++ .ref (rid 250 r) :: rest) (hdg : decode cc pc = .ok (.invokevirtual idx, 3)) (k : ∀ a, WG X enc (pc + 3) l ((encz a).toList ++ rest) (g a)) : WG X enc pc l st0 (bd1 m1 g) := by
  subst hst
  obtain ⟨⟨p, lc, e, R, s⟩, ⟨m, args, below, meth, c⟩, ⟨D, dA, ad0, φ0, A⟩, ⟨Q, fin⟩⟩ := X
  intro φ S b φ' S' kc ks hP hf ad H locs cells slots ls hI hc hs hv hvl hl
  obtain ⟨a1, φ1, S1, k1, n1, k2, n2, hm, hg, rfl, rfl⟩ := bd1_some hP
  obtain ⟨hx, hb, hml, hown, hts, hlk, hRf, hRl, hKK, hA, hrt, hQ, hlc, hCo⟩ := hX
  subst hRf
  subst hRl
  have hvs := amVs_app.mp hv
  have hvr : amVs φ rest := hvs.2.2
  have h0 := hr.1
  have hsr := am_strA hCo hI.2.2.2 hr
  have hmet := hM lc hlc D dA ad φ S H.size a1 φ1 S1 k1 n1 hm ⟨hvs.2.1, amVs_rev.mp hvs.1⟩
  have hpre : PreV s H y.cls (ad (rid 250 r)) (amPc D dA ad φ S (.ref (rid 250 r) :: As) H.size) (As.map (cn ad)) := ⟨amPc_blind, by
    obtain ⟨cell, h1, h2, h3, -⟩ := hsr.1.kept hI.2.2.1.2.1
    rw [hyc]
    exact ⟨cell, h1, h2, h3⟩, fun U hU hW => ⟨by rw [List.map_cons, cn_rid h0], by rw [hU], by rw [hU]; exact hI.1, hKK.warm hW, by rw [hU]; exact hCo.tr hW hI.2.2.2 hI.2.2.1.2.1 (hI.sub hA)⟩⟩
  rw [List.map_append, List.map_cons, cn_rid h0, List.map_reverse]
  have hrun := va_runV ⟨hx, hb, hml, hown, hts⟩ hmet (cwV n hts hG rfl rfl rfl ⟨rfl, hd⟩ ⟨hF, hLo⟩) hpre (g := F0 m pc ls ((As.map (cn ad)).reverse ++ .ref (ad (rid 250 r)) :: rest.map (cn ad))) (locs := locs) (cells := cells) (slots := slots) (rest := rest.map (cn ad)) (R := R) (e := e) (below := below) (meth := meth) rfl (by rw [List.length_map]; exact hn) (by rw [← hml]; exact hl.1) rfl (lv_room (by rw [am_cats]; exact hw)) hdg ⟨by omega, by omega⟩
  refine am_back (np := pc + 3) hrun hI hA fun ad1 H1 locs1 hI1 hE1 hV1 => ?_
  have k3 := k a1 φ1 S1 b φ' S' k2 n2 hg hf ad1 H1 locs1 (cells + k1) (slots + n1) ls hI1 (by omega) (by omega) (amVs_app.mpr ⟨by
    rcases he : encz a1 with _ | v
    · trivial
    · exact ⟨hV1 v he, trivial⟩, amVs_up hE1 hvr⟩) (amVl_up hE1 hvl) (by rw [amCl_cn hE1 hvl]; exact hl)
  rw [List.map_append, amVs_cn hE1 hvr] at k3
  rcases he : encz a1 with _ | v
  · rw [he] at k3
    exact k3
  · rw [he] at k3
    exact k3
theorem wg_cVsi {m1 : am1 Int32} {g : Int32 → am1 β} {r idx n nLy Fy Ly : Nat} {y : MethodName} {ccy : ByteArray} {rty : Option FieldType} {As rest st0 : List Value}  (hX : amOK X cc own nL F L rtp) (hM : amMet y ccy nLy rty Fy Ly encI (.ref (rid 250 r) :: As) m1) (hr : r ≠ 0 ∧ r ≤ am_strN) (hyc : y.cls = "java/lang/String") (hG : GoodIn lw_all (wsV own idx y.cls y (ws_ y ccy nLy rty))) (hd : y.cls ≠ "java/lang/invoke/MethodHandle" ∧ y.cls ≠ "java/lang/invoke/VarHandle" ∧ (parseMethodDescriptor y.desc).map (fun d => d.parameters.length) = some n) (hn : As.length = n) (hF : Fy + 1 ≤ F) (hLo : 8 + (nLy + 11) + Ly ≤ L) (hw : (rest.map fun v => v.category).sum ≤ 8) (hst : st0 = As.reverse ++ .ref (rid 250 r) :: rest) (hdg : decode cc pc = .ok (.invokevirtual idx, 3)) (k : ∀ a : Int32, WG X enc (pc + 3) l (.int a :: rest) (g a)) : WG X enc pc l st0 (bd1 m1 g) :=
  wg_cVs hX hM hr hyc hG hd hn hF hLo hw hst hdg (fun a => k a)
end am41
