/-! PURE: fire is laid, floors are furnished -/
def lit (c : CHo) (b : CBz) (x k : Nat) : CBz := b.s_heat (pup b.heat (24 * x + k) (if 400 < b.heat (24 * x + k) then b.heat (24 * x + k) else 400))
def lightS (c : CHo) (b : CBz) (ca : CCa) (a1 a2 : Int32) : Int32 × CBz × CCa :=
  if isRm c a1 a2 then (if b.fal (6 * a1.toNatClampNeg + a2.toNatClampNeg / c.wd a1.toNatClampNeg) = 0 then
    (1, lit c b a1.toNatClampNeg a2.toNatClampNeg, notS c (lit c b a1.toNatClampNeg a2.toNatClampNeg) ca) else (0, b, ca)) else (0, b, ca)
theorem lit_kept {c : CHo} (w : c.WF) {b : CBz} {ca : CCa} (h : keptA c b ca) {x k : Nat} (hx : x < c.n) (hk : k < c.fl x * c.wd x) : kept c (lit c b x k) ca (c.cor x) := by
  refine h.but rfl fun y hy => ⟨rfl, fun hne => ?_⟩
  have hfw := w.fw hx
  refine brnN_congr w hy rfl rfl (fun q hq => ⟨?_, rfl⟩) fun _ _ => rfl
  show pup b.heat (24 * x + k) _ (24 * y + q) = _
  rw [pup_ne (by omega)]
theorem RCbk.set1 {b : CBz} {n : Nat} {S : amSt} (hb : RCbk b n false S) {x k : Nat} {v : Int32} (hk : k < 24) : RCbk (b.s_heat (pup b.heat (24 * x + k) v)) n false (u3 S.1 145 (2 * (x + 1) - 1) k v, S.2) := by
  intro j hj
  have hbj := hb j hj
  have ej : bnum false j = 2 * (j + 1) - 1 := rfl
  rw [ej] at hbj ⊢
  refine RCb1.mk ?_ ?_ ?_ ?_ ?_
  · intro q hq
    show _ = pup b.heat (24 * x + k) v (24 * j + q)
    by_cases e : j = x ∧ q = k
    · obtain ⟨rfl, rfl⟩ := e; simp [u3, pup]
    · rw [pup_ne (by omega)]; refine Eq.trans ?_ (hbj.heat q hq); simp [u3]; intro a b; exact absurd ⟨by omega, b⟩ e
  · intro q hq; refine Eq.trans ?_ (hbj.stuff q hq); simp [u3]
  · intro q hq; refine Eq.trans ?_ (hbj.water q hq); simp [u3]
  · intro q hq; refine Eq.trans ?_ (hbj.bnt q hq); simp [u3]
  · intro q hq; refine Eq.trans ?_ (hbj.fal q hq); simp [u3]
theorem RMbz.set1 {b : CBz} {S : amSt} (hb : RMbz b S) {q : Nat} {v : Int32} : RMbz (b.s_heat (pup b.heat q v)) (u3 S.1 74 1 q v, S.2) := by
  refine RMbz.mk ?_ ?_ ?_ ?_ ?_
  · intro j hj; show _ = pup b.heat q v j; by_cases e : j = q
    · subst e; simp [u3, pup]
    · rw [pup_ne e]; refine Eq.trans ?_ (hb.heat j hj); simp [u3, e]
  · intro j hj; refine Eq.trans ?_ (hb.stuff j hj); simp [u3]
  · intro j hj; refine Eq.trans ?_ (hb.water j hj); simp [u3]
  · intro j hj; refine Eq.trans ?_ (hb.bnt j hj); simp [u3]
  · intro j hj; refine Eq.trans ?_ (hb.fal j hj); simp [u3]
theorem op_X1_light {c : CHo} (w : c.WF) {b : CBz} {ca : CCa} (wa : ca.WF) {φ : amSh} {S : amSt} (hφ : φ.1 255 ≠ 0) (hR : RCho c φ S) (hb : RCbk b c.n false S) (hA : RCca ca φ S) {a1 a2 : Int32} :
    Rs (fun v S' => v = (lightS c b ca a1 a2).1 ∧ RCho c φ S' ∧ RCbk (lightS c b ca a1 a2).2.1 c.n false S' ∧ RCca (lightS c b ca a1 a2).2.2 φ S') (p_X1_light a1 a2 φ S) := by
  have hn := w.hn
  unfold p_X1_light
  rw [bd_gM hφ, bd_of (sp_X1_isRoom w hφ hR)]
  by_cases h : isRm c a1 a2
  · rw [ip h]
    simp only [i10, if_false]
    obtain ⟨x, k, hx, hk, rfl, rfl⟩ := isRm.ex w h
    have hfw := w.fw hx
    have hfl := w.fl x hx
    have hdv := w.dv hx hk
    have h6 : k / c.wd x < 6 := Nat.lt_of_lt_of_le hdv hfl.2
    have hst := hR.stb x hx
    have hst3 := hR.stg x hx
    have hbx : RCb1 b x (2 * (x + 1) - 1) S := hb x hx
    have ex : (iN x).toNatClampNeg = x := iN_nat (by omega)
    have ek : (iN k).toNatClampNeg = k := iN_nat (by omega)
    have g2 := fun {β : Type} {f : Unit → am0 β} {S : amSt} => bd_gC (f := f) (S := S) (show x + 1 ≠ 0 by omega) (show 2 < φ.2.1 3 (x + 1) by omega)
    have g4 := fun {β : Type} {f : Unit → am0 β} {S : amSt} => bd_gC (f := f) (S := S) (show 2 * (x + 1) - 1 ≠ 0 by omega) (show 4 < φ.2.1 4 (2 * (x + 1) - 1) by omega)
    have g0 := fun {β : Type} {f : Unit → am0 β} {S : amSt} => bd_gC (f := f) (S := S) (show 2 * (x + 1) - 1 ≠ 0 by omega) (show 0 < φ.2.1 4 (2 * (x + 1) - 1) by omega)
    by_cases cf : b.fal (6 * x + k / c.wd x) = 0
    · rw [show lightS c b ca (iN x) (iN k) = (1, lit c b x k, notS c (lit c b x k) ca) by unfold lightS; rw [if_pos h, ex, ek, if_pos cf]]
      simp (disch := first | omega | assumption) only [↓bd_rt, ↓bd_bd, ↓bd_ite, ↓bd_jn, ↓jn_ap, ↓ite_ap, ↓bd_gI1, ↓bd_pI1, ↓bd_gR1, ↓bd_pR1, ↓bd_gM, rt_ap, ↓reduceIte, iN_div, iN_divL, iN_add, iN_mul, iN_addL, iN_Ladd, iN_mulL, iN_Lmul, iN_subL, iN_sub, iN_le_T, iN_le_F, iN_lt_T, iN_lt_F, iN_eq_F, iN_leL_T, iN_leL_F, iN_Lle_T, iN_Lle_F, iN_ltL_T, iN_ltL_F, iN_Llt_T, iN_Llt_F, iN_eqL_T, iN_eqL_F, iN_m1, m1_iN, iN_le_m1, m1_le_iN, iN_neg, iN_pos, i10, i01, i00, i11, u3_op, u3_or, u3_same, pup_eq, pup_ne, ↓rR24_1, hR.obj x hx, ↓g2, ↓g4, ↓g0, ↓bd_nn, ↓bd_of (sp_X5_floorOf w hR hx (k := k) (by omega)), ↓rI149, hbx.fal (k / c.wd x) h6, cf, if_true, ↓rI145, hbx.heat k (by omega), ↓wI145]
      have hf : FrS [145] S (u3 S.1 145 (2 * (x + 1) - 1) k (if 400 < b.heat (24 * x + k) then b.heat (24 * x + k) else 400), S.2) := fun p r j hk => sm_u3 fun z => hk (z ▸ kyA (by decide) (by decide) (by decide) _)
      have hb2 : RCbk (lit c b x k) c.n false _ := hb.set1 (x := x) (k := k) (v := if 400 < b.heat (24 * x + k) then b.heat (24 * x + k) else 400) (by omega)
      refine bdRF fr_p_X1_notice (sp_X1_notice w wa hφ (hR.fr hf (by decide)) hb2 (hA.fr hf (by decide))) fun _ S2 h2 hF => ?_
      exact Rs.mk ⟨rfl, (hR.fr hf (by decide)).fr hF (by decide), hb2.fr hF (by decide), h2⟩
    · rw [show lightS c b ca (iN x) (iN k) = (0, b, ca) by unfold lightS; rw [if_pos h, ex, ek, if_neg cf]]
      simp (disch := first | omega | assumption) only [↓bd_rt, ↓bd_bd, ↓bd_ite, ↓bd_jn, ↓jn_ap, ↓ite_ap, ↓bd_gI1, ↓bd_pI1, ↓bd_gR1, ↓bd_pR1, ↓bd_gM, rt_ap, ↓reduceIte, iN_div, iN_divL, iN_add, iN_mul, iN_addL, iN_Ladd, iN_mulL, iN_Lmul, iN_subL, iN_sub, iN_le_T, iN_le_F, iN_lt_T, iN_lt_F, iN_eq_F, iN_leL_T, iN_leL_F, iN_Lle_T, iN_Lle_F, iN_ltL_T, iN_ltL_F, iN_Llt_T, iN_Llt_F, iN_eqL_T, iN_eqL_F, iN_m1, m1_iN, iN_le_m1, m1_le_iN, iN_neg, iN_pos, i10, i01, i00, i11, u3_op, u3_or, u3_same, pup_eq, pup_ne, ↓rR24_1, hR.obj x hx, ↓g2, ↓g4, ↓g0, ↓bd_nn, ↓bd_of (sp_X5_floorOf w hR hx (k := k) (by omega)), ↓rI149, hbx.fal (k / c.wd x) h6, if_neg cf]
      exact Rs.mk ⟨rfl, hR, hb, hA⟩
  · rw [iq h, show lightS c b ca a1 a2 = (0, b, ca) by unfold lightS; rw [if_neg h]]
    exact Rs.mk ⟨rfl, hR, hb, hA⟩
theorem op_X3_light {c : CHo} (w : c.WF) {b : CBz} {ca : CCa} (wa : ca.WF) (hkp : keptA c b ca) {φ : amSh} {S : amSt} (hφ : φ.1 255 ≠ 0) (hR0 : RMho c S) (hb0 : RMbz b S) (hA0 : RMca ca S) {a1 a2 : Int32} :
    Rs (fun v S' => v = (lightS c b ca a1 a2).1 ∧ RMho c S' ∧ RMbz (lightS c b ca a1 a2).2.1 S' ∧ RMca (lightS c b ca a1 a2).2.2 S') (p_X3_light a1 a2 φ S) := by
  have hn := w.hn
  have hR := hR0.fr th0 (by decide)
  have hb := hb0.fr th0 (by decide)
  have hA := hA0.fr th0 (by decide)
  unfold p_X3_light
  rw [bd_gM hφ, bd_pI1, bd_of (sp_X3_isRoom w hφ hR)]
  generalize hS1 : ((u3 S.1 1 1 0 0, S.2) : amSt) = S1 at *
  by_cases h : isRm c a1 a2
  · rw [ip h]
    simp only [i10, if_false]
    obtain ⟨x, k, hx, hk, rfl, rfl⟩ := isRm.ex w h
    have hfw := w.fw hx
    have hfl := w.fl x hx
    have hdv := w.dv hx hk
    have h6 : k / c.wd x < 6 := Nat.lt_of_lt_of_le hdv hfl.2
    have h72 : 6 * x + k / c.wd x < 72 := by generalize k / c.wd x = z at h6; omega
    have ex : (iN x).toNatClampNeg = x := iN_nat (by omega)
    have ek : (iN k).toNatClampNeg = k := iN_nat (by omega)
    by_cases cf : b.fal (6 * x + k / c.wd x) = 0
    · rw [show lightS c b ca (iN x) (iN k) = (1, lit c b x k, notS c (lit c b x k) ca) by unfold lightS; rw [if_pos h, ex, ek, if_pos cf]]
      simp (disch := first | omega | assumption) only [↓bd_rt, ↓bd_bd, ↓bd_ite, ↓bd_jn, ↓jn_ap, ↓ite_ap, ↓bd_gI1, ↓bd_pI1, ↓bd_gR1, ↓bd_pR1, ↓bd_gM, rt_ap, ↓reduceIte, iN_div, iN_divL, iN_add, iN_mul, iN_addL, iN_Ladd, iN_mulL, iN_Lmul, iN_subL, iN_sub, iN_le_T, iN_le_F, iN_lt_T, iN_lt_F, iN_eq_F, iN_leL_T, iN_leL_F, iN_Lle_T, iN_Lle_F, iN_ltL_T, iN_ltL_F, iN_Llt_T, iN_Llt_F, iN_eqL_T, iN_eqL_F, iN_m1, m1_iN, iN_le_m1, m1_le_iN, iN_neg, iN_pos, i10, i01, i00, i11, u3_op, u3_or, u3_same, pup_eq, pup_ne, ↓bd_of (sp_X3_floorOf w hφ hR hx (k := k) (by omega)), ↓rI82_1, hb.fal (6 * x + k / c.wd x) h72, cf, if_true, ↓rI74_1, hb.heat (24 * x + k) (by omega), ↓wI74_1, ↓rI62_1, hR.cor x hx]
      have hf : FrS [74] S1 (u3 S1.1 74 1 (24 * x + k) (if 400 < b.heat (24 * x + k) then b.heat (24 * x + k) else 400), S1.2) := fun p r j hk => sm_u3 fun z => hk (z ▸ kyA (by decide) (by decide) (by decide) _)
      have hb2 : RMbz (lit c b x k) _ := hb.set1 (q := 24 * x + k) (v := if 400 < b.heat (24 * x + k) then b.heat (24 * x + k) else 400)
      refine bdRF (fr_p_X3_mark _) (sp_X3_mark w wa hφ (hR.fr hf (by decide)) hb2 (hA.fr hf (by decide)) (w.cor x hx) (lit_kept w hkp hx hk)) fun _ S2 h2 hF => ?_
      exact Rs.mk ⟨rfl, (hR.fr hf (by decide)).fr hF (by decide), hb2.fr hF (by decide), h2⟩
    · rw [show lightS c b ca (iN x) (iN k) = (0, b, ca) by unfold lightS; rw [if_pos h, ex, ek, if_neg cf]]
      simp (disch := first | omega | assumption) only [↓bd_rt, ↓bd_bd, ↓bd_ite, ↓bd_jn, ↓jn_ap, ↓ite_ap, ↓bd_gI1, ↓bd_pI1, ↓bd_gR1, ↓bd_pR1, ↓bd_gM, rt_ap, ↓reduceIte, iN_div, iN_divL, iN_add, iN_mul, iN_addL, iN_Ladd, iN_mulL, iN_Lmul, iN_subL, iN_sub, iN_le_T, iN_le_F, iN_lt_T, iN_lt_F, iN_eq_F, iN_leL_T, iN_leL_F, iN_Lle_T, iN_Lle_F, iN_ltL_T, iN_ltL_F, iN_Llt_T, iN_Llt_F, iN_eqL_T, iN_eqL_F, iN_m1, m1_iN, iN_le_m1, m1_le_iN, iN_neg, iN_pos, i10, i01, i00, i11, u3_op, u3_or, u3_same, pup_eq, pup_ne, ↓bd_of (sp_X3_floorOf w hφ hR hx (k := k) (by omega)), ↓rI82_1, hb.fal (6 * x + k / c.wd x) h72, if_neg cf]
      exact Rs.mk ⟨rfl, hR, hb, hA⟩
  · rw [iq h, show lightS c b ca a1 a2 = (0, b, ca) by unfold lightS; rw [if_neg h]]
    exact Rs.mk ⟨rfl, hR, hb, hA⟩
/-! a floor is furnished -/
def stuJ (c : CHo) (x f : Nat) (v : Int32) (g : Nat → Int32) (j : Nat) : Nat → Int32 := itn (fun r g => pup g (24 * x + (f * c.wd x + r)) v) g j
def furn (c : CHo) (b : CBz) (x f : Nat) (v : Int32) : CBz := b.s_stuff (stuJ c x f v b.stuff (c.wd x))
def furnC (c : CHo) (x f : Nat) (v p : Int32) : CHo := (c.s_told (pup c.told (6 * x + f) v)).s_ppl (pup c.ppl (6 * x + f) p)
def floorS (c : CHo) (b : CBz) (ca : CCa) (a1 a2 a3 a4 : Int32) : Int32 × CHo × CBz × CCa :=
  if isFl c a1 a2 then if out a3 0 500 then (0, c, b, ca) else if out a4 0 20 then (0, c, b, ca) else
    if b.fal (6 * a1.toNatClampNeg + a2.toNatClampNeg) = 0 then
      (1, furnC c a1.toNatClampNeg a2.toNatClampNeg a3 a4, furn c b a1.toNatClampNeg a2.toNatClampNeg a3, notS (furnC c a1.toNatClampNeg a2.toNatClampNeg a3 a4) (furn c b a1.toNatClampNeg a2.toNatClampNeg a3) ca)
    else (0, c, b, ca) else (0, c, b, ca)
theorem stuJ_ne {c : CHo} {x f : Nat} {v : Int32} {g : Nat → Int32} {q : Nat} : ∀ j, (∀ r, r < j → q ≠ 24 * x + (f * c.wd x + r)) → stuJ c x f v g j q = g q := by
  intro j
  induction j with
  | zero => intro _; rfl
  | succ j ih => intro h; show pup (stuJ c x f v g j) _ v q = g q; rw [pup_ne (h j (by omega))]; exact ih fun r hr => h r (by omega)
theorem furnC_WF {c : CHo} (w : c.WF) {x f : Nat} (hx : x < c.n) (hf : f < 6) {v p : Int32} : (furnC c x f v p).WF := by
  refine CHo.WF.mk w.hn w.cor w.fl w.wd w.wl w.z ?_
  intro k hk
  have hk2 : 6 * c.n ≤ k := hk
  have := w.zf k hk2
  refine ⟨?_, ?_⟩
  · show pup c.ppl _ p k = 0; rw [pup_ne (by omega)]; exact this.1
  · show pup c.told _ v k = 0; rw [pup_ne (by omega)]; exact this.2
theorem furn_kept {c : CHo} (w : c.WF) {b : CBz} {ca : CCa} (h : keptA c b ca) {x f : Nat} (hx : x < c.n) (hf : f < c.fl x) {v p : Int32} : kept (furnC c x f v p) (furn c b x f v) ca (c.cor x) := by
  refine h.but rfl fun y hy => ⟨rfl, fun hne => ?_⟩
  have hfw := w.fw hx
  refine brnN_congr w hy rfl rfl (fun q hq => ⟨rfl, ?_⟩) fun _ _ => rfl
  show stuJ c x f v b.stuff (c.wd x) (24 * y + q) = _
  refine stuJ_ne _ fun r hr => ?_
  have := fw_lt w hx hf hr
  omega
theorem sp_X1_floor_L61 {c : CHo} (w : c.WF) {b : CBz} {φ : amSh} {S : amSt} (hR : RCho c φ S) (hb : RCbk b c.n false S) {x f : Nat} {v : Int32} (hx : x < c.n) (hf : f < c.fl x) :
    Rs (fun _ S' => RCho c φ S' ∧ RCbk (furn c b x f v) c.n false S') (alp (p_X1_floor_L61 (iN f) v (x + 1)) amFu 0 φ S) := by
  have hwd := w.wd x hx
  have hfw := w.fw hx
  refine alp_I (fun j y S' => y = iN j ∧ RCho c φ S' ∧ RCbk (b.s_stuff (stuJ c x f v b.stuff j)) c.n false S') (c.wd x) (amFu_lt (by omega)) ⟨rfl, hR, hb⟩ ?_ ?_
  · rintro r y S1 hr ⟨rfl, hR, hb⟩ rec
    have hlt := fw_lt w hx hf hr
    have hst := hR.stb x hx
    have hst3 := hR.stg x hx
    have g2 := fun {β : Type} {f : Unit → am0 β} {S : amSt} => bd_gC (f := f) (S := S) (show x + 1 ≠ 0 by omega) (show 2 < φ.2.1 3 (x + 1) by omega)
    have g1 := fun {β : Type} {f : Unit → am0 β} {S : amSt} => bd_gC (f := f) (S := S) (show 2 * (x + 1) - 1 ≠ 0 by omega) (show 1 < φ.2.1 4 (2 * (x + 1) - 1) by omega)
    show Lz rec φ (fun y S' => y = iN (r + 1) ∧ RCho c φ S' ∧ RCbk (b.s_stuff (pup (stuJ c x f v b.stuff r) (24 * x + (f * c.wd x + r)) v)) c.n false S') _ _
    generalize stuJ c x f v b.stuff r = g at *
    unfold p_X1_floor_L61
    simp (disch := first | omega | assumption) only [↓bd_rt, ↓bd_bd, ↓bd_ite, ↓bd_jn, ↓jn_ap, ↓ite_ap, ↓bd_gI1, ↓bd_pI1, ↓bd_gR1, ↓bd_pR1, ↓bd_gM, rt_ap, ↓reduceIte, iN_div, iN_divL, iN_add, iN_mul, iN_addL, iN_Ladd, iN_mulL, iN_Lmul, iN_subL, iN_sub, iN_le_T, iN_le_F, iN_lt_T, iN_lt_F, iN_eq_F, iN_leL_T, iN_leL_F, iN_Lle_T, iN_Lle_F, iN_ltL_T, iN_ltL_F, iN_Llt_T, iN_Llt_F, iN_eqL_T, iN_eqL_F, iN_m1, m1_iN, iN_le_m1, m1_le_iN, iN_neg, iN_pos, i10, i01, i00, i11, u3_op, u3_or, u3_same, pup_eq, pup_ne, ↓bd_gI, hR.wd x hx, ↓g2, ↓g1, ↓wI146]
    have hfr : FrS [146] S1 (u3 S1.1 146 (2 * (x + 1) - 1) (f * c.wd x + r) v, S1.2) := fun p r j hk => sm_u3 fun z => hk (z ▸ kyA (by decide) (by decide) (by decide) _)
    refine Lz.go ⟨rfl, hR.fr hfr (by decide), fun j hj => ?_⟩
    have hbj := hb j hj
    have ej : bnum false j = 2 * (j + 1) - 1 := rfl
    rw [ej] at hbj ⊢
    refine RCb1.mk ?_ ?_ ?_ ?_ ?_
    · intro q hq; refine Eq.trans ?_ (hbj.heat q hq); simp [u3]
    · intro q hq
      show _ = pup g (24 * x + (f * c.wd x + r)) v (24 * j + q)
      by_cases e : j = x ∧ q = f * c.wd x + r
      · obtain ⟨rfl, rfl⟩ := e; simp [u3, pup]
      · rw [pup_ne (by omega)]; refine Eq.trans ?_ (hbj.stuff q hq); simp [u3]; intro a b; exact absurd ⟨by omega, b⟩ e
    · intro q hq; refine Eq.trans ?_ (hbj.water q hq); simp [u3]
    · intro q hq; refine Eq.trans ?_ (hbj.bnt q hq); simp [u3]
    · intro q hq; refine Eq.trans ?_ (hbj.fal q hq); simp [u3]
  · rintro y S1 ⟨rfl, hR, hb⟩ rec
    unfold p_X1_floor_L61
    simp (disch := first | omega | assumption) only [↓bd_rt, ↓bd_bd, ↓bd_ite, ↓bd_jn, ↓jn_ap, ↓ite_ap, ↓bd_gI1, ↓bd_pI1, ↓bd_gR1, ↓bd_pR1, ↓bd_gM, rt_ap, ↓reduceIte, iN_div, iN_divL, iN_add, iN_mul, iN_addL, iN_Ladd, iN_mulL, iN_Lmul, iN_subL, iN_sub, iN_le_T, iN_le_F, iN_lt_T, iN_lt_F, iN_eq_F, iN_leL_T, iN_leL_F, iN_Lle_T, iN_Lle_F, iN_ltL_T, iN_ltL_F, iN_Llt_T, iN_Llt_F, iN_eqL_T, iN_eqL_F, iN_m1, m1_iN, iN_le_m1, m1_le_iN, iN_neg, iN_pos, i10, i01, i00, i11, u3_op, u3_or, u3_same, pup_eq, pup_ne, ↓bd_gI, hR.wd x hx]
    exact Rs.mk ⟨hR, hb⟩
theorem sp_X3_floor_L55 {c : CHo} (w : c.WF) {b : CBz} {φ : amSh} {S : amSt} (hR : RMho c S) (hb : RMbz b S) {x f : Nat} {v : Int32} (hx : x < c.n) (hf : f < c.fl x) :
    Rs (fun _ S' => RMho c S' ∧ RMbz (furn c b x f v) S') (alp (p_X3_floor_L55 (iN x) (iN f) v) amFu 0 φ S) := by
  have hwd := w.wd x hx
  have hfw := w.fw hx
  have hn := w.hn
  refine alp_I (fun j y S' => y = iN j ∧ RMho c S' ∧ RMbz (b.s_stuff (stuJ c x f v b.stuff j)) S') (c.wd x) (amFu_lt (by omega)) ⟨rfl, hR, hb⟩ ?_ ?_
  · rintro r y S1 hr ⟨rfl, hR, hb⟩ rec
    have hlt := fw_lt w hx hf hr
    show Lz rec φ (fun y S' => y = iN (r + 1) ∧ RMho c S' ∧ RMbz (b.s_stuff (pup (stuJ c x f v b.stuff r) (24 * x + (f * c.wd x + r)) v)) S') _ _
    generalize stuJ c x f v b.stuff r = g at *
    have ek : 24 * x + f * c.wd x + r = 24 * x + (f * c.wd x + r) := by omega
    unfold p_X3_floor_L55
    simp (disch := first | omega | assumption) only [↓bd_rt, ↓bd_bd, ↓bd_ite, ↓bd_jn, ↓jn_ap, ↓ite_ap, ↓bd_gI1, ↓bd_pI1, ↓bd_gR1, ↓bd_pR1, ↓bd_gM, rt_ap, ↓reduceIte, iN_div, iN_divL, iN_add, iN_mul, iN_addL, iN_Ladd, iN_mulL, iN_Lmul, iN_subL, iN_sub, iN_le_T, iN_le_F, iN_lt_T, iN_lt_F, iN_eq_F, iN_leL_T, iN_leL_F, iN_Lle_T, iN_Lle_F, iN_ltL_T, iN_ltL_F, iN_Llt_T, iN_Llt_F, iN_eqL_T, iN_eqL_F, iN_m1, m1_iN, iN_le_m1, m1_le_iN, iN_neg, iN_pos, i10, i01, i00, i11, u3_op, u3_or, u3_same, pup_eq, pup_ne, ↓rI65_1, hR.wd x hx, ek, ↓wI75_1]
    have hfr : FrS [75] S1 (u3 S1.1 75 1 (24 * x + (f * c.wd x + r)) v, S1.2) := fun p r j hk => sm_u3 fun z => hk (z ▸ kyA (by decide) (by decide) (by decide) _)
    refine Lz.go ⟨rfl, hR.fr hfr (by decide), RMbz.mk ?_ ?_ ?_ ?_ ?_⟩
    · intro q hq; refine Eq.trans ?_ (hb.heat q hq); simp [u3]
    · intro q hq
      show _ = pup g (24 * x + (f * c.wd x + r)) v q
      by_cases e : q = 24 * x + (f * c.wd x + r)
      · subst e; simp [u3, pup]
      · rw [pup_ne e]; refine Eq.trans ?_ (hb.stuff q hq); simp [u3, e]
    · intro q hq; refine Eq.trans ?_ (hb.water q hq); simp [u3]
    · intro q hq; refine Eq.trans ?_ (hb.bnt q hq); simp [u3]
    · intro q hq; refine Eq.trans ?_ (hb.fal q hq); simp [u3]
  · rintro y S1 ⟨rfl, hR, hb⟩ rec
    unfold p_X3_floor_L55
    simp (disch := first | omega | assumption) only [↓bd_rt, ↓bd_bd, ↓bd_ite, ↓bd_jn, ↓jn_ap, ↓ite_ap, ↓bd_gI1, ↓bd_pI1, ↓bd_gR1, ↓bd_pR1, ↓bd_gM, rt_ap, ↓reduceIte, iN_div, iN_divL, iN_add, iN_mul, iN_addL, iN_Ladd, iN_mulL, iN_Lmul, iN_subL, iN_sub, iN_le_T, iN_le_F, iN_lt_T, iN_lt_F, iN_eq_F, iN_leL_T, iN_leL_F, iN_Lle_T, iN_Lle_F, iN_ltL_T, iN_ltL_F, iN_Llt_T, iN_Llt_F, iN_eqL_T, iN_eqL_F, iN_m1, m1_iN, iN_le_m1, m1_le_iN, iN_neg, iN_pos, i10, i01, i00, i11, u3_op, u3_or, u3_same, pup_eq, pup_ne, ↓rI65_1, hR.wd x hx]
    exact Rs.mk ⟨hR, hb⟩
