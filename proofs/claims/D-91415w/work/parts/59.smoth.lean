/-! PURE: people lost to the heat; the model's minute of fire -/
def lostC (c : CHo) (h f : Nat) : CHo := (c.s_ppl (pup c.ppl (6 * h + f) (c.ppl (6 * h + f) - 1))).s_lost (pup c.lost h (c.lost h + 1))
def smC (b : CBz) (h k : Nat) (c : CHo) : CHo := if brn c b h k = true ∧ ¬ b.heat (24 * h + k) < 600 ∧ ¬ c.ppl (6 * h + k / c.wd h) = 0 then lostC c h (k / c.wd h) else c
def smH (b : CBz) (h : Nat) (c : CHo) (j : Nat) : CHo := itn (fun k c => smC b h k c) c j
def smS (b : CBz) (c : CHo) (j : Nat) : CHo := itn (fun h c => smH b h c (c.fl h * c.wd h)) c j
theorem lostC_a {c : CHo} {h f : Nat} : alike c (lostC c h f) := ⟨rfl, rfl, rfl, rfl, rfl, rfl, rfl, rfl, rfl, rfl, rfl, rfl, rfl⟩
theorem lostC_WF {c : CHo} (w : c.WF) {h f : Nat} (hh : h < c.n) (hf : f < 6) : (lostC c h f).WF := by
  refine CHo.WF.mk w.hn w.cor w.fl w.wd w.wl ?_ ?_
  · intro h' hh'
    have := w.z h' hh'
    have hh2 : c.n ≤ h' := hh'
    refine ⟨this.1, this.2.1, this.2.2.1, this.2.2.2.1, ?_, this.2.2.2.2.2⟩
    show pup c.lost h _ h' = 0
    rw [pup_ne (by omega)]
    exact this.2.2.2.2.1
  · intro k hk
    have hk2 : 6 * c.n ≤ k := hk
    have := w.zf k hk
    refine ⟨?_, this.2⟩
    show pup c.ppl _ _ k = 0
    rw [pup_ne (by omega)]
    exact this.1
theorem smH_W {b : CBz} {h : Nat} {c : CHo} (w : c.WF) (hh : h < c.n) : ∀ j, j ≤ c.fl h * c.wd h → (smH b h c j).WF ∧ alike c (smH b h c j) := by
  intro j
  induction j with
  | zero => intro _; exact ⟨w, alike.rf⟩
  | succ j ih =>
    intro hj
    obtain ⟨w1, a1⟩ := ih (by omega)
    show (smC b h j (smH b h c j)).WF ∧ alike c (smC b h j (smH b h c j))
    generalize smH b h c j = d at *
    have hd : h < d.n := by rw [a1.1]; exact hh
    have hfl := w1.fl h hd
    have hdv := w1.dv hd (k := j) (by rw [a1.2.2.2.1, a1.2.2.2.2.1]; omega)
    unfold smC
    split
    · exact ⟨lostC_WF w1 hd (Nat.lt_of_lt_of_le hdv hfl.2), a1.tr lostC_a⟩
    · exact ⟨w1, a1⟩
theorem smS_W {b : CBz} {c : CHo} (w : c.WF) : ∀ j, j ≤ c.n → (smS b c j).WF ∧ alike c (smS b c j) := by
  intro j
  induction j with
  | zero => intro _; exact ⟨w, alike.rf⟩
  | succ j ih =>
    intro hj
    obtain ⟨w1, a1⟩ := ih (by omega)
    have := smH_W (b := b) w1 (h := j) (by rw [a1.1]; omega) _ (Nat.le_refl _)
    exact ⟨this.1, a1.tr this.2⟩
theorem RCho.lostH {c : CHo} {φ : amSh} {S : amSt} (hR : RCho c φ S) {h f : Nat} (hf : f < 6) : RCho (lostC c h f) φ (u3 (u3 S.1 143 (h + 1) f (c.ppl (6 * h + f) - 1)) 3 (h + 1) 10 (c.lost h + 1), S.2) := by
  refine RCho.mk ?_ hR.obj ?_ ?_ ?_ ?_ ?_ ?_ ?_ ?_ ?_ ?_ ?_ ?_ ?_ ?_ hR.stg hR.stb hR.stc hR.cnt hR.cnb
  · refine Eq.trans ?_ hR.n; simp [u3]
  · intro j hj; refine Eq.trans ?_ (hR.cor j hj); simp [u3]
  · intro j hj; refine Eq.trans ?_ (hR.kind j hj); simp [u3]
  · intro j hj; refine Eq.trans ?_ (hR.fl j hj); simp [u3]
  · intro j hj; refine Eq.trans ?_ (hR.wd j hj); simp [u3]
  · intro j hj; refine Eq.trans ?_ (hR.sh j hj); simp [u3]
  · intro j hj; refine Eq.trans ?_ (hR.dr j hj); simp [u3]
  · intro j hj; refine Eq.trans ?_ (hR.wl j hj); simp [u3]
  · intro j hj; refine Eq.trans ?_ (hR.yr j hj); simp [u3]
  · intro j hj; refine Eq.trans ?_ (hR.use j hj); simp [u3]
  · intro j hj; refine Eq.trans ?_ (hR.sav j hj); simp [u3]
  · intro j hj; show _ = pup c.lost h _ j; by_cases e : j = h
    · subst e; simp [u3, pup]
    · rw [pup_ne e]; refine Eq.trans ?_ (hR.lost j hj); simp [u3, e]
  · intro j hj; refine Eq.trans ?_ (hR.gal j hj); simp [u3]
  · intro j g hj hg; show _ = pup c.ppl (6 * h + f) _ (6 * j + g); by_cases e : j = h ∧ g = f
    · obtain ⟨rfl, rfl⟩ := e; simp [u3, pup]
    · rw [pup_ne (by omega)]; refine Eq.trans ?_ (hR.ppl j g hj hg); simp [u3]; intro a b; exact absurd ⟨a, b⟩ e
  · intro j g hj hg; refine Eq.trans ?_ (hR.told j g hj hg); simp [u3]
theorem RMho.lostH {c : CHo} {S : amSt} (hR : RMho c S) {h f : Nat} : RMho (lostC c h f) (u3 (u3 S.1 80 1 (6 * h + f) (c.ppl (6 * h + f) - 1)) 71 1 h (c.lost h + 1), S.2) := by
  refine RMho.mk ?_ ?_ ?_ ?_ ?_ ?_ ?_ ?_ ?_ ?_ ?_ ?_ ?_ ?_ ?_
  · refine Eq.trans ?_ hR.n; simp [u3]
  · intro j hj; refine Eq.trans ?_ (hR.cor j hj); simp [u3]
  · intro j hj; refine Eq.trans ?_ (hR.kind j hj); simp [u3]
  · intro j hj; refine Eq.trans ?_ (hR.fl j hj); simp [u3]
  · intro j hj; refine Eq.trans ?_ (hR.wd j hj); simp [u3]
  · intro j hj; refine Eq.trans ?_ (hR.sh j hj); simp [u3]
  · intro j hj; refine Eq.trans ?_ (hR.wl j hj); simp [u3]
  · intro j hj; refine Eq.trans ?_ (hR.yr j hj); simp [u3]
  · intro j hj; refine Eq.trans ?_ (hR.use j hj); simp [u3]
  · intro j hj; refine Eq.trans ?_ (hR.sav j hj); simp [u3]
  · intro j hj; show _ = pup c.lost h _ j; by_cases e : j = h
    · subst e; simp [u3, pup]
    · rw [pup_ne e]; refine Eq.trans ?_ (hR.lost j hj); simp [u3, e]
  · intro j hj; refine Eq.trans ?_ (hR.gal j hj); simp [u3]
  · intro j hj; refine Eq.trans ?_ (hR.dr j hj); simp [u3]
  · intro j hj; show _ = pup c.ppl (6 * h + f) _ j; by_cases e : j = 6 * h + f
    · subst e; simp [u3, pup]
    · rw [pup_ne e]; refine Eq.trans ?_ (hR.ppl j hj); simp [u3, e]
  · intro j hj; refine Eq.trans ?_ (hR.told j hj); simp [u3]
theorem sp_X1_smother_L19 {c : CHo} (w : c.WF) {b : CBz} {φ : amSh} {S : amSt} (hR : RCho c φ S) (hb : RCbk b c.n false S) {h : Nat} (hh : h < c.n) :
    Rs (fun _ S' => RCho (smH b h c (c.fl h * c.wd h)) φ S' ∧ RCbk b c.n false S') (alp (p_X1_smother_L19 (h + 1)) amFu 0 φ S) := by
  have hfw := w.fw hh
  have hfl := w.fl h hh
  refine alp_I (fun j x S' => x = iN j ∧ RCho (smH b h c j) φ S' ∧ RCbk b c.n false S') (c.fl h * c.wd h) (amFu_lt (by omega)) ⟨rfl, hR, hb⟩ ?_ ?_
  · rintro k x S1 hk ⟨rfl, hR, hb⟩ rec
    obtain ⟨w1, a1⟩ := smH_W (b := b) w hh k (by omega)
    show Lz rec φ (fun x S' => x = iN (k + 1) ∧ RCho (smC b h k (smH b h c k)) φ S' ∧ RCbk b c.n false S') _ _
    generalize smH b h c k = d at *
    have hd : h < d.n := by rw [a1.1]; exact hh
    have hk' : k < d.fl h * d.wd h := by rw [a1.2.2.2.1, a1.2.2.2.2.1]; exact hk
    have hdv := w1.dv hd hk'
    have hfl1 := w1.fl h hd
    have hfwd := w1.fw hd
    have h6 : k / d.wd h < 6 := Nat.lt_of_lt_of_le hdv hfl1.2
    have hst := hR.stb h hd
    have hst3 := hR.stg h hd
    have hbh := hb h hh
    have g30 := fun {β : Type} {f : Unit → am0 β} {S : amSt} => bd_gC (f := f) (S := S) (show h + 1 ≠ 0 by omega) (show 0 < φ.2.1 3 (h + 1) by omega)
    have g32 := fun {β : Type} {f : Unit → am0 β} {S : amSt} => bd_gC (f := f) (S := S) (show h + 1 ≠ 0 by omega) (show 2 < φ.2.1 3 (h + 1) by omega)
    have g40 := fun {β : Type} {f : Unit → am0 β} {S : amSt} => bd_gC (f := f) (S := S) (show 2 * (h + 1) - 1 ≠ 0 by omega) (show 0 < φ.2.1 4 (2 * (h + 1) - 1) by omega)
    have hb1 : RCb1 b h (2 * (h + 1) - 1) S1 := hbh
    unfold p_X1_smother_L19 smC
    cases q : brn d b h k
    · rw [if_neg (fun z => by cases z.1)]
      simp (disch := first | omega | assumption) only [↓bd_rt, ↓bd_bd, ↓bd_ite, ↓bd_jn, ↓jn_ap, ↓ite_ap, ↓bd_gI1, ↓bd_pI1, ↓bd_gR1, ↓bd_pR1, ↓bd_gM, rt_ap, ↓reduceIte, iN_div, iN_divL, iN_add, iN_mul, iN_addL, iN_Ladd, iN_mulL, iN_Lmul, iN_subL, iN_sub, iN_le_T, iN_le_F, iN_lt_T, iN_lt_F, iN_eq_F, iN_leL_T, iN_leL_F, iN_Lle_T, iN_Lle_F, iN_ltL_T, iN_ltL_F, iN_Llt_T, iN_Llt_F, iN_eqL_T, iN_eqL_F, iN_m1, m1_iN, iN_le_m1, m1_le_iN, iN_neg, iN_pos, i10, i01, i00, i11, u3_op, u3_or, u3_same, pup_eq, pup_ne, ↓bd_nn, ↓bd_of (sp_X5_all hR hd), ↓bd_of (sp_X5_floorOf w1 hR hd (k := k) (by omega)), ↓g32, ↓bd_of (sp_X5_burns w1 hR hd hb1 (by omega) hst hk'), q, b01_f]
      exact Lz.go ⟨rfl, hR, hb⟩
    · by_cases c2 : b.heat (24 * h + k) < 600
      · rw [if_neg (fun z => z.2.1 c2)]
        simp (disch := first | omega | assumption) only [↓bd_rt, ↓bd_bd, ↓bd_ite, ↓bd_jn, ↓jn_ap, ↓ite_ap, ↓bd_gI1, ↓bd_pI1, ↓bd_gR1, ↓bd_pR1, ↓bd_gM, rt_ap, ↓reduceIte, iN_div, iN_divL, iN_add, iN_mul, iN_addL, iN_Ladd, iN_mulL, iN_Lmul, iN_subL, iN_sub, iN_le_T, iN_le_F, iN_lt_T, iN_lt_F, iN_eq_F, iN_leL_T, iN_leL_F, iN_Lle_T, iN_Lle_F, iN_ltL_T, iN_ltL_F, iN_Llt_T, iN_Llt_F, iN_eqL_T, iN_eqL_F, iN_m1, m1_iN, iN_le_m1, m1_le_iN, iN_neg, iN_pos, i10, i01, i00, i11, u3_op, u3_or, u3_same, pup_eq, pup_ne, ↓bd_nn, ↓bd_of (sp_X5_all hR hd), ↓bd_of (sp_X5_floorOf w1 hR hd (k := k) (by omega)), ↓g32, ↓g40, ↓bd_of (sp_X5_burns w1 hR hd hb1 (by omega) hst hk'), q, b01_t, ↓rI145, hb1.heat k (by omega), if_pos c2]
        exact Lz.go ⟨rfl, hR, hb⟩
      · by_cases c3 : d.ppl (6 * h + k / d.wd h) = 0
        · rw [if_neg (fun z => z.2.2 c3)]
          simp (disch := first | omega | assumption) only [↓bd_rt, ↓bd_bd, ↓bd_ite, ↓bd_jn, ↓jn_ap, ↓ite_ap, ↓bd_gI1, ↓bd_pI1, ↓bd_gR1, ↓bd_pR1, ↓bd_gM, rt_ap, ↓reduceIte, iN_div, iN_divL, iN_add, iN_mul, iN_addL, iN_Ladd, iN_mulL, iN_Lmul, iN_subL, iN_sub, iN_le_T, iN_le_F, iN_lt_T, iN_lt_F, iN_eq_F, iN_leL_T, iN_leL_F, iN_Lle_T, iN_Lle_F, iN_ltL_T, iN_ltL_F, iN_Llt_T, iN_Llt_F, iN_eqL_T, iN_eqL_F, iN_m1, m1_iN, iN_le_m1, m1_le_iN, iN_neg, iN_pos, i10, i01, i00, i11, u3_op, u3_or, u3_same, pup_eq, pup_ne, ↓bd_nn, ↓bd_of (sp_X5_all hR hd), ↓bd_of (sp_X5_floorOf w1 hR hd (k := k) (by omega)), ↓g32, ↓g40, ↓g30, ↓bd_of (sp_X5_burns w1 hR hd hb1 (by omega) hst hk'), q, b01_t, ↓rI145, hb1.heat k (by omega), if_neg c2, ↓rI143, hR.ppl h (k / d.wd h) hd h6, c3, if_true]
          exact Lz.go ⟨rfl, hR, hb⟩
        · rw [if_pos ⟨rfl, c2, c3⟩]
          simp (disch := first | omega | assumption) only [↓bd_rt, ↓bd_bd, ↓bd_ite, ↓bd_jn, ↓jn_ap, ↓ite_ap, ↓bd_gI1, ↓bd_pI1, ↓bd_gR1, ↓bd_pR1, ↓bd_gM, rt_ap, ↓reduceIte, iN_div, iN_divL, iN_add, iN_mul, iN_addL, iN_Ladd, iN_mulL, iN_Lmul, iN_subL, iN_sub, iN_le_T, iN_le_F, iN_lt_T, iN_lt_F, iN_eq_F, iN_leL_T, iN_leL_F, iN_Lle_T, iN_Lle_F, iN_ltL_T, iN_ltL_F, iN_Llt_T, iN_Llt_F, iN_eqL_T, iN_eqL_F, iN_m1, m1_iN, iN_le_m1, m1_le_iN, iN_neg, iN_pos, i10, i01, i00, i11, u3_op, u3_or, u3_same, pup_eq, pup_ne, ↓bd_nn, ↓bd_of (sp_X5_all hR hd), ↓bd_of (sp_X5_floorOf w1 hR hd (k := k) (by omega)), ↓g32, ↓g40, ↓g30, ↓bd_of (sp_X5_burns w1 hR hd hb1 (by omega) hst hk'), q, b01_t, ↓rI145, hb1.heat k (by omega), if_neg c2, ↓rI143, hR.ppl h (k / d.wd h) hd h6, if_neg c3, ↓wI143, ↓bd_gI, hR.lost h hd, ↓bd_pI]
          have hf3 : FrS [4010, 143] S1 (u3 (u3 S1.1 143 (h + 1) (k / d.wd h) (d.ppl (6 * h + k / d.wd h) - 1)) 3 (h + 1) 10 (d.lost h + 1), S1.2) := fun p r j hk => by
            have h1 : ¬ (p = 143) := fun e => by subst e; exact hk (kyA (by decide) (by decide) (by decide) _)
            have h3 : ¬ (p = 3 ∧ r = h + 1 ∧ j = 10) := fun e => by obtain ⟨rfl, rfl, rfl⟩ := e; exact hk (kyO (by decide) (by decide))
            refine ⟨?_, rfl, rfl⟩
            show u3 (u3 S1.1 143 (h + 1) (k / d.wd h) _) 3 (h + 1) 10 _ p r j = _
            unfold u3
            rw [if_neg h3, if_neg (fun z => h1 z.1)]
          exact Lz.go ⟨rfl, hR.lostH h6, hb.fr hf3 (by decide)⟩
  · rintro x S1 ⟨rfl, hR, hb⟩ rec
    obtain ⟨w1, a1⟩ := smH_W (b := b) w hh (c.fl h * c.wd h) (by omega)
    have hall : (smH b h c (c.fl h * c.wd h)).fl h * (smH b h c (c.fl h * c.wd h)).wd h = c.fl h * c.wd h := by rw [a1.2.2.2.1, a1.2.2.2.2.1]
    have hda := sp_X5_all hR (h := h) (by rw [a1.1]; exact hh)
    rw [hall] at hda
    unfold p_X1_smother_L19
    simp (disch := first | omega | assumption) only [↓bd_rt, ↓bd_bd, ↓bd_ite, ↓bd_jn, ↓jn_ap, ↓ite_ap, ↓bd_gI1, ↓bd_pI1, ↓bd_gR1, ↓bd_pR1, ↓bd_gM, rt_ap, ↓reduceIte, iN_div, iN_divL, iN_add, iN_mul, iN_addL, iN_Ladd, iN_mulL, iN_Lmul, iN_subL, iN_sub, iN_le_T, iN_le_F, iN_lt_T, iN_lt_F, iN_eq_F, iN_leL_T, iN_leL_F, iN_Lle_T, iN_Lle_F, iN_ltL_T, iN_ltL_F, iN_Llt_T, iN_Llt_F, iN_eqL_T, iN_eqL_F, iN_m1, m1_iN, iN_le_m1, m1_le_iN, iN_neg, iN_pos, i10, i01, i00, i11, u3_op, u3_or, u3_same, pup_eq, pup_ne, ↓bd_nn, ↓bd_of hda]
    exact Rs.mk ⟨hR, hb⟩
theorem sp_X1_smother {c : CHo} (w : c.WF) {b : CBz} {φ : amSh} {S : amSt} (hφ : φ.1 255 ≠ 0) (hR : RCho c φ S) (hb : RCbk b c.n false S) :
    Rs (fun _ S' => RCho (smS b c c.n) φ S' ∧ RCbk b c.n false S') (p_X1_smother φ S) := by
  have hn := w.hn
  unfold p_X1_smother
  rw [bd_gM hφ]
  refine bdR (Q := fun _ S' => RCho (smS b c c.n) φ S' ∧ RCbk b c.n false S') ?_ fun _ S1 h1 => Rs.mk h1
  refine alp_I (fun j x S' => x = iN j ∧ RCho (smS b c j) φ S' ∧ RCbk b c.n false S') c.n (amFu_lt (by omega)) ⟨rfl, hR, hb⟩ ?_ ?_
  · rintro j x S1 hj ⟨rfl, hR, hb⟩ rec
    obtain ⟨w1, a1⟩ := smS_W (b := b) w j (by omega)
    show Lz rec φ (fun x S' => x = iN (j + 1) ∧ RCho (smH b j (smS b c j) ((smS b c j).fl j * (smS b c j).wd j)) φ S' ∧ RCbk b c.n false S') _ _
    generalize smS b c j = d at *
    have hnd : d.n = c.n := a1.1
    rw [← hnd] at hb hj ⊢
    have hnn := hR.n
    unfold p_X1_smother_L2
    simp (disch := first | omega | assumption) only [↓bd_rt, ↓bd_bd, ↓bd_ite, ↓bd_jn, ↓jn_ap, ↓ite_ap, ↓bd_gI1, ↓bd_pI1, ↓bd_gR1, ↓bd_pR1, ↓bd_gM, rt_ap, ↓reduceIte, iN_div, iN_divL, iN_add, iN_mul, iN_addL, iN_Ladd, iN_mulL, iN_Lmul, iN_subL, iN_sub, iN_le_T, iN_le_F, iN_lt_T, iN_lt_F, iN_eq_F, iN_leL_T, iN_leL_F, iN_Lle_T, iN_Lle_F, iN_ltL_T, iN_ltL_F, iN_Llt_T, iN_Llt_F, iN_eqL_T, iN_eqL_F, iN_m1, m1_iN, iN_le_m1, m1_le_iN, iN_neg, iN_pos, i10, i01, i00, i11, u3_op, u3_or, u3_same, pup_eq, pup_ne, hnn, ↓rR24_1, hR.obj j hj]
    exact bdR (sp_X1_smother_L19 w1 hR hb hj) fun _ S2 h2 => Lz.go ⟨rfl, h2⟩
  · rintro x S1 ⟨rfl, hR, hb⟩ rec
    obtain ⟨w1, a1⟩ := smS_W (b := b) w c.n (Nat.le_refl _)
    have hnn := hR.n
    rw [a1.1] at hnn
    unfold p_X1_smother_L2
    simp (disch := first | omega | assumption) only [↓bd_rt, ↓bd_bd, ↓bd_ite, ↓bd_jn, ↓jn_ap, ↓ite_ap, ↓bd_gI1, ↓bd_pI1, ↓bd_gR1, ↓bd_pR1, ↓bd_gM, rt_ap, ↓reduceIte, iN_div, iN_divL, iN_add, iN_mul, iN_addL, iN_Ladd, iN_mulL, iN_Lmul, iN_subL, iN_sub, iN_le_T, iN_le_F, iN_lt_T, iN_lt_F, iN_eq_F, iN_leL_T, iN_leL_F, iN_Lle_T, iN_Lle_F, iN_ltL_T, iN_ltL_F, iN_Llt_T, iN_Llt_F, iN_eqL_T, iN_eqL_F, iN_m1, m1_iN, iN_le_m1, m1_le_iN, iN_neg, iN_pos, i10, i01, i00, i11, u3_op, u3_or, u3_same, pup_eq, pup_ne, hnn]
    exact Rs.mk ⟨hR, hb⟩
theorem sp_X3_burn_L338 {c : CHo} (w : c.WF) {b : CBz} {φ : amSh} {S : amSt} (hφ : φ.1 255 ≠ 0) (hR : RMho c S) (hb : RMbz b S) {h : Nat} (hh : h < c.n) :
    Rs (fun _ S' => RMho (smH b h c (c.fl h * c.wd h)) S' ∧ RMbz b S') (alp (p_X3_burn_L338 (iN h)) amFu 0 φ S) := by
  have hn := w.hn
  have hfw := w.fw hh
  have hfl := w.fl h hh
  refine alp_I (fun j x S' => x = iN j ∧ RMho (smH b h c j) S' ∧ RMbz b S') (c.fl h * c.wd h) (amFu_lt (by omega)) ⟨rfl, hR, hb⟩ ?_ ?_
  · rintro k x S1 hk ⟨rfl, hR, hb⟩ rec
    obtain ⟨w1, a1⟩ := smH_W (b := b) w hh k (by omega)
    show Lz rec φ (fun x S' => x = iN (k + 1) ∧ RMho (smC b h k (smH b h c k)) S' ∧ RMbz b S') _ _
    generalize smH b h c k = d at *
    have hd : h < d.n := by rw [a1.1]; exact hh
    have hk' : k < d.fl h * d.wd h := by rw [a1.2.2.2.1, a1.2.2.2.2.1]; exact hk
    have hdv := w1.dv hd hk'
    have hfl1 := w1.fl h hd
    have hfwd := w1.fw hd
    have h6 : k / d.wd h < 6 := Nat.lt_of_lt_of_le hdv hfl1.2
    have h72 : 6 * h + k / d.wd h < 72 := by generalize k / d.wd h = z at h6; omega
    unfold p_X3_burn_L338 smC
    cases q : brn d b h k
    · rw [if_neg (fun z => by cases z.1)]
      simp (disch := first | omega | assumption) only [↓bd_rt, ↓bd_bd, ↓bd_ite, ↓bd_jn, ↓jn_ap, ↓ite_ap, ↓bd_gI1, ↓bd_pI1, ↓bd_gR1, ↓bd_pR1, ↓bd_gM, rt_ap, ↓reduceIte, iN_div, iN_divL, iN_add, iN_mul, iN_addL, iN_Ladd, iN_mulL, iN_Lmul, iN_subL, iN_sub, iN_le_T, iN_le_F, iN_lt_T, iN_lt_F, iN_eq_F, iN_leL_T, iN_leL_F, iN_Lle_T, iN_Lle_F, iN_ltL_T, iN_ltL_F, iN_Llt_T, iN_Llt_F, iN_eqL_T, iN_eqL_F, iN_m1, m1_iN, iN_le_m1, m1_le_iN, iN_neg, iN_pos, i10, i01, i00, i11, u3_op, u3_or, u3_same, pup_eq, pup_ne, ↓rI64_1, ↓rI65_1, hR.fl h hd, hR.wd h hd, ↓bd_of (sp_X3_floorOf w1 hφ hR hd (k := k) (by omega)), ↓bd_of (sp_X3_burns w1 hφ hR hb hd hk'), q, b01_f]
      exact Lz.go ⟨rfl, hR, hb⟩
    · by_cases c2 : b.heat (24 * h + k) < 600
      · rw [if_neg (fun z => z.2.1 c2)]
        simp (disch := first | omega | assumption) only [↓bd_rt, ↓bd_bd, ↓bd_ite, ↓bd_jn, ↓jn_ap, ↓ite_ap, ↓bd_gI1, ↓bd_pI1, ↓bd_gR1, ↓bd_pR1, ↓bd_gM, rt_ap, ↓reduceIte, iN_div, iN_divL, iN_add, iN_mul, iN_addL, iN_Ladd, iN_mulL, iN_Lmul, iN_subL, iN_sub, iN_le_T, iN_le_F, iN_lt_T, iN_lt_F, iN_eq_F, iN_leL_T, iN_leL_F, iN_Lle_T, iN_Lle_F, iN_ltL_T, iN_ltL_F, iN_Llt_T, iN_Llt_F, iN_eqL_T, iN_eqL_F, iN_m1, m1_iN, iN_le_m1, m1_le_iN, iN_neg, iN_pos, i10, i01, i00, i11, u3_op, u3_or, u3_same, pup_eq, pup_ne, ↓rI64_1, ↓rI65_1, hR.fl h hd, hR.wd h hd, ↓bd_of (sp_X3_floorOf w1 hφ hR hd (k := k) (by omega)), ↓bd_of (sp_X3_burns w1 hφ hR hb hd hk'), q, b01_t, ↓rI74_1, hb.heat (24 * h + k) (by omega), if_pos c2]
        exact Lz.go ⟨rfl, hR, hb⟩
      · by_cases c3 : d.ppl (6 * h + k / d.wd h) = 0
        · rw [if_neg (fun z => z.2.2 c3)]
          simp (disch := first | omega | assumption) only [↓bd_rt, ↓bd_bd, ↓bd_ite, ↓bd_jn, ↓jn_ap, ↓ite_ap, ↓bd_gI1, ↓bd_pI1, ↓bd_gR1, ↓bd_pR1, ↓bd_gM, rt_ap, ↓reduceIte, iN_div, iN_divL, iN_add, iN_mul, iN_addL, iN_Ladd, iN_mulL, iN_Lmul, iN_subL, iN_sub, iN_le_T, iN_le_F, iN_lt_T, iN_lt_F, iN_eq_F, iN_leL_T, iN_leL_F, iN_Lle_T, iN_Lle_F, iN_ltL_T, iN_ltL_F, iN_Llt_T, iN_Llt_F, iN_eqL_T, iN_eqL_F, iN_m1, m1_iN, iN_le_m1, m1_le_iN, iN_neg, iN_pos, i10, i01, i00, i11, u3_op, u3_or, u3_same, pup_eq, pup_ne, ↓rI64_1, ↓rI65_1, hR.fl h hd, hR.wd h hd, ↓bd_of (sp_X3_floorOf w1 hφ hR hd (k := k) (by omega)), ↓bd_of (sp_X3_burns w1 hφ hR hb hd hk'), q, b01_t, ↓rI74_1, hb.heat (24 * h + k) (by omega), if_neg c2, ↓rI80_1, hR.ppl (6 * h + k / d.wd h) h72, c3, if_true]
          exact Lz.go ⟨rfl, hR, hb⟩
        · rw [if_pos ⟨rfl, c2, c3⟩]
          simp (disch := first | omega | assumption) only [↓bd_rt, ↓bd_bd, ↓bd_ite, ↓bd_jn, ↓jn_ap, ↓ite_ap, ↓bd_gI1, ↓bd_pI1, ↓bd_gR1, ↓bd_pR1, ↓bd_gM, rt_ap, ↓reduceIte, iN_div, iN_divL, iN_add, iN_mul, iN_addL, iN_Ladd, iN_mulL, iN_Lmul, iN_subL, iN_sub, iN_le_T, iN_le_F, iN_lt_T, iN_lt_F, iN_eq_F, iN_leL_T, iN_leL_F, iN_Lle_T, iN_Lle_F, iN_ltL_T, iN_ltL_F, iN_Llt_T, iN_Llt_F, iN_eqL_T, iN_eqL_F, iN_m1, m1_iN, iN_le_m1, m1_le_iN, iN_neg, iN_pos, i10, i01, i00, i11, u3_op, u3_or, u3_same, pup_eq, pup_ne, ↓rI64_1, ↓rI65_1, hR.fl h hd, hR.wd h hd, ↓bd_of (sp_X3_floorOf w1 hφ hR hd (k := k) (by omega)), ↓bd_of (sp_X3_burns w1 hφ hR hb hd hk'), q, b01_t, ↓rI74_1, hb.heat (24 * h + k) (by omega), if_neg c2, ↓rI80_1, hR.ppl (6 * h + k / d.wd h) h72, if_neg c3, ↓wI80_1, ↓rI71_1, hR.lost h (by omega), ↓wI71_1]
          have hf3 : FrS [71, 80] S1 (u3 (u3 S1.1 80 1 (6 * h + k / d.wd h) (d.ppl (6 * h + k / d.wd h) - 1)) 71 1 h (d.lost h + 1), S1.2) := fun p r j hk => by
            have h1 : ¬ (p = 71) := fun e => by subst e; exact hk (kyA (by decide) (by decide) (by decide) _)
            have h3 : ¬ (p = 80) := fun e => by subst e; exact hk (kyA (by decide) (by decide) (by decide) _)
            refine ⟨?_, rfl, rfl⟩
            simp only [u3_op h1, u3_op h3]
          exact Lz.go ⟨rfl, hR.lostH, hb.fr hf3 (by decide)⟩
  · rintro x S1 ⟨rfl, hR, hb⟩ rec
    obtain ⟨w1, a1⟩ := smH_W (b := b) w hh (c.fl h * c.wd h) (by omega)
    have e1 := hR.fl h (by rw [a1.1]; exact hh)
    have e2 := hR.wd h (by rw [a1.1]; exact hh)
    rw [a1.2.2.2.1] at e1
    rw [a1.2.2.2.2.1] at e2
    unfold p_X3_burn_L338
    simp (disch := first | omega | assumption) only [↓bd_rt, ↓bd_bd, ↓bd_ite, ↓bd_jn, ↓jn_ap, ↓ite_ap, ↓bd_gI1, ↓bd_pI1, ↓bd_gR1, ↓bd_pR1, ↓bd_gM, rt_ap, ↓reduceIte, iN_div, iN_divL, iN_add, iN_mul, iN_addL, iN_Ladd, iN_mulL, iN_Lmul, iN_subL, iN_sub, iN_le_T, iN_le_F, iN_lt_T, iN_lt_F, iN_eq_F, iN_leL_T, iN_leL_F, iN_Lle_T, iN_Lle_F, iN_ltL_T, iN_ltL_F, iN_Llt_T, iN_Llt_F, iN_eqL_T, iN_eqL_F, iN_m1, m1_iN, iN_le_m1, m1_le_iN, iN_neg, iN_pos, i10, i01, i00, i11, u3_op, u3_or, u3_same, pup_eq, pup_ne, ↓rI64_1, ↓rI65_1, e1, e2]
    exact Rs.mk ⟨hR, hb⟩
theorem sp_X3_burn_L324 {real : Bool} {c : CHo} (w : c.WF) {b : CBz} {φ : amSh} {S : amSt} (hφ : φ.1 255 ≠ 0) (hR : RMho c S) (hb : RMbz b S) :
    Rs (fun _ S' => RMho (if real then smS b c c.n else c) S' ∧ RMbz b S') (alp (p_X3_burn_L324 (i32b real)) amFu 0 φ S) := by
  have hn := w.hn
  cases real
  · refine alp_I (fun j x S' => x = iN j ∧ j ≤ 0 ∧ RMho c S' ∧ RMbz b S') 0 (amFu_lt (by omega)) ⟨rfl, Nat.le_refl _, hR, hb⟩ (fun k x S1 hk => by omega) ?_
    rintro x S1 ⟨rfl, _, hR, hb⟩ rec
    unfold p_X3_burn_L324
    by_cases h0 : c.n = 0
    · simp (disch := first | omega | assumption) only [↓bd_rt, ↓bd_bd, ↓bd_ite, ↓bd_jn, ↓jn_ap, ↓ite_ap, ↓bd_gI1, ↓bd_pI1, ↓bd_gR1, ↓bd_pR1, ↓bd_gM, rt_ap, ↓reduceIte, iN_div, iN_divL, iN_add, iN_mul, iN_addL, iN_Ladd, iN_mulL, iN_Lmul, iN_subL, iN_sub, iN_le_T, iN_le_F, iN_lt_T, iN_lt_F, iN_eq_F, iN_leL_T, iN_leL_F, iN_Lle_T, iN_Lle_F, iN_ltL_T, iN_ltL_F, iN_Llt_T, iN_Llt_F, iN_eqL_T, iN_eqL_F, iN_m1, m1_iN, iN_le_m1, m1_le_iN, iN_neg, iN_pos, i10, i01, i00, i11, u3_op, u3_or, u3_same, pup_eq, pup_ne, hR.n]; exact Rs.mk ⟨hR, hb⟩
    · simp (disch := first | omega | assumption) only [↓bd_rt, ↓bd_bd, ↓bd_ite, ↓bd_jn, ↓jn_ap, ↓ite_ap, ↓bd_gI1, ↓bd_pI1, ↓bd_gR1, ↓bd_pR1, ↓bd_gM, rt_ap, ↓reduceIte, iN_div, iN_divL, iN_add, iN_mul, iN_addL, iN_Ladd, iN_mulL, iN_Lmul, iN_subL, iN_sub, iN_le_T, iN_le_F, iN_lt_T, iN_lt_F, iN_eq_F, iN_leL_T, iN_leL_F, iN_Lle_T, iN_Lle_F, iN_ltL_T, iN_ltL_F, iN_Llt_T, iN_Llt_F, iN_eqL_T, iN_eqL_F, iN_m1, m1_iN, iN_le_m1, m1_le_iN, iN_neg, iN_pos, i10, i01, i00, i11, u3_op, u3_or, u3_same, pup_eq, pup_ne, hR.n, i32b, Bool.false_eq_true, if_false, if_true]; exact Rs.mk ⟨hR, hb⟩
  · refine alp_I (fun j x S' => x = iN j ∧ RMho (smS b c j) S' ∧ RMbz b S') c.n (amFu_lt (by omega)) ⟨rfl, hR, hb⟩ ?_ ?_
    · rintro j x S1 hj ⟨rfl, hR, hb⟩ rec
      obtain ⟨w1, a1⟩ := smS_W (b := b) w j (by omega)
      show Lz rec φ (fun x S' => x = iN (j + 1) ∧ RMho (smH b j (smS b c j) ((smS b c j).fl j * (smS b c j).wd j)) S' ∧ RMbz b S') _ _
      generalize smS b c j = d at *
      have hnd : d.n = c.n := a1.1
      rw [← hnd] at hj
      have hnn := hR.n
      unfold p_X3_burn_L324
      simp (disch := first | omega | assumption) only [↓bd_rt, ↓bd_bd, ↓bd_ite, ↓bd_jn, ↓jn_ap, ↓ite_ap, ↓bd_gI1, ↓bd_pI1, ↓bd_gR1, ↓bd_pR1, ↓bd_gM, rt_ap, ↓reduceIte, iN_div, iN_divL, iN_add, iN_mul, iN_addL, iN_Ladd, iN_mulL, iN_Lmul, iN_subL, iN_sub, iN_le_T, iN_le_F, iN_lt_T, iN_lt_F, iN_eq_F, iN_leL_T, iN_leL_F, iN_Lle_T, iN_Lle_F, iN_ltL_T, iN_ltL_F, iN_Llt_T, iN_Llt_F, iN_eqL_T, iN_eqL_F, iN_m1, m1_iN, iN_le_m1, m1_le_iN, iN_neg, iN_pos, i10, i01, i00, i11, u3_op, u3_or, u3_same, pup_eq, pup_ne, hnn, i32b, if_true]
      exact bdR (sp_X3_burn_L338 w1 hφ hR hb hj) fun _ S2 h2 => Lz.go ⟨rfl, h2⟩
    · rintro x S1 ⟨rfl, hR, hb⟩ rec
      obtain ⟨w1, a1⟩ := smS_W (b := b) w c.n (Nat.le_refl _)
      have hnn := hR.n
      rw [a1.1] at hnn
      unfold p_X3_burn_L324
      simp (disch := first | omega | assumption) only [↓bd_rt, ↓bd_bd, ↓bd_ite, ↓bd_jn, ↓jn_ap, ↓ite_ap, ↓bd_gI1, ↓bd_pI1, ↓bd_gR1, ↓bd_pR1, ↓bd_gM, rt_ap, ↓reduceIte, iN_div, iN_divL, iN_add, iN_mul, iN_addL, iN_Ladd, iN_mulL, iN_Lmul, iN_subL, iN_sub, iN_le_T, iN_le_F, iN_lt_T, iN_lt_F, iN_eq_F, iN_leL_T, iN_leL_F, iN_Lle_T, iN_Lle_F, iN_ltL_T, iN_ltL_F, iN_Llt_T, iN_Llt_F, iN_eqL_T, iN_eqL_F, iN_m1, m1_iN, iN_le_m1, m1_le_iN, iN_neg, iN_pos, i10, i01, i00, i11, u3_op, u3_or, u3_same, pup_eq, pup_ne, hnn]
      exact Rs.mk ⟨hR, hb⟩
def burnS (real z : Bool) (t : Tr) : Tr := let u := fallsS real (chgS z t); (if real then smS u.2.1 u.1 u.1.n else u.1, u.2.1, u.2.2)
theorem fallsS_W {real : Bool} {t : Tr} (w : TW t) : TW (fallsS real t) ∧ alike t.1 (fallsS real t).1 := fallsJ_W w t.1.n (Nat.le_refl _)
theorem burnS_W {real z : Bool} {t : Tr} (w : TW t) : TW (burnS real z t) ∧ alike t.1 (burnS real z t).1 := by
  have w0 : TW (chgS z t) := w
  obtain ⟨w1, a1⟩ := fallsS_W (real := real) w0
  unfold burnS
  cases real
  · exact ⟨w1, a1⟩
  · have := smS_W (b := (fallsS true (chgS z t)).2.1) w1.1 _ (Nat.le_refl _)
    exact ⟨⟨this.1, w1.2⟩, a1.tr this.2⟩
theorem sp_X3_burn {real : Bool} {φ : amSh} {S : amSt} (hφ : φ.1 255 ≠ 0) {t : Tr} (w : TW t) (hT : T3 t S) : Rs (fun _ S' => T3 (burnS real false t) S') (p_X3_burn (i32b real) φ S) := by
  obtain ⟨c, b, cr⟩ := t
  obtain ⟨hR, hb, hC⟩ := hT
  dsimp only at hR hb hC
  unfold p_X3_burn
  rw [bd_gM hφ]
  refine bdRF (L := [77, 78]) (Fr.halp (fun rec hrec x => fr_p_X3_burn_L2 (by decide) hrec x) _ _) (sp_X3_burn_L2 w.1 hφ hR hb) fun _ S1 h1 hF1 => ?_
  refine bdRF (L := [74, 75, 79]) (Fr.halp (fun rec hrec x => fr_p_X3_burn_L148 (by decide) hrec x) _ _) (sp_X3_burn_L148 w.1 hφ h1.1.1 h1.1.2 h1.2) fun _ S2 h2 hF2 => ?_
  have w0 : TW (chgS false (c, b, cr)) := w
  obtain ⟨w1, a1⟩ := fallsS_W (real := real) w0
  refine bdR (sp_X3_burn_L254 (real := real) (t := chgS false (c, b, cr)) hφ w0 ⟨h2.1, h2.2, (hC.fr hF1 (by decide)).fr hF2 (by decide)⟩) fun _ S3 h3 => ?_
  obtain ⟨hR3, hb3, hC3⟩ := h3
  refine bdRF (L := [71, 80]) (Fr.halp (fun rec hrec x => fr_p_X3_burn_L324 (by decide) hrec x) _ _) (sp_X3_burn_L324 (real := real) w1.1 hφ hR3 hb3) fun _ S4 h4 hF4 => ?_
  exact Rs.mk ⟨h4.1, h4.2, hC3.fr hF4 (by decide)⟩
