/-! what the generator's rows use -/
def amFu : Nat := 100000
abbrev g64 (x : UInt64) : am0 Unit := gd (x &&& 0x7fffffffffffffff ≤ 0x7ff0000000000000)
abbrev g32 (x : UInt32) : am0 Unit := gd (x &&& 0x7fffffff ≤ 0x7f800000)
abbrev encI : Int32 → Option Value := fun r => some (.int r)
abbrev encV : Unit → Option Value := fun _ => none
abbrev encD : UInt64 → Option Value := fun r => some (.double r)
abbrev encJ : Int64 → Option Value := fun r => some (.long r)
abbrev encR (p : Nat) : Nat → Option Value := fun r => some (.ref (rid p r))
def jn {α γ : Type} (r : α → am0 γ) (f : (α → am0 γ) → am0 γ) : am0 γ := f r
def jn1 {α γ : Type} (r : α → am1 γ) (f : (α → am1 γ) → am1 γ) : am1 γ := f r
theorem am_mem2 {a b c : Nat} (h : c ∈ [a, b]) : c = a ∨ c = b := by simpa using h
theorem am_mem3 {a b d c : Nat} (h : c ∈ [a, b, d]) : c = a ∨ c = b ∨ c = d := by simpa using h
theorem am_mem4 {a b d e c : Nat} (h : c ∈ [a, b, d, e]) : c = a ∨ c = b ∨ c = d ∨ c = e := by simpa using h
theorem am_ne {x kk : Int32} {k : Int} (hk : kk.toInt = k) (h : ¬ x = kk) : x.toInt ≠ k := fun e => h (Int32.toInt_inj.mp (by rw [e, hk]))
theorem am_out3 {x : Int32} (h0 : ¬ x = 0) (h1 : ¬ x = 1) (h2 : ¬ x = 2) : x.toInt < 0 ∨ 2 < x.toInt := by
  have e0 := am_ne (k := 0) (by decide) h0
  have e1 := am_ne (k := 1) (by decide) h1
  have e2 := am_ne (k := 2) (by decide) h2
  omega
theorem am_out4 {x : Int32} (h0 : ¬ x = 0) (h1 : ¬ x = 1) (h2 : ¬ x = 2) (h3 : ¬ x = 3) : x.toInt < 0 ∨ 3 < x.toInt := by
  have e0 := am_ne (k := 0) (by decide) h0
  have e1 := am_ne (k := 1) (by decide) h1
  have e2 := am_ne (k := 2) (by decide) h2
  have e3 := am_ne (k := 3) (by decide) h3
  omega
theorem am_out7 {x : Int32} (h0 : ¬ x = 0) (h1 : ¬ x = 1) (h2 : ¬ x = 2) (h3 : ¬ x = 3) (h4 : ¬ x = 4) (h5 : ¬ x = 5) (h6 : ¬ x = 6) : x.toInt < 0 ∨ 6 < x.toInt := by
  have e0 := am_ne (k := 0) (by decide) h0
  have e1 := am_ne (k := 1) (by decide) h1
  have e2 := am_ne (k := 2) (by decide) h2
  have e3 := am_ne (k := 3) (by decide) h3
  have e4 := am_ne (k := 4) (by decide) h4
  have e5 := am_ne (k := 5) (by decide) h5
  have e6 := am_ne (k := 6) (by decide) h6
  omega
theorem am_out8 {x : Int32} (h0 : ¬ x = 0) (h1 : ¬ x = 1) (h2 : ¬ x = 2) (h3 : ¬ x = 3) (h4 : ¬ x = 4) (h5 : ¬ x = 5) (h6 : ¬ x = 6) (h7 : ¬ x = 7) : x.toInt < 0 ∨ 7 < x.toInt := by
  have e0 := am_ne (k := 0) (by decide) h0
  have e1 := am_ne (k := 1) (by decide) h1
  have e2 := am_ne (k := 2) (by decide) h2
  have e3 := am_ne (k := 3) (by decide) h3
  have e4 := am_ne (k := 4) (by decide) h4
  have e5 := am_ne (k := 5) (by decide) h5
  have e6 := am_ne (k := 6) (by decide) h6
  have e7 := am_ne (k := 7) (by decide) h7
  omega
theorem am_out9 {x : Int32} (h0 : ¬ x = 0) (h1 : ¬ x = 1) (h2 : ¬ x = 2) (h3 : ¬ x = 3) (h4 : ¬ x = 4) (h5 : ¬ x = 5) (h6 : ¬ x = 6) (h7 : ¬ x = 7) (h8 : ¬ x = 8) : x.toInt < 0 ∨ 8 < x.toInt := by
  have e0 := am_ne (k := 0) (by decide) h0
  have e1 := am_ne (k := 1) (by decide) h1
  have e2 := am_ne (k := 2) (by decide) h2
  have e3 := am_ne (k := 3) (by decide) h3
  have e4 := am_ne (k := 4) (by decide) h4
  have e5 := am_ne (k := 5) (by decide) h5
  have e6 := am_ne (k := 6) (by decide) h6
  have e7 := am_ne (k := 7) (by decide) h7
  have e8 := am_ne (k := 8) (by decide) h8
  omega
theorem am_out17 {x : Int32} (h0 : ¬ x = 0) (h1 : ¬ x = 1) (h2 : ¬ x = 2) (h3 : ¬ x = 3) (h4 : ¬ x = 4) (h5 : ¬ x = 5) (h6 : ¬ x = 6) (h7 : ¬ x = 7) (h8 : ¬ x = 8) (h9 : ¬ x = 9) (h10 : ¬ x = 10) (h11 : ¬ x = 11) (h12 : ¬ x = 12) (h13 : ¬ x = 13) (h14 : ¬ x = 14) (h15 : ¬ x = 15) (h16 : ¬ x = 16) : x.toInt < 0 ∨ 16 < x.toInt := by
  have e0 := am_ne (k := 0) (by decide) h0
  have e1 := am_ne (k := 1) (by decide) h1
  have e2 := am_ne (k := 2) (by decide) h2
  have e3 := am_ne (k := 3) (by decide) h3
  have e4 := am_ne (k := 4) (by decide) h4
  have e5 := am_ne (k := 5) (by decide) h5
  have e6 := am_ne (k := 6) (by decide) h6
  have e7 := am_ne (k := 7) (by decide) h7
  have e8 := am_ne (k := 8) (by decide) h8
  have e9 := am_ne (k := 9) (by decide) h9
  have e10 := am_ne (k := 10) (by decide) h10
  have e11 := am_ne (k := 11) (by decide) h11
  have e12 := am_ne (k := 12) (by decide) h12
  have e13 := am_ne (k := 13) (by decide) h13
  have e14 := am_ne (k := 14) (by decide) h14
  have e15 := am_ne (k := 15) (by decide) h15
  have e16 := am_ne (k := 16) (by decide) h16
  omega
theorem am_out52 {x : Int32} (h0 : ¬ x = 0) (h1 : ¬ x = 1) (h2 : ¬ x = 2) (h3 : ¬ x = 3) (h4 : ¬ x = 4) (h5 : ¬ x = 5) (h6 : ¬ x = 6) (h7 : ¬ x = 7) (h8 : ¬ x = 8) (h9 : ¬ x = 9) (h10 : ¬ x = 10) (h11 : ¬ x = 11) (h12 : ¬ x = 12) (h13 : ¬ x = 13) (h14 : ¬ x = 14) (h15 : ¬ x = 15) (h16 : ¬ x = 16) (h17 : ¬ x = 17) (h18 : ¬ x = 18) (h19 : ¬ x = 19) (h20 : ¬ x = 20) (h21 : ¬ x = 21) (h22 : ¬ x = 22) (h23 : ¬ x = 23) (h24 : ¬ x = 24) (h25 : ¬ x = 25) (h26 : ¬ x = 26) (h27 : ¬ x = 27) (h28 : ¬ x = 28) (h29 : ¬ x = 29) (h30 : ¬ x = 30) (h31 : ¬ x = 31) (h32 : ¬ x = 32) (h33 : ¬ x = 33) (h34 : ¬ x = 34) (h35 : ¬ x = 35) (h36 : ¬ x = 36) (h37 : ¬ x = 37) (h38 : ¬ x = 38) (h39 : ¬ x = 39) (h40 : ¬ x = 40) (h41 : ¬ x = 41) (h42 : ¬ x = 42) (h43 : ¬ x = 43) (h44 : ¬ x = 44) (h45 : ¬ x = 45) (h46 : ¬ x = 46) (h47 : ¬ x = 47) (h48 : ¬ x = 48) (h49 : ¬ x = 49) (h50 : ¬ x = 50) (h51 : ¬ x = 51) : x.toInt < 0 ∨ 51 < x.toInt := by
  have e0 := am_ne (k := 0) (by decide) h0
  have e1 := am_ne (k := 1) (by decide) h1
  have e2 := am_ne (k := 2) (by decide) h2
  have e3 := am_ne (k := 3) (by decide) h3
  have e4 := am_ne (k := 4) (by decide) h4
  have e5 := am_ne (k := 5) (by decide) h5
  have e6 := am_ne (k := 6) (by decide) h6
  have e7 := am_ne (k := 7) (by decide) h7
  have e8 := am_ne (k := 8) (by decide) h8
  have e9 := am_ne (k := 9) (by decide) h9
  have e10 := am_ne (k := 10) (by decide) h10
  have e11 := am_ne (k := 11) (by decide) h11
  have e12 := am_ne (k := 12) (by decide) h12
  have e13 := am_ne (k := 13) (by decide) h13
  have e14 := am_ne (k := 14) (by decide) h14
  have e15 := am_ne (k := 15) (by decide) h15
  have e16 := am_ne (k := 16) (by decide) h16
  have e17 := am_ne (k := 17) (by decide) h17
  have e18 := am_ne (k := 18) (by decide) h18
  have e19 := am_ne (k := 19) (by decide) h19
  have e20 := am_ne (k := 20) (by decide) h20
  have e21 := am_ne (k := 21) (by decide) h21
  have e22 := am_ne (k := 22) (by decide) h22
  have e23 := am_ne (k := 23) (by decide) h23
  have e24 := am_ne (k := 24) (by decide) h24
  have e25 := am_ne (k := 25) (by decide) h25
  have e26 := am_ne (k := 26) (by decide) h26
  have e27 := am_ne (k := 27) (by decide) h27
  have e28 := am_ne (k := 28) (by decide) h28
  have e29 := am_ne (k := 29) (by decide) h29
  have e30 := am_ne (k := 30) (by decide) h30
  have e31 := am_ne (k := 31) (by decide) h31
  have e32 := am_ne (k := 32) (by decide) h32
  have e33 := am_ne (k := 33) (by decide) h33
  have e34 := am_ne (k := 34) (by decide) h34
  have e35 := am_ne (k := 35) (by decide) h35
  have e36 := am_ne (k := 36) (by decide) h36
  have e37 := am_ne (k := 37) (by decide) h37
  have e38 := am_ne (k := 38) (by decide) h38
  have e39 := am_ne (k := 39) (by decide) h39
  have e40 := am_ne (k := 40) (by decide) h40
  have e41 := am_ne (k := 41) (by decide) h41
  have e42 := am_ne (k := 42) (by decide) h42
  have e43 := am_ne (k := 43) (by decide) h43
  have e44 := am_ne (k := 44) (by decide) h44
  have e45 := am_ne (k := 45) (by decide) h45
  have e46 := am_ne (k := 46) (by decide) h46
  have e47 := am_ne (k := 47) (by decide) h47
  have e48 := am_ne (k := 48) (by decide) h48
  have e49 := am_ne (k := 49) (by decide) h49
  have e50 := am_ne (k := 50) (by decide) h50
  have e51 := am_ne (k := 51) (by decide) h51
  omega
section am17
variable {X : amX} {cc : ByteArray} {own : String} {nL F L : Nat} {rtp : Option FieldType} {β : Type} {enc : β → Option Value} {pc : Nat} {l : List (Nat × Value)} {st : List Value}
theorem wg_nmi {x : Int32} {g : Int32 → am1 β} (hX : amOK X cc own nL F L rtp) (k : ∀ y : Int32, WG X enc pc l (.int y :: st) (g y)) : WG X enc pc l (.int x :: st) (bd1 (up (rt x)) g) := by rw [bd1_up_rt]; exact k x
theorem wg_nml {x : Int64} {g : Int64 → am1 β} (hX : amOK X cc own nL F L rtp) (k : ∀ y : Int64, WG X enc pc l (.long y :: st) (g y)) : WG X enc pc l (.long x :: st) (bd1 (up (rt x)) g) := by rw [bd1_up_rt]; exact k x
theorem wg_nmd {x : UInt64} {g : UInt64 → am1 β} (hX : amOK X cc own nL F L rtp) (k : ∀ y : UInt64, WG X enc pc l (.double y :: st) (g y)) : WG X enc pc l (.double x :: st) (bd1 (up (rt x)) g) := by rw [bd1_up_rt]; exact k x
theorem wu_lpx {α γ δ : Type} {F0 : (α → am0 γ) → α → am0 γ} {f : γ → am0 δ} {K : δ → am1 β} {pcl pcT : Nat} {lo : α → List (Nat × Value)} {so : α → List Value} {lT : γ → List (Nat × Value)} {sT : γ → List Value} {n : Nat} {x0 : α} (h : ∀ (K1 : γ → am1 β) (rec : α → am0 γ), (∀ x, WG X enc pcl (lo x) (so x) (bd1 (up (rec x)) K1)) → (∀ a, WG X enc pcT (lT a) (sT a) (K1 a)) → ∀ x, WG X enc pcl (lo x) (so x) (bd1 (up (F0 rec x)) K1)) (hk : ∀ a, WG X enc pcT (lT a) (sT a) (bd1 (up (f a)) K)) : WG X enc pcl (lo x0) (so x0) (bd1 (up (bd (alp F0 n x0) f)) K) :=
  wu_ (wu_lp (fun rec hrec x => h _ rec hrec hk x) n x0)
theorem wu_jx {α γ : Type} {m : am0 α} {f : α → am0 γ} {K : γ → am1 β} {pcJ : Nat} {lJ : α → List (Nat × Value)} {sJ : α → List Value} (h : ∀ K1 : α → am1 β, (∀ a, WG X enc pcJ (lJ a) (sJ a) (K1 a)) → WG X enc pc l st (bd1 (up (m)) K1)) (hk : ∀ a, WG X enc pcJ (lJ a) (sJ a) (bd1 (up (f a)) K)) : WG X enc pc l st (bd1 (up (bd m f)) K) :=
  wu_ (h _ hk)
theorem wu_jn {α γ : Type} {r : α → am0 γ} {f : (α → am0 γ) → am0 γ} {K : γ → am1 β} {pcJ : Nat} {lJ : α → List (Nat × Value)} {sJ : α → List Value} (h : ∀ k : α → am0 γ, (∀ a, WG X enc pcJ (lJ a) (sJ a) (bd1 (up (k a)) K)) → WG X enc pc l st (bd1 (up (f k)) K)) (hk : ∀ a, WG X enc pcJ (lJ a) (sJ a) (bd1 (up (r a)) K)) : WG X enc pc l st (bd1 (up (jn r f)) K) :=
  h r hk
theorem wv_lpx {α γ δ : Type} {F0 : (α → am1 γ) → α → am1 γ} {f : γ → am1 δ} {K : δ → am1 β} {pcl pcT : Nat} {lo : α → List (Nat × Value)} {so : α → List Value} {lT : γ → List (Nat × Value)} {sT : γ → List Value} {n : Nat} {x0 : α} (h : ∀ (K1 : γ → am1 β) (rec : α → am1 γ), (∀ x, WG X enc pcl (lo x) (so x) (bd1 (rec x) K1)) → (∀ a, WG X enc pcT (lT a) (sT a) (K1 a)) → ∀ x, WG X enc pcl (lo x) (so x) (bd1 (F0 rec x) K1)) (hk : ∀ a, WG X enc pcT (lT a) (sT a) (bd1 (f a) K)) : WG X enc pcl (lo x0) (so x0) (bd1 (bd1 (alp1 F0 n x0) f) K) :=
  wv_ (wv_lp (fun rec hrec x => h _ rec hrec hk x) n x0)
theorem wv_jx {α γ : Type} {m : am1 α} {f : α → am1 γ} {K : γ → am1 β} {pcJ : Nat} {lJ : α → List (Nat × Value)} {sJ : α → List Value} (h : ∀ K1 : α → am1 β, (∀ a, WG X enc pcJ (lJ a) (sJ a) (K1 a)) → WG X enc pc l st (bd1 (m) K1)) (hk : ∀ a, WG X enc pcJ (lJ a) (sJ a) (bd1 (f a) K)) : WG X enc pc l st (bd1 (bd1 m f) K) :=
  wv_ (h _ hk)
theorem wv_jn {α γ : Type} {r : α → am1 γ} {f : (α → am1 γ) → am1 γ} {K : γ → am1 β} {pcJ : Nat} {lJ : α → List (Nat × Value)} {sJ : α → List Value} (h : ∀ k : α → am1 γ, (∀ a, WG X enc pcJ (lJ a) (sJ a) (bd1 (k a) K)) → WG X enc pc l st (bd1 (f k) K)) (hk : ∀ a, WG X enc pcJ (lJ a) (sJ a) (bd1 (r a) K)) : WG X enc pc l st (bd1 (jn1 r f) K) :=
  h r hk
theorem wg_cVi {m1 : am1 Int32} {g : Int32 → am1 β} {q r idx n nLy Fy Ly : Nat} {y : MethodName} {ccy : ByteArray} {rty : Option FieldType} {As rest st0 : List Value}  (hX : amOK X cc own nL F L rtp) (hM : amMet y ccy nLy rty Fy Ly encI (.ref (rid q r) :: As) m1) (hq : q < 250) (hk : am_pk q = 0) (h0 : r ≠ 0) (hrc : ∀ c ∈ am_kl q, ∃ (C1 : String) (T1 : u_T) (N1 : Nat), am_cl[c]? = some (C1, T1, N1) ∧ C1 = y.cls) (hG : GoodIn lw_all (wsV own idx y.cls y (ws_ y ccy nLy rty))) (hd : y.cls ≠ "java/lang/invoke/MethodHandle" ∧ y.cls ≠ "java/lang/invoke/VarHandle" ∧ (parseMethodDescriptor y.desc).map (fun d => d.parameters.length) = some n) (hn : As.length = n) (hF : Fy + 1 ≤ F) (hLo : 8 + (nLy + 11) + Ly ≤ L) (hw : (rest.map fun v => v.category).sum ≤ 8) (hst : st0 = As.reverse ++ .ref (rid q r) :: rest) (hdg : decode cc pc = .ok (.invokevirtual idx, 3)) (k : ∀ a : Int32, WG X enc (pc + 3) l (.int a :: rest) (g a)) : WG X enc pc l st0 (bd1 m1 g) :=
  wg_cV hX hM hq hk h0 hrc hG hd hn hF hLo hw hst hdg (fun a => k a)
theorem wg_cVv {m1 : am1 Unit} {g : Unit → am1 β} {q r idx n nLy Fy Ly : Nat} {y : MethodName} {ccy : ByteArray} {rty : Option FieldType} {As rest st0 : List Value}  (hX : amOK X cc own nL F L rtp) (hM : amMet y ccy nLy rty Fy Ly encV (.ref (rid q r) :: As) m1) (hq : q < 250) (hk : am_pk q = 0) (h0 : r ≠ 0) (hrc : ∀ c ∈ am_kl q, ∃ (C1 : String) (T1 : u_T) (N1 : Nat), am_cl[c]? = some (C1, T1, N1) ∧ C1 = y.cls) (hG : GoodIn lw_all (wsV own idx y.cls y (ws_ y ccy nLy rty))) (hd : y.cls ≠ "java/lang/invoke/MethodHandle" ∧ y.cls ≠ "java/lang/invoke/VarHandle" ∧ (parseMethodDescriptor y.desc).map (fun d => d.parameters.length) = some n) (hn : As.length = n) (hF : Fy + 1 ≤ F) (hLo : 8 + (nLy + 11) + Ly ≤ L) (hw : (rest.map fun v => v.category).sum ≤ 8) (hst : st0 = As.reverse ++ .ref (rid q r) :: rest) (hdg : decode cc pc = .ok (.invokevirtual idx, 3)) (k : WG X enc (pc + 3) l (rest) (g ())) : WG X enc pc l st0 (bd1 m1 g) :=
  wg_cV hX hM hq hk h0 hrc hG hd hn hF hLo hw hst hdg (fun a => k)
theorem wg_cVd {m1 : am1 UInt64} {g : UInt64 → am1 β} {q r idx n nLy Fy Ly : Nat} {y : MethodName} {ccy : ByteArray} {rty : Option FieldType} {As rest st0 : List Value}  (hX : amOK X cc own nL F L rtp) (hM : amMet y ccy nLy rty Fy Ly encD (.ref (rid q r) :: As) m1) (hq : q < 250) (hk : am_pk q = 0) (h0 : r ≠ 0) (hrc : ∀ c ∈ am_kl q, ∃ (C1 : String) (T1 : u_T) (N1 : Nat), am_cl[c]? = some (C1, T1, N1) ∧ C1 = y.cls) (hG : GoodIn lw_all (wsV own idx y.cls y (ws_ y ccy nLy rty))) (hd : y.cls ≠ "java/lang/invoke/MethodHandle" ∧ y.cls ≠ "java/lang/invoke/VarHandle" ∧ (parseMethodDescriptor y.desc).map (fun d => d.parameters.length) = some n) (hn : As.length = n) (hF : Fy + 1 ≤ F) (hLo : 8 + (nLy + 11) + Ly ≤ L) (hw : (rest.map fun v => v.category).sum ≤ 8) (hst : st0 = As.reverse ++ .ref (rid q r) :: rest) (hdg : decode cc pc = .ok (.invokevirtual idx, 3)) (k : ∀ a : UInt64, WG X enc (pc + 3) l (.double a :: rest) (g a)) : WG X enc pc l st0 (bd1 m1 g) :=
  wg_cV hX hM hq hk h0 hrc hG hd hn hF hLo hw hst hdg (fun a => k a)
theorem wg_cVl {m1 : am1 Int64} {g : Int64 → am1 β} {q r idx n nLy Fy Ly : Nat} {y : MethodName} {ccy : ByteArray} {rty : Option FieldType} {As rest st0 : List Value}  (hX : amOK X cc own nL F L rtp) (hM : amMet y ccy nLy rty Fy Ly encJ (.ref (rid q r) :: As) m1) (hq : q < 250) (hk : am_pk q = 0) (h0 : r ≠ 0) (hrc : ∀ c ∈ am_kl q, ∃ (C1 : String) (T1 : u_T) (N1 : Nat), am_cl[c]? = some (C1, T1, N1) ∧ C1 = y.cls) (hG : GoodIn lw_all (wsV own idx y.cls y (ws_ y ccy nLy rty))) (hd : y.cls ≠ "java/lang/invoke/MethodHandle" ∧ y.cls ≠ "java/lang/invoke/VarHandle" ∧ (parseMethodDescriptor y.desc).map (fun d => d.parameters.length) = some n) (hn : As.length = n) (hF : Fy + 1 ≤ F) (hLo : 8 + (nLy + 11) + Ly ≤ L) (hw : (rest.map fun v => v.category).sum ≤ 8) (hst : st0 = As.reverse ++ .ref (rid q r) :: rest) (hdg : decode cc pc = .ok (.invokevirtual idx, 3)) (k : ∀ a : Int64, WG X enc (pc + 3) l (.long a :: rest) (g a)) : WG X enc pc l st0 (bd1 m1 g) :=
  wg_cV hX hM hq hk h0 hrc hG hd hn hF hLo hw hst hdg (fun a => k a)
theorem wg_cVr {m1 : am1 Nat} {g : Nat → am1 β} {q r idx n nLy Fy Ly t : Nat} {y : MethodName} {ccy : ByteArray} {rty : Option FieldType} {As rest st0 : List Value}  (hX : amOK X cc own nL F L rtp) (hM : amMet y ccy nLy rty Fy Ly (encR t) (.ref (rid q r) :: As) m1) (hq : q < 250) (hk : am_pk q = 0) (h0 : r ≠ 0) (hrc : ∀ c ∈ am_kl q, ∃ (C1 : String) (T1 : u_T) (N1 : Nat), am_cl[c]? = some (C1, T1, N1) ∧ C1 = y.cls) (hG : GoodIn lw_all (wsV own idx y.cls y (ws_ y ccy nLy rty))) (hd : y.cls ≠ "java/lang/invoke/MethodHandle" ∧ y.cls ≠ "java/lang/invoke/VarHandle" ∧ (parseMethodDescriptor y.desc).map (fun d => d.parameters.length) = some n) (hn : As.length = n) (hF : Fy + 1 ≤ F) (hLo : 8 + (nLy + 11) + Ly ≤ L) (hw : (rest.map fun v => v.category).sum ≤ 8) (hst : st0 = As.reverse ++ .ref (rid q r) :: rest) (hdg : decode cc pc = .ok (.invokevirtual idx, 3)) (k : ∀ a : Nat, WG X enc (pc + 3) l (.ref (rid t a) :: rest) (g a)) : WG X enc pc l st0 (bd1 m1 g) :=
  wg_cV hX hM hq hk h0 hrc hG hd hn hF hLo hw hst hdg (fun a => k a)
theorem wg_cSi {m1 : am1 Int32} {g : Int32 → am1 β} {idx n nLy Fy Ly : Nat} {y : MethodName} {ccy : ByteArray} {rty : Option FieldType} {As rest st0 : List Value}  (hX : amOK X cc own nL F L rtp) (hM : amMet y ccy nLy rty Fy Ly encI As m1) (hG : GoodIn lw_all (va_wsS own idx y (ws_ y ccy nLy rty))) (hd : y.cls ≠ "java/lang/invoke/MethodHandle" ∧ y.cls ≠ "java/lang/invoke/VarHandle" ∧ (parseMethodDescriptor y.desc).map (fun d => d.parameters.length) = some n) (hn : As.length = n) (hF : Fy + 1 ≤ F) (hLo : 8 + (nLy + 11) + Ly ≤ L) (hw : (rest.map fun v => v.category).sum ≤ 8) (hst : st0 = As.reverse ++ rest) (hdg : decode cc pc = .ok (.invokestatic idx, 3)) (k : ∀ a : Int32, WG X enc (pc + 3) l (.int a :: rest) (g a)) : WG X enc pc l st0 (bd1 m1 g) :=
  wg_cS hX hM hG hd hn hF hLo hw hst hdg (fun a => k a)
theorem wg_cSv {m1 : am1 Unit} {g : Unit → am1 β} {idx n nLy Fy Ly : Nat} {y : MethodName} {ccy : ByteArray} {rty : Option FieldType} {As rest st0 : List Value}  (hX : amOK X cc own nL F L rtp) (hM : amMet y ccy nLy rty Fy Ly encV As m1) (hG : GoodIn lw_all (va_wsS own idx y (ws_ y ccy nLy rty))) (hd : y.cls ≠ "java/lang/invoke/MethodHandle" ∧ y.cls ≠ "java/lang/invoke/VarHandle" ∧ (parseMethodDescriptor y.desc).map (fun d => d.parameters.length) = some n) (hn : As.length = n) (hF : Fy + 1 ≤ F) (hLo : 8 + (nLy + 11) + Ly ≤ L) (hw : (rest.map fun v => v.category).sum ≤ 8) (hst : st0 = As.reverse ++ rest) (hdg : decode cc pc = .ok (.invokestatic idx, 3)) (k : WG X enc (pc + 3) l (rest) (g ())) : WG X enc pc l st0 (bd1 m1 g) :=
  wg_cS hX hM hG hd hn hF hLo hw hst hdg (fun a => k)
theorem wg_cSd {m1 : am1 UInt64} {g : UInt64 → am1 β} {idx n nLy Fy Ly : Nat} {y : MethodName} {ccy : ByteArray} {rty : Option FieldType} {As rest st0 : List Value}  (hX : amOK X cc own nL F L rtp) (hM : amMet y ccy nLy rty Fy Ly encD As m1) (hG : GoodIn lw_all (va_wsS own idx y (ws_ y ccy nLy rty))) (hd : y.cls ≠ "java/lang/invoke/MethodHandle" ∧ y.cls ≠ "java/lang/invoke/VarHandle" ∧ (parseMethodDescriptor y.desc).map (fun d => d.parameters.length) = some n) (hn : As.length = n) (hF : Fy + 1 ≤ F) (hLo : 8 + (nLy + 11) + Ly ≤ L) (hw : (rest.map fun v => v.category).sum ≤ 8) (hst : st0 = As.reverse ++ rest) (hdg : decode cc pc = .ok (.invokestatic idx, 3)) (k : ∀ a : UInt64, WG X enc (pc + 3) l (.double a :: rest) (g a)) : WG X enc pc l st0 (bd1 m1 g) :=
  wg_cS hX hM hG hd hn hF hLo hw hst hdg (fun a => k a)
theorem wg_cSl {m1 : am1 Int64} {g : Int64 → am1 β} {idx n nLy Fy Ly : Nat} {y : MethodName} {ccy : ByteArray} {rty : Option FieldType} {As rest st0 : List Value}  (hX : amOK X cc own nL F L rtp) (hM : amMet y ccy nLy rty Fy Ly encJ As m1) (hG : GoodIn lw_all (va_wsS own idx y (ws_ y ccy nLy rty))) (hd : y.cls ≠ "java/lang/invoke/MethodHandle" ∧ y.cls ≠ "java/lang/invoke/VarHandle" ∧ (parseMethodDescriptor y.desc).map (fun d => d.parameters.length) = some n) (hn : As.length = n) (hF : Fy + 1 ≤ F) (hLo : 8 + (nLy + 11) + Ly ≤ L) (hw : (rest.map fun v => v.category).sum ≤ 8) (hst : st0 = As.reverse ++ rest) (hdg : decode cc pc = .ok (.invokestatic idx, 3)) (k : ∀ a : Int64, WG X enc (pc + 3) l (.long a :: rest) (g a)) : WG X enc pc l st0 (bd1 m1 g) :=
  wg_cS hX hM hG hd hn hF hLo hw hst hdg (fun a => k a)
theorem wg_cSr {m1 : am1 Nat} {g : Nat → am1 β} {idx n nLy Fy Ly t : Nat} {y : MethodName} {ccy : ByteArray} {rty : Option FieldType} {As rest st0 : List Value}  (hX : amOK X cc own nL F L rtp) (hM : amMet y ccy nLy rty Fy Ly (encR t) As m1) (hG : GoodIn lw_all (va_wsS own idx y (ws_ y ccy nLy rty))) (hd : y.cls ≠ "java/lang/invoke/MethodHandle" ∧ y.cls ≠ "java/lang/invoke/VarHandle" ∧ (parseMethodDescriptor y.desc).map (fun d => d.parameters.length) = some n) (hn : As.length = n) (hF : Fy + 1 ≤ F) (hLo : 8 + (nLy + 11) + Ly ≤ L) (hw : (rest.map fun v => v.category).sum ≤ 8) (hst : st0 = As.reverse ++ rest) (hdg : decode cc pc = .ok (.invokestatic idx, 3)) (k : ∀ a : Nat, WG X enc (pc + 3) l (.ref (rid t a) :: rest) (g a)) : WG X enc pc l st0 (bd1 m1 g) :=
  wg_cS hX hM hG hd hn hF hLo hw hst hdg (fun a => k a)
theorem wg_cVNi {m1 : am1 Int32} {g : Int32 → am1 β} {q r idx n nLy Fy Ly : Nat} {y : MethodName} {ccy : ByteArray} {rty : Option FieldType} {As rest st0 : List Value} {host : String} (hX : amOK X cc own nL F L rtp) (hM : amMet y ccy nLy rty Fy Ly encI (.ref (rid q r) :: As) m1) (hq : q < 250) (hk : am_pk q = 0) (h0 : r ≠ 0) (hrc : ∀ c ∈ am_kl q, ∃ (C1 : String) (T1 : u_T) (N1 : Nat), am_cl[c]? = some (C1, T1, N1) ∧ C1 = y.cls) (hl2 : Cond.methodLinkNest own idx y host ∈ lw_tbl) (hi1 : Cond.instanceMethod y ∈ lw_all) (hse : Cond.selects y.cls y y ∈ lw_all) (hi2 : Cond.initialized y.cls ∈ lw_all) (hco : Cond.code y ccy nLy rty ∈ lw_all) (hd : y.cls ≠ "java/lang/invoke/MethodHandle" ∧ y.cls ≠ "java/lang/invoke/VarHandle" ∧ (parseMethodDescriptor y.desc).map (fun d => d.parameters.length) = some n) (hn : As.length = n) (hF : Fy + 1 ≤ F) (hLo : 8 + (nLy + 11) + Ly ≤ L) (hw : (rest.map fun v => v.category).sum ≤ 8) (hst : st0 = As.reverse ++ .ref (rid q r) :: rest) (hdg : decode cc pc = .ok (.invokevirtual idx, 3)) (k : ∀ a : Int32, WG X enc (pc + 3) l (.int a :: rest) (g a)) : WG X enc pc l st0 (bd1 m1 g) :=
  wg_cVN hX hM hq hk h0 hrc hl2 hi1 hse hi2 hco hd hn hF hLo hw hst hdg (fun a => k a)
theorem wg_cVNv {m1 : am1 Unit} {g : Unit → am1 β} {q r idx n nLy Fy Ly : Nat} {y : MethodName} {ccy : ByteArray} {rty : Option FieldType} {As rest st0 : List Value} {host : String} (hX : amOK X cc own nL F L rtp) (hM : amMet y ccy nLy rty Fy Ly encV (.ref (rid q r) :: As) m1) (hq : q < 250) (hk : am_pk q = 0) (h0 : r ≠ 0) (hrc : ∀ c ∈ am_kl q, ∃ (C1 : String) (T1 : u_T) (N1 : Nat), am_cl[c]? = some (C1, T1, N1) ∧ C1 = y.cls) (hl2 : Cond.methodLinkNest own idx y host ∈ lw_tbl) (hi1 : Cond.instanceMethod y ∈ lw_all) (hse : Cond.selects y.cls y y ∈ lw_all) (hi2 : Cond.initialized y.cls ∈ lw_all) (hco : Cond.code y ccy nLy rty ∈ lw_all) (hd : y.cls ≠ "java/lang/invoke/MethodHandle" ∧ y.cls ≠ "java/lang/invoke/VarHandle" ∧ (parseMethodDescriptor y.desc).map (fun d => d.parameters.length) = some n) (hn : As.length = n) (hF : Fy + 1 ≤ F) (hLo : 8 + (nLy + 11) + Ly ≤ L) (hw : (rest.map fun v => v.category).sum ≤ 8) (hst : st0 = As.reverse ++ .ref (rid q r) :: rest) (hdg : decode cc pc = .ok (.invokevirtual idx, 3)) (k : WG X enc (pc + 3) l (rest) (g ())) : WG X enc pc l st0 (bd1 m1 g) :=
  wg_cVN hX hM hq hk h0 hrc hl2 hi1 hse hi2 hco hd hn hF hLo hw hst hdg (fun a => k)
theorem wg_cVNd {m1 : am1 UInt64} {g : UInt64 → am1 β} {q r idx n nLy Fy Ly : Nat} {y : MethodName} {ccy : ByteArray} {rty : Option FieldType} {As rest st0 : List Value} {host : String} (hX : amOK X cc own nL F L rtp) (hM : amMet y ccy nLy rty Fy Ly encD (.ref (rid q r) :: As) m1) (hq : q < 250) (hk : am_pk q = 0) (h0 : r ≠ 0) (hrc : ∀ c ∈ am_kl q, ∃ (C1 : String) (T1 : u_T) (N1 : Nat), am_cl[c]? = some (C1, T1, N1) ∧ C1 = y.cls) (hl2 : Cond.methodLinkNest own idx y host ∈ lw_tbl) (hi1 : Cond.instanceMethod y ∈ lw_all) (hse : Cond.selects y.cls y y ∈ lw_all) (hi2 : Cond.initialized y.cls ∈ lw_all) (hco : Cond.code y ccy nLy rty ∈ lw_all) (hd : y.cls ≠ "java/lang/invoke/MethodHandle" ∧ y.cls ≠ "java/lang/invoke/VarHandle" ∧ (parseMethodDescriptor y.desc).map (fun d => d.parameters.length) = some n) (hn : As.length = n) (hF : Fy + 1 ≤ F) (hLo : 8 + (nLy + 11) + Ly ≤ L) (hw : (rest.map fun v => v.category).sum ≤ 8) (hst : st0 = As.reverse ++ .ref (rid q r) :: rest) (hdg : decode cc pc = .ok (.invokevirtual idx, 3)) (k : ∀ a : UInt64, WG X enc (pc + 3) l (.double a :: rest) (g a)) : WG X enc pc l st0 (bd1 m1 g) :=
  wg_cVN hX hM hq hk h0 hrc hl2 hi1 hse hi2 hco hd hn hF hLo hw hst hdg (fun a => k a)
theorem wg_cVNl {m1 : am1 Int64} {g : Int64 → am1 β} {q r idx n nLy Fy Ly : Nat} {y : MethodName} {ccy : ByteArray} {rty : Option FieldType} {As rest st0 : List Value} {host : String} (hX : amOK X cc own nL F L rtp) (hM : amMet y ccy nLy rty Fy Ly encJ (.ref (rid q r) :: As) m1) (hq : q < 250) (hk : am_pk q = 0) (h0 : r ≠ 0) (hrc : ∀ c ∈ am_kl q, ∃ (C1 : String) (T1 : u_T) (N1 : Nat), am_cl[c]? = some (C1, T1, N1) ∧ C1 = y.cls) (hl2 : Cond.methodLinkNest own idx y host ∈ lw_tbl) (hi1 : Cond.instanceMethod y ∈ lw_all) (hse : Cond.selects y.cls y y ∈ lw_all) (hi2 : Cond.initialized y.cls ∈ lw_all) (hco : Cond.code y ccy nLy rty ∈ lw_all) (hd : y.cls ≠ "java/lang/invoke/MethodHandle" ∧ y.cls ≠ "java/lang/invoke/VarHandle" ∧ (parseMethodDescriptor y.desc).map (fun d => d.parameters.length) = some n) (hn : As.length = n) (hF : Fy + 1 ≤ F) (hLo : 8 + (nLy + 11) + Ly ≤ L) (hw : (rest.map fun v => v.category).sum ≤ 8) (hst : st0 = As.reverse ++ .ref (rid q r) :: rest) (hdg : decode cc pc = .ok (.invokevirtual idx, 3)) (k : ∀ a : Int64, WG X enc (pc + 3) l (.long a :: rest) (g a)) : WG X enc pc l st0 (bd1 m1 g) :=
  wg_cVN hX hM hq hk h0 hrc hl2 hi1 hse hi2 hco hd hn hF hLo hw hst hdg (fun a => k a)
theorem wg_cVNr {m1 : am1 Nat} {g : Nat → am1 β} {q r idx n nLy Fy Ly t : Nat} {y : MethodName} {ccy : ByteArray} {rty : Option FieldType} {As rest st0 : List Value} {host : String} (hX : amOK X cc own nL F L rtp) (hM : amMet y ccy nLy rty Fy Ly (encR t) (.ref (rid q r) :: As) m1) (hq : q < 250) (hk : am_pk q = 0) (h0 : r ≠ 0) (hrc : ∀ c ∈ am_kl q, ∃ (C1 : String) (T1 : u_T) (N1 : Nat), am_cl[c]? = some (C1, T1, N1) ∧ C1 = y.cls) (hl2 : Cond.methodLinkNest own idx y host ∈ lw_tbl) (hi1 : Cond.instanceMethod y ∈ lw_all) (hse : Cond.selects y.cls y y ∈ lw_all) (hi2 : Cond.initialized y.cls ∈ lw_all) (hco : Cond.code y ccy nLy rty ∈ lw_all) (hd : y.cls ≠ "java/lang/invoke/MethodHandle" ∧ y.cls ≠ "java/lang/invoke/VarHandle" ∧ (parseMethodDescriptor y.desc).map (fun d => d.parameters.length) = some n) (hn : As.length = n) (hF : Fy + 1 ≤ F) (hLo : 8 + (nLy + 11) + Ly ≤ L) (hw : (rest.map fun v => v.category).sum ≤ 8) (hst : st0 = As.reverse ++ .ref (rid q r) :: rest) (hdg : decode cc pc = .ok (.invokevirtual idx, 3)) (k : ∀ a : Nat, WG X enc (pc + 3) l (.ref (rid t a) :: rest) (g a)) : WG X enc pc l st0 (bd1 m1 g) :=
  wg_cVN hX hM hq hk h0 hrc hl2 hi1 hse hi2 hco hd hn hF hLo hw hst hdg (fun a => k a)
theorem wg_cSNi {m1 : am1 Int32} {g : Int32 → am1 β} {idx n nLy Fy Ly : Nat} {y : MethodName} {ccy : ByteArray} {rty : Option FieldType} {As rest st0 : List Value} {host : String} (hX : amOK X cc own nL F L rtp) (hM : amMet y ccy nLy rty Fy Ly encI As m1) (hl2 : Cond.methodLinkNest own idx y host ∈ lw_tbl) (hst2 : Cond.static y ∈ lw_all) (hi2 : Cond.initialized y.cls ∈ lw_all) (hco : Cond.code y ccy nLy rty ∈ lw_all) (hd : y.cls ≠ "java/lang/invoke/MethodHandle" ∧ y.cls ≠ "java/lang/invoke/VarHandle" ∧ (parseMethodDescriptor y.desc).map (fun d => d.parameters.length) = some n) (hn : As.length = n) (hF : Fy + 1 ≤ F) (hLo : 8 + (nLy + 11) + Ly ≤ L) (hw : (rest.map fun v => v.category).sum ≤ 8) (hst : st0 = As.reverse ++ rest) (hdg : decode cc pc = .ok (.invokestatic idx, 3)) (k : ∀ a : Int32, WG X enc (pc + 3) l (.int a :: rest) (g a)) : WG X enc pc l st0 (bd1 m1 g) :=
  wg_cSN hX hM hl2 hst2 hi2 hco hd hn hF hLo hw hst hdg (fun a => k a)
theorem wg_cSNv {m1 : am1 Unit} {g : Unit → am1 β} {idx n nLy Fy Ly : Nat} {y : MethodName} {ccy : ByteArray} {rty : Option FieldType} {As rest st0 : List Value} {host : String} (hX : amOK X cc own nL F L rtp) (hM : amMet y ccy nLy rty Fy Ly encV As m1) (hl2 : Cond.methodLinkNest own idx y host ∈ lw_tbl) (hst2 : Cond.static y ∈ lw_all) (hi2 : Cond.initialized y.cls ∈ lw_all) (hco : Cond.code y ccy nLy rty ∈ lw_all) (hd : y.cls ≠ "java/lang/invoke/MethodHandle" ∧ y.cls ≠ "java/lang/invoke/VarHandle" ∧ (parseMethodDescriptor y.desc).map (fun d => d.parameters.length) = some n) (hn : As.length = n) (hF : Fy + 1 ≤ F) (hLo : 8 + (nLy + 11) + Ly ≤ L) (hw : (rest.map fun v => v.category).sum ≤ 8) (hst : st0 = As.reverse ++ rest) (hdg : decode cc pc = .ok (.invokestatic idx, 3)) (k : WG X enc (pc + 3) l (rest) (g ())) : WG X enc pc l st0 (bd1 m1 g) :=
  wg_cSN hX hM hl2 hst2 hi2 hco hd hn hF hLo hw hst hdg (fun a => k)
theorem wg_cSNd {m1 : am1 UInt64} {g : UInt64 → am1 β} {idx n nLy Fy Ly : Nat} {y : MethodName} {ccy : ByteArray} {rty : Option FieldType} {As rest st0 : List Value} {host : String} (hX : amOK X cc own nL F L rtp) (hM : amMet y ccy nLy rty Fy Ly encD As m1) (hl2 : Cond.methodLinkNest own idx y host ∈ lw_tbl) (hst2 : Cond.static y ∈ lw_all) (hi2 : Cond.initialized y.cls ∈ lw_all) (hco : Cond.code y ccy nLy rty ∈ lw_all) (hd : y.cls ≠ "java/lang/invoke/MethodHandle" ∧ y.cls ≠ "java/lang/invoke/VarHandle" ∧ (parseMethodDescriptor y.desc).map (fun d => d.parameters.length) = some n) (hn : As.length = n) (hF : Fy + 1 ≤ F) (hLo : 8 + (nLy + 11) + Ly ≤ L) (hw : (rest.map fun v => v.category).sum ≤ 8) (hst : st0 = As.reverse ++ rest) (hdg : decode cc pc = .ok (.invokestatic idx, 3)) (k : ∀ a : UInt64, WG X enc (pc + 3) l (.double a :: rest) (g a)) : WG X enc pc l st0 (bd1 m1 g) :=
  wg_cSN hX hM hl2 hst2 hi2 hco hd hn hF hLo hw hst hdg (fun a => k a)
theorem wg_cSNl {m1 : am1 Int64} {g : Int64 → am1 β} {idx n nLy Fy Ly : Nat} {y : MethodName} {ccy : ByteArray} {rty : Option FieldType} {As rest st0 : List Value} {host : String} (hX : amOK X cc own nL F L rtp) (hM : amMet y ccy nLy rty Fy Ly encJ As m1) (hl2 : Cond.methodLinkNest own idx y host ∈ lw_tbl) (hst2 : Cond.static y ∈ lw_all) (hi2 : Cond.initialized y.cls ∈ lw_all) (hco : Cond.code y ccy nLy rty ∈ lw_all) (hd : y.cls ≠ "java/lang/invoke/MethodHandle" ∧ y.cls ≠ "java/lang/invoke/VarHandle" ∧ (parseMethodDescriptor y.desc).map (fun d => d.parameters.length) = some n) (hn : As.length = n) (hF : Fy + 1 ≤ F) (hLo : 8 + (nLy + 11) + Ly ≤ L) (hw : (rest.map fun v => v.category).sum ≤ 8) (hst : st0 = As.reverse ++ rest) (hdg : decode cc pc = .ok (.invokestatic idx, 3)) (k : ∀ a : Int64, WG X enc (pc + 3) l (.long a :: rest) (g a)) : WG X enc pc l st0 (bd1 m1 g) :=
  wg_cSN hX hM hl2 hst2 hi2 hco hd hn hF hLo hw hst hdg (fun a => k a)
theorem wg_cSNr {m1 : am1 Nat} {g : Nat → am1 β} {idx n nLy Fy Ly t : Nat} {y : MethodName} {ccy : ByteArray} {rty : Option FieldType} {As rest st0 : List Value} {host : String} (hX : amOK X cc own nL F L rtp) (hM : amMet y ccy nLy rty Fy Ly (encR t) As m1) (hl2 : Cond.methodLinkNest own idx y host ∈ lw_tbl) (hst2 : Cond.static y ∈ lw_all) (hi2 : Cond.initialized y.cls ∈ lw_all) (hco : Cond.code y ccy nLy rty ∈ lw_all) (hd : y.cls ≠ "java/lang/invoke/MethodHandle" ∧ y.cls ≠ "java/lang/invoke/VarHandle" ∧ (parseMethodDescriptor y.desc).map (fun d => d.parameters.length) = some n) (hn : As.length = n) (hF : Fy + 1 ≤ F) (hLo : 8 + (nLy + 11) + Ly ≤ L) (hw : (rest.map fun v => v.category).sum ≤ 8) (hst : st0 = As.reverse ++ rest) (hdg : decode cc pc = .ok (.invokestatic idx, 3)) (k : ∀ a : Nat, WG X enc (pc + 3) l (.ref (rid t a) :: rest) (g a)) : WG X enc pc l st0 (bd1 m1 g) :=
  wg_cSN hX hM hl2 hst2 hi2 hco hd hn hF hLo hw hst hdg (fun a => k a)
theorem wg_mmax {idx : Nat} {x y : Int32} {P : am1 β} (hX : amOK X cc own nL F L rtp) (h1 : Cond.methodLink own idx Lib.Math.max.name ∈ lw_all) (h2 : Cond.static Lib.Math.max.name ∈ lw_all) (h3 : Cond.initialized "java/lang/Math" ∈ lw_all) (h4 : Cond.code Lib.Math.max.name Lib.Math.max.code 2 (some .int) ∈ lw_all) (hF : 1 ≤ F) (hL : (st.map fun v => v.category).sum + 15 ≤ L) (hdg : decode cc pc = .ok (.invokestatic idx, 3)) (k : WG X enc (pc + 3) l (.int (if x < y then y else x) :: st) P) : WG X enc pc l (.int y :: .int x :: st) P := by
  obtain ⟨⟨p, lc, e, R, s⟩, ⟨m, args, below, meth, c⟩, ⟨D, dA, ad0, φ0, A⟩, ⟨Q, fin⟩⟩ := X
  intro φ S b φ' S' kc ks hP hf ad H locs cells slots ls hI hc hs hv hvl hl
  obtain ⟨hx, hb, hml, hown, hts, hlk, hRf, hRl, hKK, hA, hrt, hQ, hlc, hCo⟩ := hX
  subst hRf
  subst hRl
  exact va_mmax hx hb hl.1.symm hown (hts _ h1) (hts _ h2) (hts _ h3) (hts _ h4) hF (by rw [am_cats]; omega) (by omega) (by omega) hdg (k φ S b φ' S' kc ks hP hf ad H locs cells slots ls hI hc hs ⟨trivial, hv.2.2⟩ hvl hl)
theorem wg_mmin {idx : Nat} {x y : Int32} {P : am1 β} (hX : amOK X cc own nL F L rtp) (h1 : Cond.methodLink own idx Lib.Math.min.name ∈ lw_all) (h2 : Cond.static Lib.Math.min.name ∈ lw_all) (h3 : Cond.initialized "java/lang/Math" ∈ lw_all) (h4 : Cond.code Lib.Math.min.name Lib.Math.min.code 2 (some .int) ∈ lw_all) (hF : 1 ≤ F) (hL : (st.map fun v => v.category).sum + 15 ≤ L) (hdg : decode cc pc = .ok (.invokestatic idx, 3)) (k : WG X enc (pc + 3) l (.int (if y < x then y else x) :: st) P) : WG X enc pc l (.int y :: .int x :: st) P := by
  obtain ⟨⟨p, lc, e, R, s⟩, ⟨m, args, below, meth, c⟩, ⟨D, dA, ad0, φ0, A⟩, ⟨Q, fin⟩⟩ := X
  intro φ S b φ' S' kc ks hP hf ad H locs cells slots ls hI hc hs hv hvl hl
  obtain ⟨hx, hb, hml, hown, hts, hlk, hRf, hRl, hKK, hA, hrt, hQ, hlc, hCo⟩ := hX
  subst hRf
  subst hRl
  exact va_mmin hx hb hl.1.symm hown (hts _ h1) (hts _ h2) (hts _ h3) (hts _ h4) hF (by rw [am_cats]; omega) (by omega) (by omega) hdg (k φ S b φ' S' kc ks hP hf ad H locs cells slots ls hI hc hs ⟨trivial, hv.2.2⟩ hvl hl)
theorem wg_mmaxl {idx : Nat} {x y : Int64} {P : am1 β} (hX : amOK X cc own nL F L rtp) (h1 : Cond.methodLink own idx Lib.MathLoose.max_long.x ∈ lw_all) (h2 : Cond.static Lib.MathLoose.max_long.x ∈ lw_all) (h3 : Cond.initialized "java/lang/Math" ∈ lw_all) (h4 : Cond.code Lib.MathLoose.max_long.x Lib.MathLoose.max_long.code 4 (some .long) ∈ lw_all) (hF : 1 ≤ F) (hL : (st.map fun v => v.category).sum + 15 ≤ L) (hdg : decode cc pc = .ok (.invokestatic idx, 3)) (k : WG X enc (pc + 3) l (.long (if y < x then x else y) :: st) P) : WG X enc pc l (.long y :: .long x :: st) P := by
  obtain ⟨⟨p, lc, e, R, s⟩, ⟨m, args, below, meth, c⟩, ⟨D, dA, ad0, φ0, A⟩, ⟨Q, fin⟩⟩ := X
  intro φ S b φ' S' kc ks hP hf ad H locs cells slots ls hI hc hs hv hvl hl
  obtain ⟨hx, hb, hml, hown, hts, hlk, hRf, hRl, hKK, hA, hrt, hQ, hlc, hCo⟩ := hX
  subst hRf
  subst hRl
  exact va_mmax_long hx hb hl.1.symm hown (hts _ h1) (hts _ h2) (hts _ h3) (hts _ h4) hF (by rw [am_cats]; omega) (by omega) (by omega) hdg (k φ S b φ' S' kc ks hP hf ad H locs cells slots ls hI hc hs ⟨trivial, hv.2.2⟩ hvl hl)
theorem wg_mminl {idx : Nat} {x y : Int64} {P : am1 β} (hX : amOK X cc own nL F L rtp) (h1 : Cond.methodLink own idx Lib.MathLoose.min_long.x ∈ lw_all) (h2 : Cond.static Lib.MathLoose.min_long.x ∈ lw_all) (h3 : Cond.initialized "java/lang/Math" ∈ lw_all) (h4 : Cond.code Lib.MathLoose.min_long.x Lib.MathLoose.min_long.code 4 (some .long) ∈ lw_all) (hF : 1 ≤ F) (hL : (st.map fun v => v.category).sum + 15 ≤ L) (hdg : decode cc pc = .ok (.invokestatic idx, 3)) (k : WG X enc (pc + 3) l (.long (if y < x then y else x) :: st) P) : WG X enc pc l (.long y :: .long x :: st) P := by
  obtain ⟨⟨p, lc, e, R, s⟩, ⟨m, args, below, meth, c⟩, ⟨D, dA, ad0, φ0, A⟩, ⟨Q, fin⟩⟩ := X
  intro φ S b φ' S' kc ks hP hf ad H locs cells slots ls hI hc hs hv hvl hl
  obtain ⟨hx, hb, hml, hown, hts, hlk, hRf, hRl, hKK, hA, hrt, hQ, hlc, hCo⟩ := hX
  subst hRf
  subst hRl
  exact va_mmin_long hx hb hl.1.symm hown (hts _ h1) (hts _ h2) (hts _ h3) (hts _ h4) hF (by rw [am_cats]; omega) (by omega) (by omega) hdg (k φ S b φ' S' kc ks hP hf ad H locs cells slots ls hI hc hs ⟨trivial, hv.2.2⟩ hvl hl)
end am17
