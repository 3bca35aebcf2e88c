/-! the programs of the methods (printed by gen/build.py) -/
def p_X1_in (a1 : Int32) (a2 : Int32) (a3 : Int32) : am0 Int32 :=
jn (fun (z1 : Unit) => rt 0) fun (k1 : Unit → am0 (Int32)) =>
if a1 < a2 then (k1 ()) else
if a3 < a1 then (k1 ()) else
rt 1
def p_X1_isCrew (a1 : Int32) : am0 Int32 :=
bd (gI 0 1 13) fun v1 =>
bd (p_X1_in a1 0 (v1 - 1)) fun v2 =>
bd (zg v2) fun _ => rt v2
def p_X1_numberOf_L2 (a1 : Nat) (rec1 : Int32 → am0 Int32) (x1 : Int32) : am0 Int32 :=
bd (gI 0 1 6) fun v2 =>
if v2 ≤ x1 then (rt (-1)) else
bd (rR 24 1 x1) fun r4 =>
if r4 = a1 then (rt x1) else
rec1 (x1 + 1)
def p_X1_numberOf (a1 : Nat) : am0 Int32 :=
bd (gM) fun _ =>
alp (p_X1_numberOf_L2 a1) amFu 0
def p_X8_best (r0 : Nat) : am0 Int32 :=
bd (gI 6 r0 2) fun v1 =>
rt v1
def p_X28_slow (r0 : Nat) (a1 : Int32) : am0 Int32 :=
bd (vc 6 r0 (fun c => if c = 6 then p_X8_best r0 else if c = 7 then p_X8_best r0 else if c = 8 then p_X8_best r0 else if c = 9 then p_X8_best r0 else fl0)) fun v2 =>
rt v2
def p_X8_slow (r0 : Nat) (a1 : Int32) : am0 Int32 :=
bd (gI 6 r0 4) fun v1 =>
if v1 = 0 then (bd (nn r0) fun _ =>
bd (p_X28_slow r0 a1) fun v4 =>
rt v4) else
bd (gI 6 r0 2) fun v5 =>
rt (v5 + (a1 / 3))
def p_X8_slowNow (r0 : Nat) : am0 Int32 :=
bd (gI 6 r0 10) fun v1 =>
bd (vc 6 r0 (fun c => if c = 6 then p_X8_slow r0 v1 else if c = 7 then p_X8_slow r0 v1 else if c = 8 then p_X8_slow r0 v1 else if c = 9 then p_X8_slow r0 v1 else fl0)) fun v3 =>
rt v3
def p_X1_isCorner (a1 : Int32) : am0 Int32 :=
bd (p_X1_in a1 0 19) fun v1 =>
bd (zg v1) fun _ => rt v1
def p_X4_init (r0 : Nat) (a1 : Int32) (a2 : Int32) (a3 : Int32) : am1 Unit :=
bd1 (up (nn r0)) fun _ =>
bd1 (nwA 142 4) fun r2 =>
bd1 (up (wI 142 r2 0 100)) fun _ =>
bd1 (up (wI 142 r2 1 100)) fun _ =>
bd1 (up (wI 142 r2 2 100)) fun _ =>
bd1 (up (wI 142 r2 3 100)) fun _ =>
bd1 (pC 2 r0 0 r0 r2) fun _ =>
bd1 (up (pI 2 r0 0 a1)) fun _ =>
bd1 (up (pI 2 r0 1 a2)) fun _ =>
bd1 (up (pI 2 r0 2 a3)) fun _ =>
rt1 ()
def p_X1_street (a1 : Int32) (a2 : Int32) (a3 : Int32) : am1 Int32 :=
bd1 (up (gM)) fun _ =>
bd1 (up (p_X1_isCorner a1)) fun v1 =>
if v1 = 0 then (rt1 (-1)) else
bd1 (up (p_X1_isCorner a2)) fun v3 =>
if v3 = 0 then (rt1 (-1)) else
if a1 = a2 then (rt1 (-1)) else
bd1 (up (p_X1_in a3 1 20)) fun v6 =>
if v6 = 0 then (rt1 (-1)) else
bd1 (up (gI 0 1 2)) fun v8 =>
if v8 = 40 then (rt1 (-1)) else
bd1 (up (gI 0 1 2)) fun v10 =>
bd1 (nw 2 2 5) fun r11 =>
bd1 (up (nn r11)) fun _ =>
bd1 (p_X4_init r11 a1 a2 a3) fun _ =>
bd1 (up (wR 20 1 v10 r11)) fun _ =>
bd1 (up (gI 0 1 2)) fun v13 =>
bd1 (up (pI 0 1 2 (v13 + 1))) fun _ =>
bd1 (up (gI 0 1 2)) fun v14 =>
rt1 (v14 - 1)
def p_X1_isStreet (a1 : Int32) : am0 Int32 :=
bd (gI 0 1 2) fun v1 =>
bd (p_X1_in a1 0 (v1 - 1)) fun v2 =>
bd (zg v2) fun _ => rt v2
def p_X1_jam (a1 : Int32) (a2 : Int32) (a3 : Int32) : am0 Int32 :=
bd (gM) fun _ =>
bd (p_X1_isStreet a1) fun v1 =>
if v1 = 0 then (rt 0) else
bd (p_X1_in a2 0 3) fun v3 =>
if v3 = 0 then (rt 0) else
bd (p_X1_in a3 100 400) fun v5 =>
if v5 = 0 then (rt 0) else
bd (rR 20 1 a1) fun r7 =>
bd (gC 2 r7 0) fun _ =>
bd (wI 142 r7 a2 a3) fun _ =>
rt 1
def p_X1_closed (a1 : Int32) (a2 : Int32) : am0 Int32 :=
bd (gM) fun _ =>
bd (p_X1_isStreet a1) fun v1 =>
if v1 = 0 then (rt 0) else
bd (rR 20 1 a1) fun r3 =>
bd (gI 2 r3 4) fun v4 =>
if v4 = a2 then (rt 0) else
bd (rR 20 1 a1) fun r6 =>
bd (zg a2) fun _ =>
bd (pI 2 r6 4 a2) fun _ =>
rt 1
def p_J3_fill_L5 (a1 : Nat) (a2 : Int32) (rec2 : Int32 → am0 (Unit)) (x2 : Int32) : am0 (Unit) :=
if 20 ≤ x2 then (rt ()) else
bd (zg a2) fun _ =>
bd (wI 21 a1 x2 a2) fun _ =>
rec2 (x2 + 1)
def p_J3_fill (a1 : Nat) (a2 : Int32) : am0 Unit :=
bd (nn a1) fun _ =>
bd (alp (p_J3_fill_L5 a1 a2) amFu 0) fun (y3 : Unit) =>
rt ()
def p_X1_partOf (a1 : Int32) : am0 Int32 :=
rt ((a1 / 360) - (a1 / 360) / 4 * 4)
def p_X4_minutes (r0 : Nat) (a1 : Int32) (a2 : Int32) : am0 Int32 :=
bd (gI 2 r0 2) fun v1 =>
bd (gC 2 r0 0) fun _ =>
bd (p_X1_partOf a1) fun v2 =>
bd (rI 142 r0 v2) fun v3 =>
rt ((((v1 * v3) * a2) + 9999) / 10000)
def p_X1_pass (a1 : Nat) (a2 : Int32) (a3 : Int32) (a4 : Int32) : am0 Unit :=
bd (gM) fun _ =>
bd (rG 22 1 a2) fun r1 =>
bd (gI 2 a1 0) fun v2 =>
bd (rI 21 r1 v2) fun v3 =>
jn (fun (z4 : Unit) => bd (nn a1) fun _ =>
bd (p_X4_minutes a1 (a3 + a2) a4) fun v11 =>
bd (rt (a2 + v11)) fun v12 =>
if v12 ≤ 600 then (bd (rG 22 1 a2) fun r14 =>
bd (gI 2 a1 0) fun v15 =>
bd (rI 21 r14 v15) fun v16 =>
bd (if v16 = 0 then (rt ()) else
bd (rG 22 1 v12) fun r19 =>
bd (gI 2 a1 1) fun v20 =>
bd (wI 21 r19 v20 1) fun _ =>
rt ()) fun (z17 : Unit) =>
bd (rG 22 1 a2) fun r21 =>
bd (gI 2 a1 1) fun v22 =>
bd (rI 21 r21 v22) fun v23 =>
if v23 = 0 then (rt ()) else
bd (rG 22 1 v12) fun r25 =>
bd (gI 2 a1 0) fun v26 =>
bd (wI 21 r25 v26 1) fun _ =>
rt ()) else
rt ()) fun (k4 : Unit → am0 (Unit)) =>
if v3 = 0 then (bd (rG 22 1 a2) fun r6 =>
bd (gI 2 a1 1) fun v7 =>
bd (rI 21 r6 v7) fun v8 =>
if v8 = 0 then (rt ()) else
k4 ()) else
k4 ()
def p_X1_comeOn_L14  (rec1 : Int32 → am0 (Unit)) (x1 : Int32) : am0 (Unit) :=
if 601 ≤ x1 then (rt ()) else
bd (rG 22 1 x1) fun r4 =>
bd (p_J3_fill r4 0) fun _ =>
rec1 (x1 + 1)
def p_X1_comeOn_L80 (a3 : Int32) (a4 : Int32) (x6 : Int32) (rec11 : Int32 → am0 (Unit)) (x11 : Int32) : am0 (Unit) :=
bd (gI 0 1 2) fun v13 =>
if v13 ≤ x11 then (rt ()) else
bd (rR 20 1 x11) fun r15 =>
bd (gI 2 r15 4) fun v16 =>
bd (if v16 = 0 then (bd (rR 20 1 x11) fun r19 =>
bd (p_X1_pass r19 x6 a3 a4) fun _ =>
rt ()) else
rt ()) fun (z17 : Unit) =>
rec11 (x11 + 1)
def p_X1_comeOn_L52 (a2 : Int32) (a3 : Int32) (a4 : Int32) (rec6 : Int32 → am0 Int32) (x6 : Int32) : am0 Int32 :=
if 600 < x6 then (rt (-1)) else
bd (rG 22 1 x6) fun r8 =>
bd (rI 21 r8 a2) fun v9 =>
if v9 = 0 then (bd (alp (p_X1_comeOn_L80 a3 a4 x6) amFu 0) fun (y12 : Unit) =>
rec6 (x6 + 1)) else
rt (a3 + x6)
def p_X1_comeOn (a1 : Int32) (a2 : Int32) (a3 : Int32) (a4 : Int32) : am0 Int32 :=
bd (gM) fun _ =>
bd (alp (p_X1_comeOn_L14) amFu 0) fun (y2 : Unit) =>
bd (rG 22 1 0) fun r5 =>
bd (wI 21 r5 a1 1) fun _ =>
alp (p_X1_comeOn_L52 a2 a3 a4) amFu 0
def p_X1_come (a1 : Int32) (a2 : Int32) (a3 : Int32) (a4 : Int32) : am0 Int32 :=
bd (p_X1_isCorner a1) fun v1 =>
jn (fun (z2 : Unit) => rt (-1)) fun (k2 : Unit → am0 (Int32)) =>
if v1 = 0 then (k2 ()) else
bd (p_X1_isCorner a2) fun v4 =>
if v4 = 0 then (k2 ()) else
bd (p_X1_in a3 0 30000) fun v6 =>
if v6 = 0 then (k2 ()) else
bd (p_X1_in a4 50 300) fun v8 =>
if v8 = 0 then (k2 ()) else
bd (p_X1_comeOn a1 a2 a3 a4) fun v10 =>
rt v10
def p_X1_stroll_L2 (a1 : Int32) (rec1 : Int32 → am0 (Unit)) (x1 : Int32) : am0 (Unit) :=
if 20 ≤ x1 then (rt ()) else
bd (if x1 = a1 then (rt 0) else
rt 1000000000) fun (z4 : Int32) =>
bd (wI 23 1 x1 z4) fun _ =>
rec1 (x1 + 1)
def p_X1_stroll_L41  (rec9 : (Int32 × Int32) → am0 (Int32)) (x9 : Int32 × Int32) : am0 (Int32) :=
bd (gI 0 1 2) fun v11 =>
if v11 ≤ x9.2 then (rt x9.1) else
bd (rR 20 1 x9.2) fun r13 =>
bd (gI 2 r13 0) fun v14 =>
bd (rI 23 1 v14) fun v15 =>
bd (gI 2 r13 2) fun v16 =>
bd (gI 2 r13 1) fun v17 =>
bd (rI 23 1 v17) fun v18 =>
bd (if v18 ≤ (v15 + v16) then (rt x9.1) else
bd (gI 2 r13 1) fun v21 =>
bd (gI 2 r13 0) fun v22 =>
bd (rI 23 1 v22) fun v23 =>
bd (gI 2 r13 2) fun v24 =>
bd (wI 23 1 v21 (v23 + v24)) fun _ =>
rt 1) fun (z19 : Int32) =>
bd (gI 2 r13 1) fun v25 =>
bd (rI 23 1 v25) fun v26 =>
bd (gI 2 r13 2) fun v27 =>
bd (gI 2 r13 0) fun v28 =>
bd (rI 23 1 v28) fun v29 =>
bd (if v29 ≤ (v26 + v27) then (rt z19) else
bd (gI 2 r13 0) fun v32 =>
bd (gI 2 r13 1) fun v33 =>
bd (rI 23 1 v33) fun v34 =>
bd (gI 2 r13 2) fun v35 =>
bd (wI 23 1 v32 (v34 + v35)) fun _ =>
rt 1) fun (z30 : Int32) =>
rec9 (z30, (x9.2 + 1))
def p_X1_stroll_L33  (rec6 : Int32 → am0 (Unit)) (x6 : Int32) : am0 (Unit) :=
if x6 = 0 then (rt ()) else
bd (alp (p_X1_stroll_L41) amFu (0, 0)) fun (y10 : Int32) =>
rec6 y10
def p_X1_stroll (a1 : Int32) : am0 Unit :=
bd (gM) fun _ =>
bd (alp (p_X1_stroll_L2 a1) amFu 0) fun (y2 : Unit) =>
bd (alp (p_X1_stroll_L33) amFu 1) fun (y7 : Unit) =>
rt ()
def p_X1_walkOf (a1 : Int32) (a2 : Int32) : am0 Int32 :=
bd (gM) fun _ =>
bd (p_X1_stroll a1) fun _ =>
bd (rI 23 1 a2) fun v1 =>
rt v1
def p_X1_feet (a1 : Int32) (a2 : Int32) : am0 Int32 :=
bd (p_X1_isCorner a1) fun v1 =>
if v1 = 0 then (rt (-1)) else
bd (p_X1_isCorner a2) fun v3 =>
if v3 = 0 then (rt (-1)) else
bd (p_X1_walkOf a1 a2) fun v5 =>
if v5 = 1000000000 then (rt (-1)) else
rt (100 * v5)
def p_X6_init (r0 : Nat) : am1 Unit :=
bd1 (up (nn r0)) fun _ =>
bd1 (nwA 145 24) fun r2 =>
bd1 (pC 4 r0 0 r0 r2) fun _ =>
bd1 (nwA 146 24) fun r3 =>
bd1 (pC 4 r0 1 r0 r3) fun _ =>
bd1 (nwA 147 24) fun r4 =>
bd1 (pC 4 r0 2 r0 r4) fun _ =>
bd1 (nwA 148 6) fun r5 =>
bd1 (pC 4 r0 3 r0 r5) fun _ =>
bd1 (nwA 149 6) fun r6 =>
bd1 (pC 4 r0 4 r0 r6) fun _ =>
bd1 (nwA 150 24) fun r7 =>
bd1 (pC 4 r0 5 r0 r7) fun _ =>
bd1 (nwA 151 24) fun r8 =>
bd1 (pC 4 r0 6 r0 r8) fun _ =>
rt1 ()
def p_X5_init (r0 : Nat) (a1 : Int32) (a2 : Int32) (a3 : Int32) (a4 : Int32) (a5 : Int32) : am1 Unit :=
bd1 (up (nn r0)) fun _ =>
bd1 (up (pI 3 r0 7 1)) fun _ =>
bd1 (nwA 143 6) fun r2 =>
bd1 (pC 3 r0 0 r0 r2) fun _ =>
bd1 (nwA 144 6) fun r3 =>
bd1 (pC 3 r0 1 r0 r3) fun _ =>
bd1 (nw 4 4 7) fun r4 =>
bd1 (up (nn r4)) fun _ =>
bd1 (p_X6_init r4) fun _ =>
bd1 (pC 3 r0 2 (2 * r0 - 1) r4) fun _ =>
bd1 (nw 4 4 7) fun r6 =>
bd1 (up (nn r6)) fun _ =>
bd1 (p_X6_init r6) fun _ =>
bd1 (pC 3 r0 3 (2 * r0) r6) fun _ =>
bd1 (up (pI 3 r0 0 a1)) fun _ =>
bd1 (up (pI 3 r0 1 a2)) fun _ =>
bd1 (up (pI 3 r0 2 a3)) fun _ =>
bd1 (up (pI 3 r0 3 a4)) fun _ =>
bd1 (up (pI 3 r0 4 a5)) fun _ =>
rt1 ()
def p_X1_house (a1 : Int32) (a2 : Int32) (a3 : Int32) (a4 : Int32) (a5 : Int32) : am1 Int32 :=
bd1 (up (gM)) fun _ =>
bd1 (up (p_X1_isCorner a1)) fun v1 =>
if v1 = 0 then (rt1 (-1)) else
bd1 (up (p_X1_in a2 0 2)) fun v3 =>
if v3 = 0 then (rt1 (-1)) else
bd1 (up (p_X1_in a3 1 6)) fun v5 =>
if v5 = 0 then (rt1 (-1)) else
bd1 (up (p_X1_in a4 1 4)) fun v7 =>
if v7 = 0 then (rt1 (-1)) else
bd1 (up (p_X1_in a5 (-1) (a4 - 1))) fun v9 =>
if v9 = 0 then (rt1 (-1)) else
bd1 (up (gI 0 1 6)) fun v11 =>
if v11 = 12 then (rt1 (-1)) else
bd1 (up (gI 0 1 6)) fun v13 =>
bd1 (nw 3 3 16) fun r14 =>
bd1 (up (nn r14)) fun _ =>
bd1 (p_X5_init r14 a1 a2 a3 a4 a5) fun _ =>
bd1 (up (wR 24 1 v13 r14)) fun _ =>
bd1 (up (gI 0 1 6)) fun v16 =>
bd1 (up (pI 0 1 6 (v16 + 1))) fun _ =>
bd1 (up (gI 0 1 6)) fun v17 =>
rt1 (v17 - 1)
def p_X1_isHouse (a1 : Int32) : am0 Int32 :=
bd (gI 0 1 6) fun v1 =>
bd (p_X1_in a1 0 (v1 - 1)) fun v2 =>
bd (zg v2) fun _ => rt v2
def p_X1_build (a1 : Int32) (a2 : Int32) (a3 : Int32) (a4 : Int32) : am0 Int32 :=
bd (gM) fun _ =>
bd (p_X1_isHouse a1) fun v1 =>
if v1 = 0 then (rt 0) else
bd (p_X1_in a3 0 3) fun v3 =>
if v3 = 0 then (rt 0) else
bd (p_X1_in a4 1 200) fun v5 =>
if v5 = 0 then (rt 0) else
bd (rR 24 1 a1) fun r7 =>
bd (zg a2) fun _ =>
bd (pI 3 r7 5 a2) fun _ =>
bd (rR 24 1 a1) fun r9 =>
bd (pI 3 r9 6 a3) fun _ =>
bd (rR 24 1 a1) fun r10 =>
bd (pI 3 r10 7 a4) fun _ =>
rt 1
def p_X1_changesOf_L4 (a1 : Int32) (rec1 : (Int32 × Int32) → am0 (Int32)) (x1 : Int32 × Int32) : am0 (Int32) :=
bd (gI 0 1 38) fun v3 =>
if v3 ≤ x1.2 then (rt x1.1) else
bd (rI 38 1 x1.2) fun v5 =>
bd (if v5 = a1 then (bd (rI 39 1 x1.2) fun v8 =>
if v8 = (-1) then (rt x1.1) else
rt (x1.1 + 1)) else
rt x1.1) fun (z6 : Int32) =>
rec1 (z6, (x1.2 + 1))
def p_X1_changesOf (a1 : Int32) : am0 Int32 :=
bd (gM) fun _ =>
bd (alp (p_X1_changesOf_L4 a1) amFu (0, 0)) fun (y2 : Int32) =>
rt y2
def p_X1_use (a1 : Int32) (a2 : Int32) : am0 Int32 :=
bd (gM) fun _ =>
bd (p_X1_isHouse a1) fun v1 =>
if v1 = 0 then (rt 0) else
bd (p_X1_in a2 0 9) fun v3 =>
if v3 = 0 then (rt 0) else
bd (p_X1_changesOf a1) fun v5 =>
if v5 ≤ 0 then (bd (rR 24 1 a1) fun r7 =>
bd (pI 3 r7 8 a2) fun _ =>
rt 1) else
rt 0
def p_X1_isFloor (a1 : Int32) (a2 : Int32) : am0 Int32 :=
bd (gM) fun _ =>
bd (p_X1_isHouse a1) fun v1 =>
jn (fun (z2 : Unit) => rt 0) fun (k2 : Unit → am0 (Int32)) =>
if v1 = 0 then (k2 ()) else
bd (rR 24 1 a1) fun r4 =>
bd (gI 3 r4 2) fun v5 =>
bd (p_X1_in a2 0 (v5 - 1)) fun v6 =>
if v6 = 0 then (k2 ()) else
rt 1
def p_X5_all (r0 : Nat) : am0 Int32 :=
bd (gI 3 r0 2) fun v1 =>
bd (gI 3 r0 3) fun v2 =>
rt (v1 * v2)
def p_X5_floorOf (r0 : Nat) (a1 : Int32) : am0 Int32 :=
bd (gI 3 r0 3) fun v1 =>
bd (nz v1) fun _ =>
rt (a1 / v1)
def p_X5_burns (r0 : Nat) (a1 : Nat) (a2 : Int32) : am0 Int32 :=
bd (gC 4 a1 0) fun _ =>
bd (rI 145 a1 a2) fun v1 =>
jn (fun (z2 : Unit) => rt 0) fun (k2 : Unit → am0 (Int32)) =>
if v1 < 300 then (k2 ()) else
bd (gC 4 a1 1) fun _ =>
bd (rI 146 a1 a2) fun v4 =>
if v4 ≤ 0 then (k2 ()) else
bd (gC 4 a1 4) fun _ =>
bd (nn r0) fun _ =>
bd (p_X5_floorOf r0 a2) fun v7 =>
bd (rI 149 a1 v7) fun v8 =>
if v8 = 0 then (rt 1) else
k2 ()
def p_X5_burning_L4 (r0 : Nat) (rec1 : (Int32 × Int32) → am0 (Int32)) (x1 : Int32 × Int32) : am0 (Int32) :=
bd (nn r0) fun _ =>
bd (p_X5_all r0) fun v4 =>
if v4 ≤ x1.2 then (rt x1.1) else
bd (gC 3 r0 2) fun _ =>
bd (nn r0) fun _ =>
bd (p_X5_burns r0 (2 * r0 - 1) x1.2) fun v7 =>
bd (if v7 = 0 then (rt x1.1) else
rt (x1.1 + 1)) fun (z8 : Int32) =>
rec1 (z8, (x1.2 + 1))
def p_X5_burning (r0 : Nat) : am0 Int32 :=
bd (alp (p_X5_burning_L4 r0) amFu (0, 0)) fun (y2 : Int32) =>
rt y2
def p_X1_worst_L7 (a1 : Int32) (rec1 : (Nat × Int32 × Int32) → am0 (Nat)) (x1 : Nat × Int32 × Int32) : am0 (Nat) :=
bd (gI 0 1 6) fun v3 =>
if v3 ≤ x1.2.2 then (rt x1.1) else
bd (rR 24 1 x1.2.2) fun r5 =>
bd (gI 3 r5 0) fun v6 =>
bd (if v6 = a1 then (bd (rR 24 1 x1.2.2) fun r9 =>
bd (nn r9) fun _ =>
bd (p_X5_burning r9) fun v11 =>
if x1.2.1 < v11 then (bd (rR 24 1 x1.2.2) fun r13 =>
bd (nn r13) fun _ =>
bd (p_X5_burning r13) fun v15 =>
rt (r13, v15)) else
rt (x1.1, x1.2.1)) else
rt (x1.1, x1.2.1)) fun (z7 : Nat × Int32) =>
rec1 (z7.1, z7.2, (x1.2.2 + 1))
def p_X1_worst (a1 : Int32) : am0 Nat :=
bd (gM) fun _ =>
bd (alp (p_X1_worst_L7 a1) amFu (0, 0, 0)) fun (y2 : Nat) =>
rt y2
def p_X1_notice_L2  (rec1 : Int32 → am0 (Unit)) (x1 : Int32) : am0 (Unit) :=
bd (gI 0 1 25) fun v3 =>
if v3 ≤ x1 then (rt ()) else
bd (rR 32 1 x1) fun r5 =>
bd (gI 7 r5 4) fun v6 =>
bd (if v6 = 0 then (bd (rR 32 1 x1) fun r9 =>
bd (gI 7 r9 1) fun v10 =>
bd (p_X1_worst v10) fun r11 =>
if r11 = 0 then (rt ()) else
bd (rR 32 1 x1) fun r13 =>
bd (pI 7 r13 9 1) fun _ =>
rt ()) else
rt ()) fun (z7 : Unit) =>
rec1 (x1 + 1)
def p_X1_notice  : am0 Unit :=
bd (gM) fun _ =>
bd (alp (p_X1_notice_L2) amFu 0) fun (y2 : Unit) =>
rt ()
def p_X1_floor_L61 (a2 : Int32) (a3 : Int32) (r10 : Nat) (rec11 : Int32 → am0 (Unit)) (x11 : Int32) : am0 (Unit) :=
bd (gI 3 r10 3) fun v13 =>
if v13 ≤ x11 then (rt ()) else
bd (gC 3 r10 2) fun _ =>
bd (gC 4 (2 * r10 - 1) 1) fun _ =>
bd (gI 3 r10 3) fun v15 =>
bd (wI 146 (2 * r10 - 1) ((a2 * v15) + x11) a3) fun _ =>
rec11 (x11 + 1)
def p_X1_floor (a1 : Int32) (a2 : Int32) (a3 : Int32) (a4 : Int32) : am0 Int32 :=
bd (gM) fun _ =>
bd (p_X1_isFloor a1 a2) fun v1 =>
if v1 = 0 then (rt 0) else
bd (p_X1_in a3 0 500) fun v3 =>
if v3 = 0 then (rt 0) else
bd (p_X1_in a4 0 20) fun v5 =>
if v5 = 0 then (rt 0) else
bd (rR 24 1 a1) fun r7 =>
bd (gC 3 r7 2) fun _ =>
bd (gC 4 (2 * r7 - 1) 4) fun _ =>
bd (rI 149 (2 * r7 - 1) a2) fun v8 =>
if v8 = 0 then (bd (rR 24 1 a1) fun r10 =>
bd (alp (p_X1_floor_L61 a2 a3 r10) amFu 0) fun (y12 : Unit) =>
bd (gC 3 r10 1) fun _ =>
bd (wI 144 r10 a2 a3) fun _ =>
bd (gC 3 r10 0) fun _ =>
bd (wI 143 r10 a2 a4) fun _ =>
bd (p_X1_notice) fun _ =>
rt 1) else
rt 0
def p_X1_isRoom (a1 : Int32) (a2 : Int32) : am0 Int32 :=
bd (gM) fun _ =>
bd (p_X1_isHouse a1) fun v1 =>
jn (fun (z2 : Unit) => rt 0) fun (k2 : Unit → am0 (Int32)) =>
if v1 = 0 then (k2 ()) else
bd (rR 24 1 a1) fun r4 =>
bd (nn r4) fun _ =>
bd (p_X5_all r4) fun v6 =>
bd (p_X1_in a2 0 (v6 - 1)) fun v7 =>
if v7 = 0 then (k2 ()) else
rt 1
def p_X1_light (a1 : Int32) (a2 : Int32) : am0 Int32 :=
bd (gM) fun _ =>
bd (p_X1_isRoom a1 a2) fun v1 =>
if v1 = 0 then (rt 0) else
bd (rR 24 1 a1) fun r3 =>
bd (gC 3 r3 2) fun _ =>
bd (gC 4 (2 * r3 - 1) 4) fun _ =>
bd (rR 24 1 a1) fun r4 =>
bd (nn r4) fun _ =>
bd (p_X5_floorOf r4 a2) fun v6 =>
bd (rI 149 (2 * r3 - 1) v6) fun v7 =>
if v7 = 0 then (bd (rR 24 1 a1) fun r9 =>
bd (gC 3 r9 2) fun _ =>
bd (gC 4 (2 * r9 - 1) 0) fun _ =>
bd (rR 24 1 a1) fun r10 =>
bd (gC 3 r10 2) fun _ =>
bd (gC 4 (2 * r10 - 1) 0) fun _ =>
bd (rI 145 (2 * r10 - 1) a2) fun v11 =>
bd (rt (if 400 < v11 then v11 else 400)) fun v12 =>
bd (wI 145 (2 * r9 - 1) a2 v12) fun _ =>
bd (p_X1_notice) fun _ =>
rt 1) else
rt 0
def p_X1_room (a1 : Int32) (a2 : Int32) (a3 : Int32) : am0 Int32 :=
bd (gM) fun _ =>
bd (p_X1_isRoom a1 a2) fun v1 =>
if v1 = 0 then (rt (-1)) else
bd (rR 24 1 a1) fun r3 =>
if a3 = 0 then (bd (gC 3 r3 2) fun _ =>
bd (gC 4 (2 * r3 - 1) 0) fun _ =>
bd (rI 145 (2 * r3 - 1) a2) fun v5 =>
rt v5) else
if a3 = 1 then (bd (gC 3 r3 2) fun _ =>
bd (gC 4 (2 * r3 - 1) 1) fun _ =>
bd (rI 146 (2 * r3 - 1) a2) fun v7 =>
rt v7) else
if a3 = 2 then (bd (gC 3 r3 2) fun _ =>
bd (nn r3) fun _ =>
bd (p_X5_burns r3 (2 * r3 - 1) a2) fun v10 =>
if v10 = 0 then (rt 0) else
rt 1) else
rt (-1)
def p_X5_load (r0 : Nat) (a1 : Nat) (a2 : Int32) : am0 Int32 :=
if a2 = 0 then (rt 0) else
bd (gC 4 a1 3) fun _ =>
bd (rI 148 a1 a2) fun v2 =>
bd (gC 4 a1 3) fun _ =>
bd (rI 148 a1 (a2 - 1)) fun v3 =>
rt (v2 + (2 * v3))
def p_X1_floored (a1 : Int32) (a2 : Int32) (a3 : Int32) : am0 Int32 :=
bd (gM) fun _ =>
bd (p_X1_isFloor a1 a2) fun v1 =>
if v1 = 0 then (rt (-1)) else
bd (rR 24 1 a1) fun r3 =>
if a3 = 0 then (bd (gC 3 r3 2) fun _ =>
bd (gC 4 (2 * r3 - 1) 3) fun _ =>
bd (rI 148 (2 * r3 - 1) a2) fun v5 =>
rt v5) else
if a3 = 1 then (bd (gC 3 r3 2) fun _ =>
bd (gC 4 (2 * r3 - 1) 4) fun _ =>
bd (rI 149 (2 * r3 - 1) a2) fun v7 =>
if v7 = 0 then (rt 0) else
rt 1) else
if a3 = 2 then (bd (gC 3 r3 0) fun _ =>
bd (rI 143 r3 a2) fun v10 =>
rt v10) else
if a3 = 3 then (bd (gC 3 r3 2) fun _ =>
bd (nn r3) fun _ =>
bd (p_X5_load r3 (2 * r3 - 1) a2) fun v13 =>
rt v13) else
rt (-1)
def p_X1_burntOf_L5 (a1 : Nat) (a2 : Nat) (rec1 : (Int32 × Int32) → am0 (Int32)) (x1 : Int32 × Int32) : am0 (Int32) :=
bd (gI 3 a1 2) fun v3 =>
if v3 ≤ x1.2 then (rt x1.1) else
bd (gC 4 a2 3) fun _ =>
bd (rI 148 a2 x1.2) fun v5 =>
bd (rt (x1.1 + v5)) fun v6 =>
rec1 (v6, (x1.2 + 1))
def p_X1_burntOf (a1 : Nat) (a2 : Nat) : am0 Int32 :=
bd (alp (p_X1_burntOf_L5 a1 a2) amFu (0, 0)) fun (y2 : Int32) =>
rt y2
def p_X1_fallenOf_L4 (a1 : Nat) (rec1 : (Int32 × Int32) → am0 (Int32)) (x1 : Int32 × Int32) : am0 (Int32) :=
bd (gI 3 a1 2) fun v3 =>
if v3 ≤ x1.2 then (rt x1.1) else
bd (gC 3 a1 2) fun _ =>
bd (gC 4 (2 * a1 - 1) 4) fun _ =>
bd (rI 149 (2 * a1 - 1) x1.2) fun v5 =>
bd (if v5 = 0 then (rt x1.1) else
rt (x1.1 + 1)) fun (z6 : Int32) =>
rec1 (z6, (x1.2 + 1))
def p_X1_fallenOf (a1 : Nat) : am0 Int32 :=
bd (alp (p_X1_fallenOf_L4 a1) amFu (0, 0)) fun (y2 : Int32) =>
rt y2
def p_X1_atWorkIn_L4 (a1 : Nat) (rec1 : (Int32 × Int32) → am0 (Int32)) (x1 : Int32 × Int32) : am0 (Int32) :=
bd (gI 0 1 13) fun v3 =>
if v3 ≤ x1.2 then (rt x1.1) else
bd (rR 28 1 x1.2) fun r5 =>
bd (gI 6 r5 5) fun v6 =>
bd (if v6 = 2 then (bd (rR 28 1 x1.2) fun r9 =>
bd (gR 6 r9 15) fun r10 =>
if r10 = a1 then (rt (x1.1 + 1)) else
rt x1.1) else
rt x1.1) fun (z7 : Int32) =>
rec1 (z7, (x1.2 + 1))
def p_X1_atWorkIn (a1 : Nat) : am0 Int32 :=
bd (gM) fun _ =>
bd (alp (p_X1_atWorkIn_L4 a1) amFu (0, 0)) fun (y2 : Int32) =>
rt y2
def p_X1_housed (a1 : Int32) (a2 : Int32) : am0 Int32 :=
bd (gM) fun _ =>
bd (p_X1_isHouse a1) fun v1 =>
if v1 = 0 then (rt (-1)) else
bd (rR 24 1 a1) fun r3 =>
if a2 = 0 then (bd (nn r3) fun _ =>
bd (p_X5_burning r3) fun v6 =>
rt v6) else
if a2 = 1 then (bd (gC 3 r3 2) fun _ =>
bd (p_X1_burntOf r3 (2 * r3 - 1)) fun v8 =>
rt v8) else
if a2 = 2 then (bd (gI 3 r3 9) fun v10 =>
rt v10) else
if a2 = 3 then (bd (gI 3 r3 10) fun v12 =>
rt v12) else
if a2 = 4 then (bd (p_X1_fallenOf r3) fun v14 =>
rt v14) else
if a2 = 5 then (bd (p_X1_atWorkIn r3) fun v16 =>
rt v16) else
if a2 = 6 then (bd (gI 3 r3 11) fun v18 =>
rt v18) else
rt (-1)
def p_X1_main (a1 : Int32) : am0 Int32 :=
bd (gM) fun _ =>
bd (p_X1_in a1 10 2000) fun v1 =>
if v1 = 0 then (rt (-1)) else
bd (gI 0 1 10) fun v3 =>
if v3 = 6 then (rt (-1)) else
bd (gI 0 1 10) fun v5 =>
bd (wI 25 1 v5 a1) fun _ =>
bd (gI 0 1 10) fun v6 =>
bd (pI 0 1 10 (v6 + 1)) fun _ =>
bd (gI 0 1 10) fun v7 =>
rt (v7 - 1)
def p_X7_init (r0 : Nat) (a1 : Int32) (a2 : Int32) : am0 Unit :=
bd (nn r0) fun _ =>
bd (pI 5 r0 0 a1) fun _ =>
bd (pI 5 r0 1 a2) fun _ =>
rt ()
def p_X1_head (a1 : Int32) (a2 : Int32) : am1 Int32 :=
bd1 (up (gM)) fun _ =>
bd1 (up (p_X1_isCorner a1)) fun v1 =>
if v1 = 0 then (rt1 (-1)) else
bd1 (up (gI 0 1 10)) fun v3 =>
bd1 (up (p_X1_in a2 0 (v3 - 1))) fun v4 =>
if v4 = 0 then (rt1 (-1)) else
bd1 (up (gI 0 1 11)) fun v6 =>
if v6 = 20 then (rt1 (-1)) else
bd1 (up (gI 0 1 11)) fun v8 =>
bd1 (nw 5 5 2) fun r9 =>
bd1 (up (nn r9)) fun _ =>
bd1 (up (p_X7_init r9 a1 a2)) fun _ =>
bd1 (up (wR 27 1 v8 r9)) fun _ =>
bd1 (up (gI 0 1 11)) fun v11 =>
bd1 (up (pI 0 1 11 (v11 + 1))) fun _ =>
bd1 (up (gI 0 1 11)) fun v12 =>
rt1 (v12 - 1)
def p_X8_init (r0 : Nat) (a1 : Int32) (a2 : Int32) (a3 : Int32) (a4 : Int32) (a5 : Int32) : am0 Unit :=
bd (nn r0) fun _ =>
bd (pI 6 r0 5 0) fun _ =>
bd (pI 6 r0 7 (-1)) fun _ =>
bd (pI 6 r0 8 (-1)) fun _ =>
bd (pI 6 r0 9 (-1)) fun _ =>
bd (pI 6 r0 13 (-1)) fun _ =>
bd (pI 6 r0 0 a1) fun _ =>
bd (pI 6 r0 1 a2) fun _ =>
bd (zg a3) fun _ =>
bd (pI 6 r0 4 a3) fun _ =>
bd (pI 6 r0 2 a4) fun _ =>
bd (pI 6 r0 3 a5) fun _ =>
bd (pI 6 r0 6 a2) fun _ =>
rt ()
def p_X9_init (r0 : Nat) (a1 : Int32) (a2 : Int32) (a3 : Int32) (a4 : Int32) (a5 : Int32) : am0 Unit :=
bd (nn r0) fun _ =>
bd (p_X8_init r0 a1 a2 a3 a4 a5) fun _ =>
bd (pIs [6, 7] 6 r0 16 100) fun _ =>
bd (pIs [6, 7] 6 r0 17 10) fun _ =>
rt ()
def p_X10_init (r0 : Nat) (a1 : Int32) (a2 : Int32) (a3 : Int32) (a4 : Int32) (a5 : Int32) : am0 Unit :=
bd (nn r0) fun _ =>
bd (p_X9_init r0 a1 a2 a3 a4 a5) fun _ =>
bd (pIs [7] 6 r0 18 1) fun _ =>
rt ()
def p_X11_init (r0 : Nat) (a1 : Int32) (a2 : Int32) (a3 : Int32) (a4 : Int32) (a5 : Int32) : am0 Unit :=
bd (nn r0) fun _ =>
bd (p_X8_init r0 a1 a2 a3 a4 a5) fun _ =>
bd (pIs [8] 6 r0 16 1) fun _ =>
rt ()
def p_X12_init (r0 : Nat) (a1 : Int32) (a2 : Int32) (a3 : Int32) (a4 : Int32) (a5 : Int32) : am0 Unit :=
bd (nn r0) fun _ =>
bd (p_X8_init r0 a1 a2 a3 a4 a5) fun _ =>
rt ()
def p_X1_make (a1 : Int32) (a2 : Int32) (a3 : Int32) (a4 : Int32) (a5 : Int32) : am1 Nat :=
if a1 = 0 then (bd1 (nw 6 6 18) fun r2 =>
bd1 (up (gI 0 1 13)) fun v3 =>
bd1 (up (nn r2)) fun _ =>
bd1 (up (p_X9_init r2 v3 a2 a3 a4 a5)) fun _ =>
rt1 r2) else
if a1 = 1 then (bd1 (nw 6 7 19) fun r6 =>
bd1 (up (gI 0 1 13)) fun v7 =>
bd1 (up (nn r6)) fun _ =>
bd1 (up (p_X10_init r6 v7 a2 a3 a4 a5)) fun _ =>
rt1 r6) else
if a1 = 2 then (bd1 (nw 6 8 17) fun r10 =>
bd1 (up (gI 0 1 13)) fun v11 =>
bd1 (up (nn r10)) fun _ =>
bd1 (up (p_X11_init r10 v11 a2 a3 a4 a5)) fun _ =>
rt1 r10) else
bd1 (nw 6 9 16) fun r13 =>
bd1 (up (gI 0 1 13)) fun v14 =>
bd1 (up (nn r13)) fun _ =>
bd1 (up (p_X12_init r13 v14 a2 a3 a4 a5)) fun _ =>
rt1 r13
def p_X1_crew (a1 : Int32) (a2 : Int32) (a3 : Int32) (a4 : Int32) (a5 : Int32) : am1 Int32 :=
bd1 (up (gM)) fun _ =>
bd1 (up (p_X1_in a1 0 3)) fun v1 =>
if v1 = 0 then (rt1 (-1)) else
bd1 (up (p_X1_isCorner a2)) fun v3 =>
if v3 = 0 then (rt1 (-1)) else
bd1 (up (p_X1_in a4 50 150)) fun v5 =>
if v5 = 0 then (rt1 (-1)) else
bd1 (up (p_X1_in a5 1 9)) fun v7 =>
if v7 = 0 then (rt1 (-1)) else
bd1 (up (gI 0 1 13)) fun v9 =>
if v9 = 16 then (rt1 (-1)) else
bd1 (up (gI 0 1 13)) fun v11 =>
bd1 (p_X1_make a1 a2 a3 a4 a5) fun r12 =>
bd1 (up (wR 28 1 v11 r12)) fun _ =>
bd1 (up (gI 0 1 13)) fun v13 =>
bd1 (up (pI 0 1 13 (v13 + 1))) fun _ =>
bd1 (up (gI 0 1 13)) fun v14 =>
rt1 (v14 - 1)
def p_X9_gear (r0 : Nat) (a1 : Int32) (a2 : Int32) (a3 : Int32) : am0 Int32 :=
bd (p_X1_in a1 100 3000) fun v1 =>
if v1 = 0 then (rt 0) else
bd (p_X1_in a2 10 500) fun v3 =>
if v3 = 0 then (rt 0) else
if a3 = 0 then (bd (pIs [6, 7] 6 r0 16 a1) fun _ =>
bd (pIs [6, 7] 6 r0 17 a2) fun _ =>
rt 1) else
rt 0
def p_X10_gear (r0 : Nat) (a1 : Int32) (a2 : Int32) (a3 : Int32) : am0 Int32 :=
bd (p_X1_in a3 1 30) fun v1 =>
if v1 = 0 then (rt 0) else
bd (nn r0) fun _ =>
bd (p_X9_gear r0 a1 a2 0) fun v4 =>
if v4 = 0 then (rt 0) else
bd (pIs [7] 6 r0 18 a3) fun _ =>
rt 1
def p_X11_gear (r0 : Nat) (a1 : Int32) (a2 : Int32) (a3 : Int32) : am0 Int32 :=
bd (p_X1_in a1 1 6) fun v1 =>
if v1 = 0 then (rt 0) else
if a2 = 0 then (if a3 = 0 then (bd (pIs [8] 6 r0 16 a1) fun _ =>
rt 1) else
rt 0) else
rt 0
def p_X12_gear (r0 : Nat) (a1 : Int32) (a2 : Int32) (a3 : Int32) : am0 Int32 :=
jn (fun (z1 : Unit) => rt 0) fun (k1 : Unit → am0 (Int32)) =>
if a1 = 0 then (if a2 = 0 then (if a3 = 0 then (rt 1) else
k1 ()) else
k1 ()) else
k1 ()
def p_X1_gear (a1 : Int32) (a2 : Int32) (a3 : Int32) (a4 : Int32) : am0 Int32 :=
bd (gM) fun _ =>
bd (p_X1_isCrew a1) fun v1 =>
jn (fun (z2 : Unit) => rt 0) fun (k2 : Unit → am0 (Int32)) =>
if v1 = 0 then (k2 ()) else
bd (rR 28 1 a1) fun r4 =>
bd (gI 6 r4 5) fun v5 =>
if v5 = 2 then (k2 ()) else
bd (rR 28 1 a1) fun r7 =>
bd (vc 6 r7 (fun c => if c = 6 then p_X9_gear r7 a2 a3 a4 else if c = 7 then p_X10_gear r7 a2 a3 a4 else if c = 8 then p_X11_gear r7 a2 a3 a4 else if c = 9 then p_X12_gear r7 a2 a3 a4 else fl0)) fun v9 =>
if v9 = 0 then (k2 ()) else
rt 1
def p_X1_ready (a1 : Nat) (a2 : Int32) : am0 Unit :=
bd (pI 6 a1 5 0) fun _ =>
bd (pI 6 a1 6 a2) fun _ =>
bd (pI 6 a1 7 (-1)) fun _ =>
bd (pR 6 a1 15 0) fun _ =>
bd (pI 6 a1 9 (-1)) fun _ =>
rt ()
def p_X1_heal (a1 : Int32) : am0 Int32 :=
bd (gM) fun _ =>
bd (p_X1_isCrew a1) fun v1 =>
if v1 = 0 then (rt 0) else
bd (rR 28 1 a1) fun r3 =>
bd (gI 6 r3 5) fun v4 =>
if v4 = 4 then (bd (rR 28 1 a1) fun r6 =>
bd (rR 28 1 a1) fun r7 =>
bd (gI 6 r7 1) fun v8 =>
bd (p_X1_ready r6 v8) fun _ =>
rt 1) else
rt 0
def p_X1_turnHome (a1 : Nat) : am0 Unit :=
bd (gI 6 a1 6) fun v1 =>
bd (gI 6 a1 1) fun v2 =>
bd (gI 0 1 0) fun v3 =>
bd (vc 6 a1 (fun c => if c = 6 then p_X8_slowNow a1 else if c = 7 then p_X8_slowNow a1 else if c = 8 then p_X8_slowNow a1 else if c = 9 then p_X8_slowNow a1 else fl0)) fun v5 =>
bd (p_X1_comeOn v1 v2 v3 v5) fun v6 =>
bd (gI 6 a1 1) fun v7 =>
bd (p_X1_ready a1 v7) fun _ =>
if v6 = (-1) then (rt ()) else
bd (gI 0 1 0) fun v9 =>
if v6 = v9 then (rt ()) else
bd (pI 6 a1 5 3) fun _ =>
bd (pI 6 a1 7 v6) fun _ =>
rt ()
def p_X1_recall (a1 : Int32) : am0 Int32 :=
bd (gM) fun _ =>
bd (p_X1_isCrew a1) fun v1 =>
if v1 = 0 then (rt 0) else
bd (rR 28 1 a1) fun r3 =>
bd (gI 6 r3 5) fun v4 =>
if v4 = 0 then (bd (rR 28 1 a1) fun r6 =>
bd (gI 6 r6 6) fun v7 =>
bd (rR 28 1 a1) fun r8 =>
bd (gI 6 r8 1) fun v9 =>
if v7 = v9 then (rt 0) else
bd (rR 28 1 a1) fun r11 =>
bd (p_X1_turnHome r11) fun _ =>
rt 1) else
rt 0
def p_X1_headFor_L9  (rec1 : (Nat × Int32) → am0 (Nat)) (x1 : Nat × Int32) : am0 (Nat) :=
bd (gI 0 1 11) fun v3 =>
if v3 ≤ x1.2 then (rt x1.1) else
bd (rR 27 1 x1.2) fun r5 =>
bd (gI 5 r5 0) fun v6 =>
bd (rI 23 1 v6) fun v7 =>
bd (if 1000000000 ≤ v7 then (rt x1.1) else
jn (fun (z10 : Unit) => bd (rR 27 1 x1.2) fun r18 =>
rt r18) fun (k10 : Unit → am0 ((Nat))) =>
if x1.1 = 0 then (k10 ()) else
bd (rR 27 1 x1.2) fun r12 =>
bd (gI 5 r12 0) fun v13 =>
bd (rI 23 1 v13) fun v14 =>
bd (gI 5 x1.1 0) fun v15 =>
bd (rI 23 1 v15) fun v16 =>
if v16 ≤ v14 then (rt x1.1) else
k10 ()) fun (z8 : Nat) =>
rec1 (z8, (x1.2 + 1))
def p_X1_headFor (a1 : Int32) : am0 Nat :=
bd (gM) fun _ =>
bd (p_X1_stroll a1) fun _ =>
bd (alp (p_X1_headFor_L9) amFu (0, 0)) fun (y2 : Nat) =>
rt y2
def p_X9_hose (r0 : Nat) : am0 Int32 :=
bd (gIs [6, 7] 6 r0 16) fun v1 =>
rt v1
def p_X1_reachOf_L42 (a2 : Nat) (v8 : Int32) (rec9 : (Int32 × Int32) → am0 (Int32)) (x9 : Int32 × Int32) : am0 (Int32) :=
bd (gI 3 a2 2) fun v11 =>
if v11 ≤ x9.2 then (rt x9.1) else
bd (if v8 < (20 * (x9.2 + 1)) then (rt x9.1) else
rt x9.2) fun (z13 : Int32) =>
rec9 (z13, (x9.2 + 1))
def p_X1_reachOf (a1 : Nat) (a2 : Nat) : am0 Int32 :=
bd (gM) fun _ =>
bd (gI 3 a2 0) fun v1 =>
bd (p_X1_headFor v1) fun r2 =>
if r2 = 0 then (rt (-1)) else
bd (vc 6 a1 (fun c => if c = 6 then p_X9_hose a1 else if c = 7 then p_X9_hose a1 else fl0)) fun v5 =>
bd (gI 5 r2 0) fun v6 =>
bd (rI 23 1 v6) fun v7 =>
bd (rt (v5 - (100 * v7))) fun v8 =>
bd (alp (p_X1_reachOf_L42 a2 v8) amFu ((-1), 0)) fun (y10 : Int32) =>
rt y10
def p_X1_reach (a1 : Int32) (a2 : Int32) : am0 Int32 :=
bd (gM) fun _ =>
bd (p_X1_isCrew a1) fun v1 =>
jn (fun (z2 : Unit) => rt (-1)) fun (k2 : Unit → am0 (Int32)) =>
if v1 = 0 then (k2 ()) else
bd (p_X1_isHouse a2) fun v4 =>
if v4 = 0 then (k2 ()) else
bd (rR 28 1 a1) fun r6 =>
bd (io [6, 7] 6 r6) fun v7 =>
if v7 = 0 then (k2 ()) else
bd (rR 28 1 a1) fun r9 =>
bd (ck [6, 7] 6 r9) fun _ =>
bd (rR 24 1 a2) fun r10 =>
bd (p_X1_reachOf r9 r10) fun v11 =>
rt v11
def p_X1_byteOf (a1 : Int32) (a2 : Int32) (a3 : Int32) (a4 : Int32) (a5 : Int32) (a6 : Int32) : am0 Int32 :=
bd (if 4 ≤ a6 then (if 8 ≤ a6 then (if 12 ≤ a6 then (if 16 ≤ a6 then (rt a5) else
rt a4) else
rt a3) else
rt a2) else
rt a1) fun (z1 : Int32) =>
rt ((z1 >>> ((24 - (8 * (a6 - a6 / 4 * 4))) &&& 31)) &&& 255)
def p_X1_feed_L6 (a1 : Int32) (a2 : Int32) (a3 : Int32) (a4 : Int32) (a5 : Int32) (rec1 : (Int32 × Int32) → am0 (Int32)) (x1 : Int32 × Int32) : am0 (Int32) :=
if 20 ≤ x1.2 then (rt x1.1) else
bd (p_X1_byteOf a1 a2 a3 a4 a5 x1.2) fun v4 =>
bd (if v4 = 0 then (rt x1.1) else
rt (x1.1 + 1)) fun (z5 : Int32) =>
rec1 (z5, (x1.2 + 1))
def p_X1_feed_L55 (a1 : Int32) (a2 : Int32) (a3 : Int32) (a4 : Int32) (a5 : Int32) (rec9 : Int32 → am0 (Unit)) (x9 : Int32) : am0 (Unit) :=
if 20 ≤ x9 then (rt ()) else
bd (p_X1_byteOf a1 a2 a3 a4 a5 x9) fun v12 =>
bd (if v12 = 0 then (rt ()) else
bd (gI 0 1 17) fun v15 =>
bd (pI 0 1 17 (v15 + 1)) fun _ =>
bd (wI 30 1 v15 (v12.toInt8.toInt32.toInt8.toInt32)) fun _ =>
rt ()) fun (z13 : Unit) =>
rec9 (x9 + 1)
def p_X1_feed (a1 : Int32) (a2 : Int32) (a3 : Int32) (a4 : Int32) (a5 : Int32) : am0 Int32 :=
bd (gM) fun _ =>
bd (alp (p_X1_feed_L6 a1 a2 a3 a4 a5) amFu (0, 0)) fun (y2 : Int32) =>
bd (gI 0 1 17) fun v7 =>
if (v7 + y2) ≤ 200 then (bd (alp (p_X1_feed_L55 a1 a2 a3 a4 a5) amFu 0) fun (y10 : Unit) =>
bd (gI 0 1 17) fun v16 =>
rt v16) else
rt (-1)
def p_X1_end (a1 : Int32) : am0 Int32 :=
if a1 < 0 then (rt 0) else
bd (gI 0 1 17) fun v2 =>
if a1 ≤ v2 then (bd (pI 0 1 17 a1) fun _ =>
rt 1) else
rt 0
def p_X1_begin (a1 : Int32) : am0 Unit :=
bd (pI 0 1 20 a1) fun _ =>
bd (pI 0 1 18 0) fun _ =>
bd (pI 0 1 19 0) fun _ =>
rt ()
def p_X1_look_L0  (rec1 : Unit → am0 (Unit)) (x1 : Unit) : am0 (Unit) :=
bd (gI 0 1 18) fun v3 =>
bd (gI 0 1 17) fun v4 =>
if v4 ≤ v3 then (rt ()) else
bd (gI 0 1 18) fun v6 =>
bd (rI 30 1 v6) fun v7 =>
if v7 = 32 then (bd (gI 0 1 18) fun v9 =>
bd (pI 0 1 18 (v9 + 1)) fun _ =>
rec1 ()) else
rt ()
def p_X1_look  : am0 Int32 :=
bd (gM) fun _ =>
bd (alp (p_X1_look_L0) amFu ()) fun (y2 : Unit) =>
bd (gI 0 1 18) fun v10 =>
bd (gI 0 1 17) fun v11 =>
if v11 ≤ v10 then (rt (-1)) else
bd (gI 0 1 18) fun v13 =>
bd (rI 30 1 v13) fun v14 =>
rt (v14 &&& 255)
def p_X1_need (a1 : Int32) : am0 (Option Unit) :=
bd (gM) fun _ =>
if a1 = 0 then (rt none) else
rt (some ())
def p_X1_opens  : am0 (Option Unit) :=
bd (gI 0 1 19) fun v1 =>
bd (if 8 ≤ v1 then (rt 0) else
rt 1) fun (z2 : Int32) =>
bdx (p_X1_need z2) (rt none) fun _ =>
bd (gI 0 1 19) fun v4 =>
bd (pI 0 1 19 (v4 + 1)) fun _ =>
bd (gI 0 1 18) fun v5 =>
bd (pI 0 1 18 (v5 + 1)) fun _ =>
rt (some ())
def p_X14_init (r0 : Nat) : am0 Unit :=
bd (nn r0) fun _ =>
rt ()
def p_X15_init (r0 : Nat) (a1 : Nat) : am0 Unit :=
bd (nn r0) fun _ =>
bd (p_X14_init r0) fun _ =>
bd (pRs [16] 10 r0 0 a1) fun _ =>
rt ()
def p_X1_closes (a1 : Int32) : am0 (Option Unit) :=
bd (p_X1_look) fun v1 =>
bd (if v1 = a1 then (rt 1) else
rt 0) fun (z2 : Int32) =>
bdx (p_X1_need z2) (rt none) fun _ =>
bd (gI 0 1 18) fun v4 =>
bd (pI 0 1 18 (v4 + 1)) fun _ =>
bd (gI 0 1 19) fun v5 =>
bd (pI 0 1 19 (v5 - 1)) fun _ =>
rt (some ())
def p_X1_lettersOf (a1 : Int32) : am0 Nat :=
if a1 = 0 then (rt 1) else
if a1 = 1 then (rt 2) else
rt 3
def p_J6_isLatin1 (r0 : Nat) : am0 Int32 :=
jn (fun (z1 : Unit) => rt 0) fun (k1 : Unit → am0 (Int32)) =>
if (1 : Int32) = 0 then (k1 ()) else
bd (gd (r0 ≠ 0 ∧ r0 ≤ am_strN)) fun _ =>
if (0 : Int32) = 0 then (rt 1) else
k1 ()
def p_J6_coder (r0 : Nat) : am0 Int32 :=
if (1 : Int32) = 0 then (bd (gd ((1 : Int32).toInt8.toInt32 = 1)) fun _ =>
rt 1) else
bd (gd (r0 ≠ 0 ∧ r0 ≤ am_strN)) fun _ =>
bd (gd ((0 : Int32).toInt8.toInt32 = 0)) fun _ =>
rt 0
def p_J6_length (r0 : Nat) : am0 Int32 :=
bd (gd (r0 ≠ 0 ∧ r0 ≤ am_strN)) fun _ =>
bd (gd (r0 ≠ 0 ∧ r0 ≤ am_strN)) fun _ =>
bd (rt (Int32.ofNat (am_strL.getD (r0 - 1) 0))) fun v3 =>
bd (gd (r0 ≠ 0 ∧ r0 ≤ am_strN)) fun _ =>
bd (p_J6_coder r0) fun v5 =>
rt (v3 >>> (v5 &&& 31))
def p_J7_canEncode (a1 : Int32) : am0 Int32 :=
jn (fun (z1 : Unit) => rt 0) fun (k1 : Unit → am0 (Int32)) =>
if a1 < 0 then (k1 ()) else
if 255 < a1 then (k1 ()) else
rt 1
def p_J7_indexOfChar_L7 (a1 : Nat) (a2 : Int32) (a4 : Int32) (rec1 : Int32 → am0 Int32) (x1 : Int32) : am0 Int32 :=
if a4 ≤ x1 then (rt (-1)) else
bd (sB a1 x1) fun v3 =>
if v3 = a2.toInt8.toInt32 then (rt x1) else
rec1 (x1 + 1)
def p_J7_indexOfChar (a1 : Nat) (a2 : Int32) (a3 : Int32) (a4 : Int32) : am0 Int32 :=
alp (p_J7_indexOfChar_L7 a1 a2 a4) amFu a3
def p_J7_indexOf (a1 : Nat) (a2 : Int32) (a3 : Int32) (a4 : Int32) : am0 Int32 :=
bd (p_J7_canEncode a2) fun v1 =>
if v1 = 0 then (rt (-1)) else
bd (rt (if a3 < 0 then 0 else a3)) fun v3 =>
bd (gd (a1 ≠ 0 ∧ a1 ≤ am_strN)) fun _ =>
bd (rt (Int32.ofNat (am_strL.getD (a1 - 1) 0))) fun v5 =>
bd (rt (if v5 < a4 then v5 else a4)) fun v6 =>
if v3 < v6 then (bd (p_J7_indexOfChar a1 a2 v3 v6) fun v8 =>
rt v8) else
rt (-1)
def p_J8_length (a1 : Nat) : am0 Int32 :=
bd (gd (a1 ≠ 0 ∧ a1 ≤ am_strN)) fun _ =>
bd (rt (Int32.ofNat (am_strL.getD (a1 - 1) 0))) fun v2 =>
rt (v2 >>> (1 &&& 31))
def p_J6_indexOf_2 (r0 : Nat) (a1 : Int32) (a2 : Int32) : am0 Int32 :=
bd (gd (r0 ≠ 0 ∧ r0 ≤ am_strN)) fun _ =>
bd (p_J6_isLatin1 r0) fun v2 =>
if v2 = 0 then (bd (gd (r0 ≠ 0 ∧ r0 ≤ am_strN)) fun _ =>
bd (gd (r0 ≠ 0 ∧ r0 ≤ am_strN)) fun _ =>
bd (p_J6_length r0) fun v6 =>
fl0) else
bd (gd (r0 ≠ 0 ∧ r0 ≤ am_strN)) fun _ =>
bd (gd (r0 ≠ 0 ∧ r0 ≤ am_strN)) fun _ =>
bd (p_J6_length r0) fun v9 =>
bd (p_J7_indexOf r0 a1 a2 v9) fun v10 =>
rt v10
def p_J6_indexOf (r0 : Nat) (a1 : Int32) : am0 Int32 :=
bd (gd (r0 ≠ 0 ∧ r0 ≤ am_strN)) fun _ =>
bd (p_J6_indexOf_2 r0 a1 0) fun v2 =>
rt v2
def p_X16_init (r0 : Nat) : am0 Unit :=
bd (nn r0) fun _ =>
rt ()
def p_X17_init (r0 : Nat) (a1 : Int32) : am0 Unit :=
bd (nn r0) fun _ =>
bd (p_X16_init r0) fun _ =>
bd (pIs [13] 9 r0 0 a1) fun _ =>
rt ()
def p_X1_isDigit (a1 : Int32) : am0 Int32 :=
jn (fun (z1 : Unit) => rt 0) fun (k1 : Unit → am0 (Int32)) =>
if a1 < 48 then (k1 ()) else
if 57 < a1 then (k1 ()) else
rt 1
def p_X1_number_L15 (a1 : Int32) (rec3 : (Int32 × Int32) → am0 (Option Int32)) (x3 : Int32 × Int32) : am0 (Option Int32) :=
bd (gI 0 1 18) fun v4 =>
bd (gI 0 1 17) fun v5 =>
if v5 ≤ v4 then (rt (some x3.1)) else
bd (gI 0 1 18) fun v7 =>
bd (rI 30 1 v7) fun v8 =>
bd (p_X1_isDigit v8) fun v9 =>
if v9 = 0 then (rt (some x3.1)) else
bd (if a1 ≤ x3.2 then (rt 0) else
rt 1) fun (z11 : Int32) =>
bdx (p_X1_need z11) (rt none) fun _ =>
bd (gI 0 1 18) fun v13 =>
bd (rI 30 1 v13) fun v14 =>
bd (rt (((10 * x3.1) + v14) - 48)) fun v15 =>
bd (gI 0 1 18) fun v16 =>
bd (pI 0 1 18 (v16 + 1)) fun _ =>
rec3 (v15, (x3.2 + 1))
def p_X1_number (a1 : Int32) : am0 (Option Int32) :=
bd (gM) fun _ =>
bd (p_X1_look) fun v1 =>
bd (p_X1_isDigit v1) fun v2 =>
bdx (p_X1_need v2) (rt none) fun _ =>
alp (p_X1_number_L15 a1) amFu (0, 0)
def p_X18_init (r0 : Nat) (a1 : Int32) : am0 Unit :=
bd (nn r0) fun _ =>
bd (p_X16_init r0) fun _ =>
bd (pIs [12] 9 r0 0 a1) fun _ =>
rt ()
def p_X19_init (r0 : Nat) (a1 : Int32) (a2 : Nat) (a3 : Nat) : am0 Unit :=
bd (nn r0) fun _ =>
bd (p_X16_init r0) fun _ =>
bd (pIs [14] 9 r0 0 a1) fun _ =>
bd (pRs [14] 9 r0 1 a2) fun _ =>
bd (pRs [14] 9 r0 2 a3) fun _ =>
rt ()
def b_X1_atom (s_X1_atom : am1 (Option Nat)) (s_X1_sum : am1 (Option Nat)) (s_X1_term : am1 (Option Nat))  : am1 (Option Nat) :=
bd1 (up (p_X1_look)) fun v1 =>
if v1 = 91 then (bdx1 (up (p_X1_opens)) (rt1 none) fun _ =>
bdx1 (s_X1_sum) (rt1 none) fun r3 =>
bdx1 (up (p_X1_closes 93)) (rt1 none) fun _ =>
rt1 (some r3)) else
jn1 (fun (z4 : Unit) => bd1 (nw 9 12 1) fun r14 =>
bdx1 (up (p_X1_number 4)) (rt1 none) fun v15 =>
bd1 (up (nn r14)) fun _ =>
bd1 (up (p_X18_init r14 v15)) fun _ =>
rt1 (some r14)) fun (k4 : Unit → am1 ((Option Nat))) =>
if v1 ≤ 0 then (k4 ()) else
bd1 (up (gI 0 1 20)) fun v6 =>
bd1 (up (p_X1_lettersOf v6)) fun r7 =>
bd1 (up (gd (r7 ≠ 0 ∧ r7 ≤ am_strN))) fun _ =>
bd1 (up (p_J6_indexOf r7 v1)) fun v9 =>
if v9 < 0 then (k4 ()) else
bd1 (up (gI 0 1 18)) fun v11 =>
bd1 (up (pI 0 1 18 (v11 + 1))) fun _ =>
bd1 (nw 9 13 1) fun r12 =>
bd1 (up (nn r12)) fun _ =>
bd1 (up (p_X17_init r12 v1)) fun _ =>
rt1 (some r12)
def p_X1_sum_L10 (s_X1_term : am1 (Option Nat)) (rec3 : (Nat × Int32) → am1 (Option Nat)) (x3 : Nat × Int32) : am1 (Option Nat) :=
jn1 (fun (z4 : Unit) => bd1 (up (gI 0 1 18)) fun v7 =>
bd1 (up (pI 0 1 18 (v7 + 1))) fun _ =>
bd1 (nw 9 14 3) fun r8 =>
bdx1 (s_X1_term) (rt1 none) fun r9 =>
bd1 (up (nn r8)) fun _ =>
bd1 (up (p_X19_init r8 x3.2 x3.1 r9)) fun _ =>
bd1 (up (p_X1_look)) fun v11 =>
rec3 (r8, v11)) fun (k4 : Unit → am1 ((Option Nat))) =>
if x3.2 = 43 then (k4 ()) else
if x3.2 = 45 then (k4 ()) else
rt1 (some x3.1)
def b_X1_sum (s_X1_atom : am1 (Option Nat)) (s_X1_sum : am1 (Option Nat)) (s_X1_term : am1 (Option Nat))  : am1 (Option Nat) :=
bdx1 (s_X1_term) (rt1 none) fun r1 =>
bd1 (up (p_X1_look)) fun v2 =>
alp1 (p_X1_sum_L10 s_X1_term) amFu (r1, v2)
def p_X1_term_L5 (s_X1_atom : am1 (Option Nat)) (rec2 : Nat → am1 (Option Nat)) (x2 : Nat) : am1 (Option Nat) :=
bd1 (up (p_X1_look)) fun v3 =>
if v3 = 42 then (bd1 (up (gI 0 1 18)) fun v5 =>
bd1 (up (pI 0 1 18 (v5 + 1))) fun _ =>
bd1 (nw 9 14 3) fun r6 =>
bdx1 (s_X1_atom) (rt1 none) fun r7 =>
bd1 (up (nn r6)) fun _ =>
bd1 (up (p_X19_init r6 42 x2 r7)) fun _ =>
rec2 r6) else
rt1 (some x2)
def b_X1_term (s_X1_atom : am1 (Option Nat)) (s_X1_sum : am1 (Option Nat)) (s_X1_term : am1 (Option Nat))  : am1 (Option Nat) :=
bdx1 (s_X1_atom) (rt1 none) fun r1 =>
alp1 (p_X1_term_L5 s_X1_atom) amFu r1
def gr_X1_atom : Nat → (am1 (Option Nat)) × (am1 (Option Nat)) × (am1 (Option Nat))
  | 0 => (fl1, fl1, fl1)
  | d + 1 => (b_X1_atom (gr_X1_atom d).1 (gr_X1_atom d).2.1 (gr_X1_atom d).2.2, b_X1_sum (gr_X1_atom d).1 (gr_X1_atom d).2.1 (gr_X1_atom d).2.2, b_X1_term (gr_X1_atom d).1 (gr_X1_atom d).2.1 (gr_X1_atom d).2.2)
def p_X1_atom (d : Nat) : am1 (Option Nat) := (gr_X1_atom d).1
def p_X1_sum (d : Nat) : am1 (Option Nat) := (gr_X1_atom d).2.1
def p_X1_term (d : Nat) : am1 (Option Nat) := (gr_X1_atom d).2.2
def p_X20_init (r0 : Nat) (a1 : Int32) (a2 : Nat) (a3 : Nat) : am0 Unit :=
bd (nn r0) fun _ =>
bd (p_X14_init r0) fun _ =>
bd (pIs [15] 10 r0 0 a1) fun _ =>
bd (pRs [15] 10 r0 1 a2) fun _ =>
bd (pRs [15] 10 r0 2 a3) fun _ =>
rt ()
def p_X21_init (r0 : Nat) (a1 : Int32) (a2 : Nat) (a3 : Nat) : am0 Unit :=
bd (nn r0) fun _ =>
bd (p_X14_init r0) fun _ =>
bd (zg a1) fun _ =>
bd (pIs [17] 10 r0 0 a1) fun _ =>
bd (pRs [17] 10 r0 1 a2) fun _ =>
bd (pRs [17] 10 r0 2 a3) fun _ =>
rt ()
def p_X1_condition_L5 (s_X1_part : am1 (Option Nat)) (rec2 : Nat → am1 (Option Nat)) (x2 : Nat) : am1 (Option Nat) :=
bd1 (up (p_X1_look)) fun v3 =>
if v3 = 124 then (bd1 (up (gI 0 1 18)) fun v5 =>
bd1 (up (pI 0 1 18 (v5 + 1))) fun _ =>
bd1 (nw 10 17 3) fun r6 =>
bdx1 (s_X1_part) (rt1 none) fun r7 =>
bd1 (up (nn r6)) fun _ =>
bd1 (up (p_X21_init r6 0 x2 r7)) fun _ =>
rec2 r6) else
rt1 (some x2)
def b_X1_condition (s_X1_condition : am1 (Option Nat)) (s_X1_part : am1 (Option Nat)) (s_X1_unit : am1 (Option Nat))  : am1 (Option Nat) :=
bdx1 (s_X1_part) (rt1 none) fun r1 =>
alp1 (p_X1_condition_L5 s_X1_part) amFu r1
def p_X1_part_L5 (s_X1_unit : am1 (Option Nat)) (rec2 : Nat → am1 (Option Nat)) (x2 : Nat) : am1 (Option Nat) :=
bd1 (up (p_X1_look)) fun v3 =>
if v3 = 38 then (bd1 (up (gI 0 1 18)) fun v5 =>
bd1 (up (pI 0 1 18 (v5 + 1))) fun _ =>
bd1 (nw 10 17 3) fun r6 =>
bdx1 (s_X1_unit) (rt1 none) fun r7 =>
bd1 (up (nn r6)) fun _ =>
bd1 (up (p_X21_init r6 1 x2 r7)) fun _ =>
rec2 r6) else
rt1 (some x2)
def b_X1_part (s_X1_condition : am1 (Option Nat)) (s_X1_part : am1 (Option Nat)) (s_X1_unit : am1 (Option Nat))  : am1 (Option Nat) :=
bdx1 (s_X1_unit) (rt1 none) fun r1 =>
alp1 (p_X1_part_L5 s_X1_unit) amFu r1
def b_X1_unit (s_X1_condition : am1 (Option Nat)) (s_X1_part : am1 (Option Nat)) (s_X1_unit : am1 (Option Nat))  : am1 (Option Nat) :=
bd1 (up (p_X1_look)) fun v1 =>
if v1 = 33 then (bdx1 (up (p_X1_opens)) (rt1 none) fun _ =>
bdx1 (s_X1_unit) (rt1 none) fun r3 =>
bd1 (up (gI 0 1 19)) fun v4 =>
bd1 (up (pI 0 1 19 (v4 - 1))) fun _ =>
bd1 (nw 10 16 1) fun r5 =>
bd1 (up (nn r5)) fun _ =>
bd1 (up (p_X15_init r5 r3)) fun _ =>
rt1 (some r5)) else
if v1 = 40 then (bdx1 (up (p_X1_opens)) (rt1 none) fun _ =>
bdx1 (s_X1_condition) (rt1 none) fun r8 =>
bdx1 (up (p_X1_closes 41)) (rt1 none) fun _ =>
rt1 (some r8)) else
bdx1 (p_X1_sum 64) (rt1 none) fun r9 =>
bd1 (up (p_X1_look)) fun v10 =>
bd1 (jn1 (fun (z12 : Unit) => rt1 1) fun (k12 : Unit → am1 ((Int32))) =>
if v10 = 61 then (k12 ()) else
if v10 = 60 then (k12 ()) else
if v10 = 62 then (k12 ()) else
rt1 0) fun (z11 : Int32) =>
bdx1 (up (p_X1_need z11)) (rt1 none) fun _ =>
bd1 (up (gI 0 1 18)) fun v16 =>
bd1 (up (pI 0 1 18 (v16 + 1))) fun _ =>
bd1 (nw 10 15 3) fun r17 =>
bdx1 (p_X1_sum 64) (rt1 none) fun r18 =>
bd1 (up (nn r17)) fun _ =>
bd1 (up (p_X20_init r17 v10 r9 r18)) fun _ =>
rt1 (some r17)
def gr_X1_condition : Nat → (am1 (Option Nat)) × (am1 (Option Nat)) × (am1 (Option Nat))
  | 0 => (fl1, fl1, fl1)
  | d + 1 => (b_X1_condition (gr_X1_condition d).1 (gr_X1_condition d).2.1 (gr_X1_condition d).2.2, b_X1_part (gr_X1_condition d).1 (gr_X1_condition d).2.1 (gr_X1_condition d).2.2, b_X1_unit (gr_X1_condition d).1 (gr_X1_condition d).2.1 (gr_X1_condition d).2.2)
def p_X1_condition (d : Nat) : am1 (Option Nat) := (gr_X1_condition d).1
def p_X1_part (d : Nat) : am1 (Option Nat) := (gr_X1_condition d).2.1
def p_X1_unit (d : Nat) : am1 (Option Nat) := (gr_X1_condition d).2.2
def p_X1_alone  : am1 (Option Nat) :=
bd1 (up (p_X1_begin 1)) fun _ =>
bdx1 (p_X1_condition 64) (rt1 none) fun r1 =>
bd1 (up (p_X1_look)) fun v2 =>
bd1 (if v2 = (-1) then (rt1 1) else
rt1 0) fun (z3 : Int32) =>
bdx1 (up (p_X1_need z3)) (rt1 none) fun _ =>
rt1 (some r1)
def p_X22_init (r0 : Nat) (a1 : Nat) : am1 Unit :=
bd1 (up (nn r0)) fun _ =>
bd1 (nwA 152 5) fun r2 =>
bd1 (up (pR 8 r0 1 r2)) fun _ =>
bd1 (up (pR 8 r0 0 a1)) fun _ =>
rt1 ()
def p_X1_isAction  : am0 Int32 :=
bd (p_X1_look) fun v1 =>
jn (fun (z2 : Unit) => rt 0) fun (k2 : Unit → am0 (Int32)) =>
if v1 ≤ 0 then (k2 ()) else
bd (gd (4 ≠ 0 ∧ 4 ≤ am_strN)) fun _ =>
bd (p_J6_indexOf 4 v1) fun v5 =>
if v5 < 0 then (k2 ()) else
rt 1
def p_X1_clause_L67 (r1 : Nat) (rec12 : Unit → am1 (Option Nat)) (x12 : Unit) : am1 (Option Nat) :=
bd1 (up (p_X1_isAction)) fun v13 =>
if v13 = 0 then (rt1 (some r1)) else
bd1 (up (p_X1_look)) fun v15 =>
bd1 (up (gd (4 ≠ 0 ∧ 4 ≤ am_strN))) fun _ =>
bd1 (up (p_J6_indexOf 4 v15)) fun v17 =>
bd1 (up (gI 0 1 18)) fun v18 =>
bd1 (up (pI 0 1 18 (v18 + 1))) fun _ =>
bd1 (up (p_X1_look)) fun v19 =>
bd1 (up (p_X1_isDigit v19)) fun v20 =>
bdx1 (up (p_X1_need v20)) (rt1 none) fun _ =>
bd1 (up (gI 0 1 18)) fun v21 =>
bd1 (up (pI 0 1 18 (v21 + 1))) fun _ =>
bd1 (up (gR 8 r1 1)) fun r22 =>
bd1 (up (gR 8 r1 1)) fun r23 =>
bd1 (up (rI 152 r23 v17)) fun v24 =>
bd1 (up (rt (if ((v24 + v19) - 48) < 9 then ((v24 + v19) - 48) else 9))) fun v25 =>
bd1 (up (wI 152 r22 v17 v25)) fun _ =>
rec12 ()
def p_X1_clause  : am1 (Option Nat) :=
bd1 (nw 8 11 4) fun r1 =>
bdx1 (p_X1_condition 64) (rt1 none) fun r2 =>
bd1 (up (nn r1)) fun _ =>
bd1 (p_X22_init r1 r2) fun _ =>
bd1 (up (p_X1_look)) fun v4 =>
bd1 (if v4 = 63 then (rt1 1) else
rt1 0) fun (z5 : Int32) =>
bdx1 (up (p_X1_need z5)) (rt1 none) fun _ =>
bd1 (up (gI 0 1 18)) fun v7 =>
bd1 (up (pI 0 1 18 (v7 + 1))) fun _ =>
bd1 (up (gI 0 1 20)) fun v8 =>
if v8 = 2 then (bdx1 (up (p_X1_number 3)) (rt1 none) fun v10 =>
bd1 (up (pI 8 r1 2 v10)) fun _ =>
rt1 (some r1)) else
bd1 (up (p_X1_isAction)) fun v11 =>
bdx1 (up (p_X1_need v11)) (rt1 none) fun _ =>
alp1 (p_X1_clause_L67 r1) amFu ()
def p_X1_whole_L12 (r1 : Nat) (rec2 : Nat → am1 (Option Nat)) (x2 : Nat) : am1 (Option Nat) :=
bd1 (up (p_X1_look)) fun v3 =>
if v3 = 59 then (bd1 (up (gI 0 1 18)) fun v8 =>
bd1 (up (pI 0 1 18 (v8 + 1))) fun _ =>
bdx1 (p_X1_clause) (rt1 none) fun r9 =>
bd1 (up (pR 8 x2 3 r9)) fun _ =>
bd1 (up (gR 8 x2 3)) fun r10 =>
rec2 r10) else
bd1 (up (p_X1_look)) fun v5 =>
bd1 (if v5 = (-1) then (rt1 1) else
rt1 0) fun (z6 : Int32) =>
bdx1 (up (p_X1_need z6)) (rt1 none) fun _ =>
rt1 (some r1)
def p_X1_whole (a1 : Int32) : am1 (Option Nat) :=
bd1 (up (p_X1_begin a1)) fun _ =>
bdx1 (p_X1_clause) (rt1 none) fun r1 =>
alp1 (p_X1_whole_L12 r1) amFu r1
def p_X1_fault (a1 : Int32) : am1 Int32 :=
bd1 (up (p_X1_in a1 0 2)) fun v1 =>
if v1 = 0 then (rt1 (-2)) else
jn1 (fun (z3 : Unit) => bd1 (up (gI 0 1 18)) fun v7 =>
rt1 v7) fun (k3 : Unit → am1 (Int32)) =>
if a1 = 1 then (bdx1 (p_X1_alone) (k3 ()) fun r5 =>
rt1 (-1)) else
bdx1 (p_X1_whole a1) (k3 ()) fun r6 =>
rt1 (-1)
def p_X1_orders  : am1 Int32 :=
bd1 (up (gM)) fun _ =>
bd1 (up (gI 0 1 23)) fun v1 =>
if v1 = 20 then (rt1 (-1)) else
bd1 (up (gI 0 1 23)) fun v3 =>
bdx1 (p_X1_whole 0) (rt1 (-1)) fun r4 =>
bd1 (up (wR 31 1 v3 r4)) fun _ =>
bd1 (up (gI 0 1 23)) fun v5 =>
bd1 (up (pI 0 1 23 (v5 + 1))) fun _ =>
bd1 (up (pI 0 1 17 0)) fun _ =>
bd1 (up (gI 0 1 23)) fun v6 =>
rt1 (v6 - 1)
def p_X1_leaving  : am1 Int32 :=
bdx1 (p_X1_alone) (rt1 0) fun r1 =>
bd1 (up (pR 0 1 22 r1)) fun _ =>
bd1 (up (pI 0 1 17 0)) fun _ =>
rt1 1
def p_X1_falsely_L8 (a1 : Int32) (a2 : Int32) (rec1 : (Int32 × Int32 × Int32) → am0 (Int32 × Int32)) (x1 : Int32 × Int32 × Int32) : am0 (Int32 × Int32) :=
bd (gI 0 1 25) fun v3 =>
if v3 ≤ x1.2.2 then (rt (x1.1, x1.2.1)) else
bd (rR 32 1 x1.2.2) fun r5 =>
bd (gI 7 r5 1) fun v6 =>
bd (if v6 = a1 then (bd (gI 7 r5 4) fun v9 =>
if v9 = 0 then (rt (x1.1, x1.2.1)) else
bd (gI 7 r5 2) fun v11 =>
bd (p_X1_partOf v11) fun v12 =>
if v12 = a2 then (bd (gI 7 r5 4) fun v14 =>
bd (if v14 = 2 then (rt 1) else
rt 0) fun (z15 : Int32) =>
bd (rt (x1.2.1 + z15)) fun v17 =>
rt ((x1.1 + 1), v17)) else
rt (x1.1, x1.2.1)) else
rt (x1.1, x1.2.1)) fun (z7 : Int32 × Int32) =>
rec1 (z7.1, z7.2, (x1.2.2 + 1))
def p_X1_falsely (a1 : Int32) (a2 : Int32) : am0 Int32 :=
bd (gM) fun _ =>
bd (alp (p_X1_falsely_L8 a1 a2) amFu (0, 0, 0)) fun (y2 : Int32 × Int32) =>
if y2.1 = 0 then (rt 0) else
bd (nz y2.1) fun _ =>
rt ((100 * y2.2) / y2.1)
def p_X1_falses (a1 : Int32) (a2 : Int32) : am0 Int32 :=
bd (p_X1_isCorner a1) fun v1 =>
jn (fun (z2 : Unit) => rt (-1)) fun (k2 : Unit → am0 (Int32)) =>
if v1 = 0 then (k2 ()) else
bd (p_X1_in a2 0 3) fun v4 =>
if v4 = 0 then (k2 ()) else
bd (p_X1_falsely a1 a2) fun v6 =>
rt v6
def p_X10_sort (r0 : Nat) : am0 Int32 :=
rt 1
def p_X11_sort (r0 : Nat) : am0 Int32 :=
rt 2
def p_X12_sort (r0 : Nat) : am0 Int32 :=
rt 3
def p_X9_sort (r0 : Nat) : am0 Int32 :=
rt 0
def p_X1_readyOf_L4 (a1 : Int32) (rec1 : (Int32 × Int32) → am0 (Int32)) (x1 : Int32 × Int32) : am0 (Int32) :=
bd (gI 0 1 13) fun v3 =>
if v3 ≤ x1.2 then (rt x1.1) else
bd (rR 28 1 x1.2) fun r5 =>
bd (vc 6 r5 (fun c => if c = 6 then p_X9_sort r5 else if c = 7 then p_X10_sort r5 else if c = 8 then p_X11_sort r5 else if c = 9 then p_X12_sort r5 else fl0)) fun v7 =>
bd (if v7 = a1 then (bd (rR 28 1 x1.2) fun r10 =>
bd (gI 6 r10 5) fun v11 =>
if v11 = 0 then (rt (x1.1 + 1)) else
rt x1.1) else
rt x1.1) fun (z8 : Int32) =>
rec1 (z8, (x1.2 + 1))
def p_X1_readyOf (a1 : Int32) : am0 Int32 :=
bd (gM) fun _ =>
bd (alp (p_X1_readyOf_L4 a1) amFu (0, 0)) fun (y2 : Int32) =>
rt y2
def p_X1_hear_L11 (a1 : Int32) (rec1 : (Int32 × Int32 × Int32) → am0 (Int32 × Int32)) (x1 : Int32 × Int32 × Int32) : am0 (Int32 × Int32) :=
bd (gI 0 1 6) fun v3 =>
if v3 ≤ x1.2.2 then (rt (x1.1, x1.2.1)) else
bd (rR 24 1 x1.2.2) fun r5 =>
bd (gI 3 r5 0) fun v6 =>
bd (if v6 = a1 then (bd (rR 24 1 x1.2.2) fun r9 =>
bd (gI 3 r9 2) fun v10 =>
bd (rt (if x1.1 < v10 then v10 else x1.1)) fun v11 =>
rt (v11, (x1.2.1 + 1))) else
rt (x1.1, x1.2.1)) fun (z7 : Int32 × Int32) =>
rec1 (z7.1, z7.2, (x1.2.2 + 1))
def p_X1_hear_L64 (a1 : Int32) (rec12 : (Int32 × Int32) → am0 (Int32)) (x12 : Int32 × Int32) : am0 (Int32) :=
bd (gI 0 1 25) fun v14 =>
if v14 ≤ x12.2 then (rt x12.1) else
bd (rR 32 1 x12.2) fun r16 =>
bd (gI 7 r16 4) fun v17 =>
bd (if v17 = 0 then (bd (rR 32 1 x12.2) fun r20 =>
bd (gI 7 r20 1) fun v21 =>
if v21 = a1 then (rt x12.1) else
rt (x12.1 + 1)) else
rt x12.1) fun (z18 : Int32) =>
rec12 (z18, (x12.2 + 1))
def p_X1_hear (a1 : Int32) (a2 : Int32) : am0 Unit :=
bd (gM) fun _ =>
bd (alp (p_X1_hear_L11 a1) amFu (0, 0, 0)) fun (y2 : Int32 × Int32) =>
bd (alp (p_X1_hear_L64 a1) amFu (0, 0)) fun (y13 : Int32) =>
bd (wI 29 1 119 a2) fun _ =>
bd (gI 0 1 0) fun v23 =>
bd (wI 29 1 104 ((v23 / 60) - (v23 / 60) / 24 * 24)) fun _ =>
bd (wI 29 1 102 y2.1) fun _ =>
bd (wI 29 1 107 y2.2) fun _ =>
bd (gI 0 1 0) fun v24 =>
bd (p_X1_partOf v24) fun v25 =>
bd (p_X1_falsely a1 v25) fun v26 =>
bd (wI 29 1 97 v26) fun _ =>
bd (p_X1_readyOf 0) fun v27 =>
bd (wI 29 1 112 v27) fun _ =>
bd (p_X1_readyOf 1) fun v28 =>
bd (wI 29 1 115 v28) fun _ =>
bd (p_X1_readyOf 2) fun v29 =>
bd (wI 29 1 108 v29) fun _ =>
bd (p_X1_readyOf 3) fun v30 =>
bd (wI 29 1 99 v30) fun _ =>
bd (wI 29 1 111 y13) fun _ =>
rt ()
def p_X17_value (r0 : Nat) : am0 Int32 :=
bd (gIs [13] 9 r0 0) fun v1 =>
bd (rI 29 1 v1) fun v2 =>
rt v2
def p_X18_value (r0 : Nat) : am0 Int32 :=
bd (gIs [12] 9 r0 0) fun v1 =>
rt v1
def b_X19_value (s_X19_value : Nat → am0 Int32) (r0 : Nat) : am0 Int32 :=
bd (gRs [14] 9 r0 1) fun r1 =>
bd (vc 9 r1 (fun c => if c = 12 then p_X18_value r1 else if c = 13 then p_X17_value r1 else if c = 14 then s_X19_value r1 else fl0)) fun v3 =>
bd (gRs [14] 9 r0 2) fun r4 =>
bd (vc 9 r4 (fun c => if c = 12 then p_X18_value r4 else if c = 13 then p_X17_value r4 else if c = 14 then s_X19_value r4 else fl0)) fun v6 =>
bd (gIs [14] 9 r0 0) fun v7 =>
bd (if v7 = 43 then (rt (v3.toInt64 + v6.toInt64)) else
bd (gIs [14] 9 r0 0) fun v10 =>
if v10 = 45 then (rt (v3.toInt64 - v6.toInt64)) else
rt (v3.toInt64 * v6.toInt64)) fun (z8 : Int64) =>
bd (rt (if z8 < 1000000 then z8 else 1000000)) fun v12 =>
bd (rt (if v12 < (-1000000) then (-1000000) else v12)) fun v13 =>
rt v13.toInt32
def gr_X19_value : Nat → (Nat → am0 Int32)
  | 0 => (fun _ => fl0)
  | d + 1 => (b_X19_value (gr_X19_value d))
def p_X19_value (d : Nat) : Nat → am0 Int32 := (gr_X19_value d)
def p_X20_holds (r0 : Nat) : am0 Int32 :=
bd (gRs [15] 10 r0 1) fun r1 =>
bd (vc 9 r1 (fun c => if c = 12 then p_X18_value r1 else if c = 13 then p_X17_value r1 else if c = 14 then p_X19_value 256 r1 else fl0)) fun v3 =>
bd (gRs [15] 10 r0 2) fun r4 =>
bd (vc 9 r4 (fun c => if c = 12 then p_X18_value r4 else if c = 13 then p_X17_value r4 else if c = 14 then p_X19_value 256 r4 else fl0)) fun v6 =>
bd (gIs [15] 10 r0 0) fun v7 =>
if v7 = 61 then (if v3 = v6 then (rt 1) else
rt 0) else
bd (gIs [15] 10 r0 0) fun v10 =>
if v10 = 60 then (if v6 ≤ v3 then (rt 0) else
rt 1) else
if v3 ≤ v6 then (rt 0) else
rt 1
def b_X15_holds (s_X15_holds : Nat → am0 Int32) (s_X21_holds : Nat → am0 Int32) (r0 : Nat) : am0 Int32 :=
bd (gRs [16] 10 r0 0) fun r1 =>
bd (vc 10 r1 (fun c => if c = 15 then p_X20_holds r1 else if c = 16 then s_X15_holds r1 else if c = 17 then s_X21_holds r1 else fl0)) fun v3 =>
if v3 = 0 then (rt 1) else
rt 0
def b_X21_holds (s_X15_holds : Nat → am0 Int32) (s_X21_holds : Nat → am0 Int32) (r0 : Nat) : am0 Int32 :=
bd (gIs [17] 10 r0 0) fun v1 =>
if v1 = 0 then (bd (gRs [17] 10 r0 1) fun r3 =>
bd (vc 10 r3 (fun c => if c = 15 then p_X20_holds r3 else if c = 16 then s_X15_holds r3 else if c = 17 then s_X21_holds r3 else fl0)) fun v5 =>
jn (fun (z6 : Unit) => rt 1) fun (k6 : Unit → am0 (Int32)) =>
if v5 = 0 then (bd (gRs [17] 10 r0 2) fun r8 =>
bd (vc 10 r8 (fun c => if c = 15 then p_X20_holds r8 else if c = 16 then s_X15_holds r8 else if c = 17 then s_X21_holds r8 else fl0)) fun v10 =>
if v10 = 0 then (rt 0) else
k6 ()) else
k6 ()) else
bd (gRs [17] 10 r0 1) fun r12 =>
bd (vc 10 r12 (fun c => if c = 15 then p_X20_holds r12 else if c = 16 then s_X15_holds r12 else if c = 17 then s_X21_holds r12 else fl0)) fun v14 =>
jn (fun (z15 : Unit) => rt 0) fun (k15 : Unit → am0 (Int32)) =>
if v14 = 0 then (k15 ()) else
bd (gRs [17] 10 r0 2) fun r17 =>
bd (vc 10 r17 (fun c => if c = 15 then p_X20_holds r17 else if c = 16 then s_X15_holds r17 else if c = 17 then s_X21_holds r17 else fl0)) fun v19 =>
if v19 = 0 then (k15 ()) else
rt 1
def gr_X15_holds : Nat → (Nat → am0 Int32) × (Nat → am0 Int32)
  | 0 => (fun _ => fl0, fun _ => fl0)
  | d + 1 => (b_X15_holds (gr_X15_holds d).1 (gr_X15_holds d).2, b_X21_holds (gr_X15_holds d).1 (gr_X15_holds d).2)
def p_X15_holds (d : Nat) : Nat → am0 Int32 := (gr_X15_holds d).1
def p_X21_holds (d : Nat) : Nat → am0 Int32 := (gr_X15_holds d).2
def p_X1_answer_L13  (rec1 : Int32 → am0 (Unit)) (x1 : Int32) : am0 (Unit) :=
if 4 < x1 then (rt ()) else
bd (wI 33 1 x1 0) fun _ =>
rec1 (x1 + 1)
def p_X1_answer_L102 (x9 : Int32 × Nat) (rec20 : Int32 → am0 (Unit)) (x20 : Int32) : am0 (Unit) :=
if 4 < x20 then (rt ()) else
bd (rI 33 1 x20) fun v23 =>
bd (gR 8 x9.2 1) fun r24 =>
bd (rI 152 r24 x20) fun v25 =>
bd (rt (if (v23 + v25) < 9 then (v23 + v25) else 9)) fun v26 =>
bd (wI 33 1 x20 v26) fun _ =>
rec20 (x20 + 1)
def p_X1_answer_L57  (rec9 : (Int32 × Nat) → am0 (Unit)) (x9 : Int32 × Nat) : am0 (Unit) :=
if x9.2 = 0 then (rt ()) else
bd (gR 8 x9.2 0) fun r12 =>
bd (vc 10 r12 (fun c => if c = 15 then p_X20_holds r12 else if c = 16 then p_X15_holds 256 r12 else if c = 17 then p_X21_holds 256 r12 else fl0)) fun v14 =>
bd (if v14 = 0 then (rt ()) else
bd (gI 0 1 27) fun v17 =>
bd (if 30 ≤ x9.1 then (rt 0) else
rt ((1 : Int32) <<< (x9.1 &&& 31))) fun (z18 : Int32) =>
bd (pI 0 1 27 (v17 ||| z18)) fun _ =>
bd (alp (p_X1_answer_L102 x9) amFu 0) fun (y21 : Unit) =>
rt ()) fun (z15 : Unit) =>
bd (gR 8 x9.2 3) fun r27 =>
rec9 ((x9.1 + 1), r27)
def p_X1_answer (a1 : Int32) (a2 : Int32) : am0 Unit :=
bd (gM) fun _ =>
bd (p_X1_hear a1 a2) fun _ =>
bd (pI 0 1 27 0) fun _ =>
bd (alp (p_X1_answer_L13) amFu 0) fun (y2 : Unit) =>
bd (gI 0 1 23) fun v4 =>
bd (if v4 = 0 then (rt 0) else
bd (gI 0 1 23) fun v7 =>
bd (rR 31 1 (v7 - 1)) fun r8 =>
rt r8) fun (z5 : Nat) =>
bd (alp (p_X1_answer_L57) amFu (0, z5)) fun (y10 : Unit) =>
rt ()
def p_X1_asks (a1 : Int32) (a2 : Int32) (a3 : Int32) : am0 Int32 :=
bd (gM) fun _ =>
bd (p_X1_isCorner a1) fun v1 =>
if v1 = 0 then (rt (-1)) else
bd (p_X1_in a2 1 3) fun v3 =>
if v3 = 0 then (rt (-1)) else
bd (p_X1_in a3 0 4) fun v5 =>
if v5 = 0 then (rt (-1)) else
bd (p_X1_answer a1 a2) fun _ =>
bd (rI 33 1 a3) fun v7 =>
rt v7
def p_X1_why (a1 : Int32) (a2 : Int32) : am0 Int32 :=
bd (p_X1_isCorner a1) fun v1 =>
if v1 = 0 then (rt (-1)) else
bd (p_X1_in a2 1 3) fun v3 =>
if v3 = 0 then (rt (-1)) else
bd (p_X1_answer a1 a2) fun _ =>
bd (gI 0 1 27) fun v5 =>
rt v5
def p_X1_openAt_L2 (a1 : Int32) (rec1 : Int32 → am0 Nat) (x1 : Int32) : am0 Nat :=
bd (gI 0 1 25) fun v2 =>
if v2 ≤ x1 then (rt 0) else
bd (rR 32 1 x1) fun r4 =>
bd (gI 7 r4 1) fun v5 =>
jn (fun (z6 : Unit) => rec1 (x1 + 1)) fun (k6 : Unit → am0 (Nat)) =>
if v5 = a1 then (bd (rR 32 1 x1) fun r8 =>
bd (gI 7 r8 4) fun v9 =>
if v9 = 0 then (bd (rR 32 1 x1) fun r11 =>
rt r11) else
k6 ()) else
k6 ()
def p_X1_openAt (a1 : Int32) : am0 Nat :=
bd (gM) fun _ =>
alp (p_X1_openAt_L2 a1) amFu 0
def p_X13_init (r0 : Nat) (a1 : Int32) (a2 : Int32) (a3 : Int32) : am0 Unit :=
bd (nn r0) fun _ =>
bd (pI 7 r0 3 1) fun _ =>
bd (pI 7 r0 4 0) fun _ =>
bd (pI 7 r0 5 (-1)) fun _ =>
bd (pI 7 r0 8 1) fun _ =>
bd (pI 7 r0 0 a1) fun _ =>
bd (pI 7 r0 1 a2) fun _ =>
bd (pI 7 r0 2 a3) fun _ =>
rt ()
def p_X1_nearest_L5 (a1 : Int32) (a2 : Int32) (rec1 : (Nat × Int32) → am0 (Nat)) (x1 : Nat × Int32) : am0 (Nat) :=
bd (gI 0 1 13) fun v3 =>
if v3 ≤ x1.2 then (rt x1.1) else
bd (rR 28 1 x1.2) fun r5 =>
bd (gI 6 r5 5) fun v6 =>
bd (if v6 = 0 then (bd (vc 6 r5 (fun c => if c = 6 then p_X9_sort r5 else if c = 7 then p_X10_sort r5 else if c = 8 then p_X11_sort r5 else if c = 9 then p_X12_sort r5 else fl0)) fun v10 =>
if v10 = a1 then (bd (gI 6 r5 6) fun v12 =>
bd (gI 0 1 0) fun v13 =>
bd (vc 6 r5 (fun c => if c = 6 then p_X8_slowNow r5 else if c = 7 then p_X8_slowNow r5 else if c = 8 then p_X8_slowNow r5 else if c = 9 then p_X8_slowNow r5 else fl0)) fun v15 =>
bd (p_X1_comeOn v12 a2 v13 v15) fun v16 =>
if v16 = (-1) then (rt x1.1) else
jn (fun (z18 : Unit) => bd (pI 0 1 28 v16) fun _ =>
rt r5) fun (k18 : Unit → am0 ((Nat))) =>
if x1.1 = 0 then (k18 ()) else
bd (gI 0 1 28) fun v20 =>
if v16 < v20 then (k18 ()) else
rt x1.1) else
rt x1.1) else
rt x1.1) fun (z7 : Nat) =>
rec1 (z7, (x1.2 + 1))
def p_X1_nearest (a1 : Int32) (a2 : Int32) : am0 Nat :=
bd (gM) fun _ =>
bd (alp (p_X1_nearest_L5 a1 a2) amFu (0, 0)) fun (y2 : Nat) =>
rt y2
def p_X1_isManned_L2 (a1 : Int32) (rec1 : Int32 → am0 Int32) (x1 : Int32) : am0 Int32 :=
bd (gI 0 1 13) fun v2 =>
if v2 ≤ x1 then (rt 0) else
bd (rR 28 1 x1) fun r4 =>
bd (gI 6 r4 6) fun v5 =>
jn (fun (z6 : Unit) => rec1 (x1 + 1)) fun (k6 : Unit → am0 (Int32)) =>
if v5 = a1 then (bd (rR 28 1 x1) fun r8 =>
bd (gI 6 r8 5) fun v9 =>
if v9 = 0 then (rt 1) else
bd (rR 28 1 x1) fun r11 =>
bd (gI 6 r11 5) fun v12 =>
if v12 = 3 then (rt 1) else
k6 ()) else
k6 ()
def p_X1_isManned (a1 : Int32) : am0 Int32 :=
bd (gM) fun _ =>
alp (p_X1_isManned_L2 a1) amFu 0
def p_X1_emptyHome_L4  (rec1 : (Int32 × Int32) → am0 (Int32)) (x1 : Int32 × Int32) : am0 (Int32) :=
bd (gI 0 1 13) fun v3 =>
if v3 ≤ x1.2 then (rt x1.1) else
bd (rR 28 1 x1.2) fun r5 =>
bd (gI 6 r5 1) fun v6 =>
bd (p_X1_isManned v6) fun v7 =>
bd (if v7 = 0 then (jn (fun (z10 : Unit) => bd (rR 28 1 x1.2) fun r15 =>
bd (gI 6 r15 1) fun v16 =>
rt v16) fun (k10 : Unit → am0 ((Int32))) =>
if x1.1 = (-1) then (k10 ()) else
bd (rR 28 1 x1.2) fun r12 =>
bd (gI 6 r12 1) fun v13 =>
if x1.1 ≤ v13 then (rt x1.1) else
k10 ()) else
rt x1.1) fun (z8 : Int32) =>
rec1 (z8, (x1.2 + 1))
def p_X1_emptyHome  : am0 Int32 :=
bd (gM) fun _ =>
bd (alp (p_X1_emptyHome_L4) amFu ((-1), 0)) fun (y2 : Int32) =>
rt y2
def p_X1_hasMate_L2 (a1 : Nat) (rec1 : Int32 → am0 Int32) (x1 : Int32) : am0 Int32 :=
bd (gI 0 1 13) fun v2 =>
if v2 ≤ x1 then (rt 0) else
bd (rR 28 1 x1) fun r4 =>
jn (fun (z5 : Unit) => rec1 (x1 + 1)) fun (k5 : Unit → am0 (Int32)) =>
if r4 = a1 then (k5 ()) else
bd (rR 28 1 x1) fun r7 =>
bd (gI 6 r7 5) fun v8 =>
if v8 = 0 then (bd (rR 28 1 x1) fun r10 =>
bd (gI 6 r10 6) fun v11 =>
bd (gI 6 a1 6) fun v12 =>
if v11 = v12 then (rt 1) else
k5 ()) else
k5 ()
def p_X1_hasMate (a1 : Nat) : am0 Int32 :=
bd (gM) fun _ =>
alp (p_X1_hasMate_L2 a1) amFu 0
def p_X1_moveUp_L19 (v1 : Int32) (rec3 : (Nat × Int32 × Int32) → am0 (Nat × Int32)) (x3 : Nat × Int32 × Int32) : am0 (Nat × Int32) :=
bd (gI 0 1 13) fun v5 =>
if v5 ≤ x3.2.2 then (rt (x3.1, x3.2.1)) else
bd (rR 28 1 x3.2.2) fun r7 =>
bd (gI 6 r7 5) fun v8 =>
bd (if v8 = 0 then (bd (p_X1_hasMate r7) fun v11 =>
if v11 = 0 then (rt (x3.1, x3.2.1)) else
bd (gI 6 r7 6) fun v13 =>
bd (gI 0 1 0) fun v14 =>
bd (vc 6 r7 (fun c => if c = 6 then p_X8_slowNow r7 else if c = 7 then p_X8_slowNow r7 else if c = 8 then p_X8_slowNow r7 else if c = 9 then p_X8_slowNow r7 else fl0)) fun v16 =>
bd (p_X1_comeOn v13 v1 v14 v16) fun v17 =>
if v17 = (-1) then (rt (x3.1, x3.2.1)) else
jn (fun (z19 : Unit) => rt (r7, v17)) fun (k19 : Unit → am0 ((Nat × Int32))) =>
if x3.1 = 0 then (k19 ()) else
if v17 < x3.2.1 then (k19 ()) else
rt (x3.1, x3.2.1)) else
rt (x3.1, x3.2.1)) fun (z9 : Nat × Int32) =>
rec3 (z9.1, z9.2, (x3.2.2 + 1))
def p_X1_moveUp  : am0 Int32 :=
bd (gM) fun _ =>
bd (p_X1_emptyHome) fun v1 =>
if v1 = (-1) then (rt 0) else
bd (alp (p_X1_moveUp_L19 v1) amFu (0, 0, 0)) fun (y4 : Nat × Int32) =>
if y4.1 = 0 then (rt 0) else
bd (pI 6 y4.1 5 3) fun _ =>
bd (pI 6 y4.1 6 v1) fun _ =>
bd (pI 6 y4.1 7 y4.2) fun _ =>
rt 1
def p_X1_send_L21 (a1 : Nat) (x3 : Int32) (rec6 : Int32 → am0 (Unit)) (x6 : Int32) : am0 (Unit) :=
bd (rI 33 1 x3) fun v8 =>
if v8 ≤ x6 then (rt ()) else
bd (gI 7 a1 1) fun v10 =>
bd (p_X1_nearest x3 v10) fun r11 =>
bd (if r11 = 0 then (bd (gI 7 a1 7) fun v14 =>
bd (pI 7 a1 7 (v14 + 1)) fun _ =>
rt ()) else
bd (pI 6 r11 5 1) fun _ =>
bd (gI 7 a1 1) fun v15 =>
bd (pI 6 r11 6 v15) fun _ =>
bd (gI 0 1 28) fun v16 =>
bd (pI 6 r11 7 v16) fun _ =>
bd (gI 7 a1 0) fun v17 =>
bd (pI 6 r11 8 v17) fun _ =>
bd (gI 7 a1 6) fun v18 =>
bd (pI 7 a1 6 (v18 + 1)) fun _ =>
rt ()) fun (z12 : Unit) =>
rec6 (x6 + 1)
def p_X1_send_L14 (a1 : Nat) (rec3 : Int32 → am0 (Unit)) (x3 : Int32) : am0 (Unit) :=
if 4 ≤ x3 then (rt ()) else
bd (alp (p_X1_send_L21 a1 x3) amFu 0) fun (y7 : Unit) =>
rec3 (x3 + 1)
def p_X1_send_L122  (rec20 : Int32 → am0 (Unit)) (x20 : Int32) : am0 (Unit) :=
if x20 ≤ 0 then (rt ()) else
bd (p_X1_moveUp) fun v23 =>
if v23 = 0 then (rt ()) else
rec20 (x20 + (-1))
def p_X1_send (a1 : Nat) : am0 Unit :=
bd (gM) fun _ =>
bd (gI 7 a1 1) fun v1 =>
bd (gI 7 a1 3) fun v2 =>
bd (p_X1_answer v1 v2) fun _ =>
bd (alp (p_X1_send_L14 a1) amFu 0) fun (y4 : Unit) =>
bd (rI 33 1 4) fun v19 =>
bd (alp (p_X1_send_L122) amFu v19) fun (y21 : Unit) =>
rt ()
def p_X1_call (a1 : Int32) : am1 Int32 :=
bd1 (up (gM)) fun _ =>
bd1 (up (p_X1_isCorner a1)) fun v1 =>
if v1 = 0 then (rt1 (-1)) else
bd1 (up (p_X1_openAt a1)) fun r3 =>
if r3 = 0 then (bd1 (up (gI 0 1 25)) fun v11 =>
if v11 = 60 then (rt1 (-1)) else
bd1 (nw 7 10 10) fun r13 =>
bd1 (up (gI 0 1 25)) fun v14 =>
bd1 (up (gI 0 1 0)) fun v15 =>
bd1 (up (nn r13)) fun _ =>
bd1 (up (p_X13_init r13 v14 a1 v15)) fun _ =>
bd1 (up (gI 0 1 25)) fun v17 =>
bd1 (up (wR 32 1 v17 r13)) fun _ =>
bd1 (up (gI 0 1 25)) fun v18 =>
bd1 (up (pI 0 1 25 (v18 + 1))) fun _ =>
bd1 (up (p_X1_notice)) fun _ =>
bd1 (up (p_X1_send r13)) fun _ =>
bd1 (up (gI 7 r13 0)) fun v19 =>
rt1 v19) else
bd1 (up (gI 7 r3 8)) fun v5 =>
bd1 (up (pI 7 r3 8 (v5 + 1))) fun _ =>
bd1 (up (gI 7 r3 3)) fun v6 =>
bd1 (if 3 ≤ v6 then (rt1 ()) else
bd1 (up (gI 7 r3 3)) fun v9 =>
bd1 (up (pI 7 r3 3 (v9 + 1))) fun _ =>
bd1 (up (p_X1_send r3)) fun _ =>
rt1 ()) fun (z7 : Unit) =>
bd1 (up (gI 7 r3 0)) fun v10 =>
rt1 v10
def p_X1_called (a1 : Int32) (a2 : Int32) : am0 Int32 :=
bd (gM) fun _ =>
bd (gI 0 1 25) fun v1 =>
bd (p_X1_in a1 0 (v1 - 1)) fun v2 =>
if v2 = 0 then (rt (-1)) else
bd (rR 32 1 a1) fun r4 =>
if a2 = 0 then (bd (gI 7 r4 1) fun v6 =>
rt v6) else
if a2 = 1 then (bd (gI 7 r4 3) fun v8 =>
rt v8) else
if a2 = 2 then (bd (gI 7 r4 4) fun v10 =>
rt v10) else
if a2 = 3 then (bd (gI 7 r4 2) fun v12 =>
rt v12) else
if a2 = 4 then (bd (gI 7 r4 5) fun v14 =>
rt v14) else
if a2 = 5 then (bd (gI 7 r4 6) fun v16 =>
rt v16) else
if a2 = 6 then (bd (gI 7 r4 7) fun v18 =>
rt v18) else
if a2 = 7 then (bd (gI 7 r4 8) fun v20 =>
rt v20) else
rt (-1)
def p_X1_close (a1 : Nat) (a2 : Int32) : am0 Unit :=
bd (pI 7 a1 4 a2) fun _ =>
bd (gI 0 1 0) fun v1 =>
bd (pI 7 a1 5 v1) fun _ =>
rt ()
def p_X1_arrive (a1 : Nat) : am0 Unit :=
bd (gM) fun _ =>
bd (gI 6 a1 7) fun v1 =>
if v1 = (-1) then (rt ()) else
bd (gI 6 a1 7) fun v3 =>
bd (gI 0 1 0) fun v4 =>
if v4 < v3 then (rt ()) else
bd (gI 6 a1 5) fun v6 =>
jn (fun (z7 : Unit) => bd (pI 6 a1 7 (-1)) fun _ =>
bd (gI 6 a1 5) fun v11 =>
if v11 = 3 then (bd (gI 6 a1 6) fun v13 =>
bd (p_X1_ready a1 v13) fun _ =>
rt ()) else
bd (gI 6 a1 8) fun v14 =>
bd (rR 32 1 v14) fun r15 =>
bd (gI 7 r15 1) fun v16 =>
bd (p_X1_worst v16) fun r17 =>
jn (fun (z18 : Unit) => bd (gI 7 r15 4) fun v23 =>
bd (if v23 = 0 then (bd (gI 7 r15 9) fun v26 =>
bd (if v26 = 0 then (rt 2) else
rt 1) fun (z27 : Int32) =>
bd (p_X1_close r15 z27) fun _ =>
rt ()) else
rt ()) fun (z24 : Unit) =>
bd (p_X1_turnHome a1) fun _ =>
rt ()) fun (k18 : Unit → am0 (Unit)) =>
if r17 = 0 then (k18 ()) else
bd (gI 7 r15 4) fun v20 =>
if v20 = 0 then (bd (pI 6 a1 5 2) fun _ =>
bd (pR 6 a1 15 r17) fun _ =>
bd (gI 0 1 0) fun v22 =>
bd (pI 6 a1 12 v22) fun _ =>
rt ()) else
k18 ()) fun (k7 : Unit → am0 (Unit)) =>
if v6 = 1 then (k7 ()) else
bd (gI 6 a1 5) fun v9 =>
if v9 = 3 then (k7 ()) else
rt ()
def p_X1_goOver (a1 : Nat) : am0 Unit :=
bd (gI 6 a1 5) fun v1 =>
if v1 = 2 then (bd (gR 6 a1 15) fun r3 =>
bd (nn r3) fun _ =>
bd (p_X5_burning r3) fun v5 =>
if v5 ≤ 0 then (bd (gR 6 a1 15) fun r7 =>
bd (gI 3 r7 0) fun v8 =>
bd (p_X1_worst v8) fun r9 =>
if r9 = 0 then (rt ()) else
bd (pR 6 a1 15 r9) fun _ =>
rt ()) else
rt ()) else
rt ()
def p_X1_save_L19 (r1 : Nat) (rec6 : Int32 → am0 Unit) (x6 : Int32) : am0 Unit :=
if x6 < 0 then (rt ()) else
bd (gC 3 r1 2) fun _ =>
bd (gC 4 (2 * r1 - 1) 4) fun _ =>
bd (rI 149 (2 * r1 - 1) x6) fun v8 =>
jn (fun (z9 : Unit) => rec6 (x6 + (-1))) fun (k9 : Unit → am0 (Unit)) =>
if v8 = 0 then (bd (gC 3 r1 0) fun _ =>
bd (rI 143 r1 x6) fun v11 =>
if v11 = 0 then (k9 ()) else
bd (gC 3 r1 0) fun _ =>
bd (rI 143 r1 x6) fun v13 =>
bd (rt (if v13 < 2 then v13 else 2)) fun v14 =>
bd (gC 3 r1 0) fun _ =>
bd (rI 143 r1 x6) fun v15 =>
bd (wI 143 r1 x6 (v15 - v14)) fun _ =>
bd (gI 3 r1 9) fun v16 =>
bd (pI 3 r1 9 (v16 + v14)) fun _ =>
rt ()) else
k9 ()
def p_X1_save (a1 : Nat) : am0 Unit :=
bd (gRs [8] 6 a1 15) fun r1 =>
bd (gIs [8] 6 a1 16) fun v2 =>
bd (gI 3 r1 2) fun v3 =>
bd (rt (if v3 < v2 then v3 else v2)) fun v4 =>
bd (rt (v4 - 1)) fun v5 =>
alp (p_X1_save_L19 r1) amFu v5
def p_X1_hasChief_L2 (a1 : Nat) (rec1 : Int32 → am0 Int32) (x1 : Int32) : am0 Int32 :=
bd (gI 0 1 13) fun v2 =>
if v2 ≤ x1 then (rt 0) else
bd (rR 28 1 x1) fun r4 =>
bd (gI 6 r4 5) fun v5 =>
jn (fun (z6 : Unit) => rec1 (x1 + 1)) fun (k6 : Unit → am0 (Int32)) =>
if v5 = 2 then (bd (rR 28 1 x1) fun r8 =>
bd (gR 6 r8 15) fun r9 =>
if r9 = a1 then (bd (rR 28 1 x1) fun r11 =>
bd (io [9] 6 r11) fun v12 =>
if v12 = 0 then (k6 ()) else
rt 1) else
k6 ()) else
k6 ()
def p_X1_hasChief (a1 : Nat) : am0 Int32 :=
bd (gM) fun _ =>
alp (p_X1_hasChief_L2 a1) amFu 0
def p_X1_roomFor_L15 (a1 : Nat) (a2 : Int32) (v1 : Int32) (rec2 : (Int32 × Int32 × Int32) → am0 (Int32)) (x2 : Int32 × Int32 × Int32) : am0 (Int32) :=
bd (nn a1) fun _ =>
bd (p_X5_all a1) fun v5 =>
if v5 ≤ x2.2.2 then (rt x2.1) else
bd (nn a1) fun _ =>
bd (p_X5_floorOf a1 x2.2.2) fun v8 =>
if a2 < v8 then (rt x2.1) else
bd (gC 3 a1 2) fun _ =>
bd (nn a1) fun _ =>
bd (p_X5_burns a1 (2 * a1 - 1) x2.2.2) fun v11 =>
bd (if v11 = 0 then (rt (x2.1, x2.2.1)) else
bd (if v1 = 0 then (rt 0) else
bd (gC 3 a1 2) fun _ =>
bd (gC 4 (2 * a1 - 1) 0) fun _ =>
bd (rI 145 (2 * a1 - 1) x2.2.2) fun v16 =>
bd (gC 3 a1 2) fun _ =>
bd (gC 4 (2 * a1 - 1) 2) fun _ =>
bd (rI 147 (2 * a1 - 1) x2.2.2) fun v17 =>
rt (v16 - (v17 / 4))) fun (z14 : Int32) =>
jn (fun (z18 : Unit) => rt (x2.2.2, z14)) fun (k18 : Unit → am0 ((Int32 × Int32))) =>
if x2.1 = (-1) then (k18 ()) else
if x2.2.1 < z14 then (k18 ()) else
rt (x2.1, x2.2.1)) fun (z12 : Int32 × Int32) =>
rec2 (z12.1, z12.2, (x2.2.2 + 1))
def p_X1_roomFor (a1 : Nat) (a2 : Int32) : am0 Int32 :=
bd (p_X1_hasChief a1) fun v1 =>
bd (alp (p_X1_roomFor_L15 a1 a2 v1) amFu ((-1), 0, 0)) fun (y3 : Int32) =>
rt y3
def p_X9_asks (r0 : Nat) (a1 : Int32) : am0 Int32 :=
bd (gIs [6, 7] 6 r0 17) fun v1 =>
rt v1
def p_X10_asks (r0 : Nat) (a1 : Int32) : am0 Int32 :=
bd (gIs [7] 6 r0 18) fun v1 =>
if v1 ≤ a1 then (bd (nn r0) fun _ =>
bd (p_X9_asks r0 a1) fun v4 =>
rt v4) else
rt 0
def p_X5_bears (r0 : Nat) : am0 Int32 :=
bd (gI 3 r0 3) fun v1 =>
bd (gI 3 r0 1) fun v2 =>
bd (if v2 = 0 then (rt 60) else
bd (gI 3 r0 1) fun v5 =>
if v5 = 1 then (rt 100) else
rt 140) fun (z3 : Int32) =>
rt (v1 * z3)
def p_X1_leaves (a1 : Nat) (a2 : Nat) (a3 : Int32) : am0 Int32 :=
bd (gM) fun _ =>
bd (gR 0 1 22) fun r1 =>
if r1 = 0 then (rt 0) else
bd (nn a2) fun _ =>
bd (p_X5_floorOf a2 a3) fun v4 =>
bd (wI 29 1 118 v4) fun _ =>
bd (gC 3 a2 2) fun _ =>
bd (nn a2) fun _ =>
bd (p_X5_load a2 (2 * a2 - 1) v4) fun v6 =>
bd (nn a2) fun _ =>
bd (p_X5_bears a2) fun v8 =>
bd (nz v8) fun _ =>
bd (wI 29 1 98 ((100 * v6) / v8)) fun _ =>
bd (gI 0 1 0) fun v10 =>
bd (gI 6 a1 12) fun v11 =>
bd (wI 29 1 101 (v10 - v11)) fun _ =>
bd (gC 3 a2 2) fun _ =>
bd (gC 4 (2 * a2 - 1) 0) fun _ =>
bd (rI 145 (2 * a2 - 1) a3) fun v12 =>
bd (wI 29 1 116 v12) fun _ =>
bd (gI 6 a1 3) fun v13 =>
bd (wI 29 1 109 v13) fun _ =>
bd (nn a2) fun _ =>
bd (p_X5_burning a2) fun v15 =>
bd (wI 29 1 103 v15) fun _ =>
bd (gR 0 1 22) fun r16 =>
bd (vc 10 r16 (fun c => if c = 15 then p_X20_holds r16 else if c = 16 then p_X15_holds 256 r16 else if c = 17 then p_X21_holds 256 r16 else fl0)) fun v18 =>
bd (zg v18) fun _ => rt v18
def p_X1_work (a1 : Nat) : am0 Unit :=
bd (gM) fun _ =>
bd (pI 6 a1 11 0) fun _ =>
bd (pI 6 a1 14 0) fun _ =>
bd (pI 6 a1 13 (-1)) fun _ =>
bd (pI 6 a1 9 (-1)) fun _ =>
bd (gI 6 a1 5) fun v1 =>
if v1 = 2 then (bd (io [8] 6 a1) fun v3 =>
bd (if v3 = 0 then (rt ()) else
bd (ck [8] 6 a1) fun _ =>
bd (p_X1_save a1) fun _ =>
rt ()) fun (z4 : Unit) =>
bd (io [6, 7] 6 a1) fun v6 =>
if v6 = 0 then (rt ()) else
bd (gR 6 a1 15) fun r8 =>
bd (ck [6, 7] 6 a1) fun _ =>
bd (p_X1_reachOf a1 r8) fun v9 =>
bd (if v9 = (-1) then (rt (-1)) else
bd (p_X1_roomFor r8 v9) fun v12 =>
rt v12) fun (z10 : Int32) =>
bd (if z10 = (-1) then (rt 0) else
bd (ck [6, 7] 6 a1) fun _ =>
bd (gI 0 1 0) fun v15 =>
bd (gI 6 a1 12) fun v16 =>
bd (vc 6 a1 (fun c => if c = 6 then p_X9_asks a1 (v15 - v16) else if c = 7 then p_X10_asks a1 (v15 - v16) else fl0)) fun v18 =>
rt v18) fun (z13 : Int32) =>
if z13 = 0 then (rt ()) else
bd (pI 6 a1 13 z10) fun _ =>
bd (pI 6 a1 14 z13) fun _ =>
bd (p_X1_leaves a1 r8 z10) fun v20 =>
bd (if v20 = 0 then (bd (nn r8) fun _ =>
bd (p_X5_floorOf r8 z10) fun v24 =>
bd (pI 6 a1 9 v24) fun _ =>
rt ()) else
bd (gI 6 a1 14) fun v25 =>
bd (pI 6 a1 14 (v25 / 2)) fun _ =>
rt ()) fun (z21 : Unit) =>
bd (gI 6 a1 0) fun v26 =>
bd (gI 3 r8 0) fun v27 =>
bd (p_X1_headFor v27) fun r28 =>
bd (gI 5 r28 1) fun v29 =>
bd (wI 34 1 v26 v29) fun _ =>
bd (gC 3 r8 2) fun _ =>
bd (gC 4 (2 * r8 - 1) 2) fun _ =>
bd (rI 147 (2 * r8 - 1) z10) fun v30 =>
bd (gI 6 a1 14) fun v31 =>
bd (wI 147 (2 * r8 - 1) z10 (v30 + v31)) fun _ =>
bd (gI 6 a1 0) fun v32 =>
bd (rI 34 1 v32) fun v33 =>
bd (rI 26 1 v33) fun v34 =>
bd (gI 6 a1 14) fun v35 =>
bd (wI 26 1 v33 (v34 + v35)) fun _ =>
rt ()) else
rt ()
def p_X1_share_L12 (x1 : Int32) (rec5 : Int32 → am0 (Unit)) (x5 : Int32) : am0 (Unit) :=
if 24 ≤ x5 then (rt ()) else
bd (rR 24 1 x1) fun r8 =>
bd (gC 3 r8 2) fun _ =>
bd (gC 4 (2 * r8 - 1) 2) fun _ =>
bd (wI 147 (2 * r8 - 1) x5 0) fun _ =>
rec5 (x5 + 1)
def p_X1_share_L2  (rec1 : Int32 → am0 (Unit)) (x1 : Int32) : am0 (Unit) :=
bd (gI 0 1 6) fun v3 =>
if v3 ≤ x1 then (rt ()) else
bd (alp (p_X1_share_L12 x1) amFu 0) fun (y6 : Unit) =>
rec1 (x1 + 1)
def p_X1_share_L47  (rec9 : Int32 → am0 (Unit)) (x9 : Int32) : am0 (Unit) :=
bd (gI 0 1 13) fun v11 =>
if v11 ≤ x9 then (rt ()) else
bd (rR 28 1 x9) fun r13 =>
bd (gI 6 r13 13) fun v14 =>
bd (if v14 = (-1) then (rt ()) else
bd (rI 34 1 x9) fun v17 =>
bd (rI 26 1 v17) fun v18 =>
bd (rI 25 1 v17) fun v19 =>
bd (if v19 < v18 then (bd (gI 6 r13 14) fun v23 =>
bd (rI 25 1 v17) fun v24 =>
bd (rI 26 1 v17) fun v25 =>
bd (nz v25) fun _ =>
rt ((v23 * v24) / v25)) else
bd (gI 6 r13 14) fun v22 =>
rt v22) fun (z20 : Int32) =>
bd (pI 6 r13 11 z20) fun _ =>
bd (gR 6 r13 15) fun r27 =>
bd (gC 3 r27 2) fun _ =>
bd (gC 4 (2 * r27 - 1) 2) fun _ =>
bd (gI 6 r13 13) fun v28 =>
bd (rI 147 (2 * r27 - 1) v28) fun v29 =>
bd (gI 6 r13 11) fun v30 =>
bd (wI 147 (2 * r27 - 1) v28 (v29 + v30)) fun _ =>
bd (gR 6 r13 15) fun r31 =>
bd (gI 3 r31 11) fun v32 =>
bd (gI 6 r13 11) fun v33 =>
bd (pI 3 r31 11 (v32 + v33)) fun _ =>
rt ()) fun (z15 : Unit) =>
rec9 (x9 + 1)
def p_X1_share  : am0 Unit :=
bd (gM) fun _ =>
bd (alp (p_X1_share_L2) amFu 0) fun (y2 : Unit) =>
bd (alp (p_X1_share_L47) amFu 0) fun (y10 : Unit) =>
rt ()
def p_X1_blazeOf (a1 : Nat) (a2 : Int32) : am0 Nat :=
if a2 = 0 then (bd (gC 3 a1 2) fun _ =>
rt (2 * a1 - 1)) else
bd (gC 3 a1 3) fun _ =>
rt (2 * a1)
def p_X1_beside_L4 (a1 : Int32) (a2 : Int32) (rec2 : Int32 → am0 Nat) (x2 : Int32) : am0 Nat :=
if x2 < 0 then (rt 0) else
bd (gI 0 1 6) fun v4 =>
if v4 ≤ x2 then (rt 0) else
bd (rR 24 1 x2) fun r6 =>
bd (gI 3 r6 0) fun v7 =>
bd (rR 24 1 a1) fun r8 =>
bd (gI 3 r8 0) fun v9 =>
if v7 = v9 then (bd (rR 24 1 x2) fun r11 =>
rt r11) else
bd (rt (x2 + a2)) fun v12 =>
rec2 v12
def p_X1_beside (a1 : Int32) (a2 : Int32) : am0 Nat :=
bd (gM) fun _ =>
bd (rt (a1 + a2)) fun v1 =>
alp (p_X1_beside_L4 a1 a2) amFu v1
def p_X1_gainBy_L20 (a1 : Nat) (a3 : Int32) (a4 : Int32) (rec4 : (Int32 × Int32) → am0 (Int32)) (x4 : Int32 × Int32) : am0 (Int32) :=
bd (gI 3 a1 3) fun v6 =>
if v6 ≤ x4.2 then (rt x4.1) else
bd (p_X1_blazeOf a1 a4) fun r8 =>
bd (gC 4 r8 5) fun _ =>
bd (gI 3 a1 3) fun v9 =>
bd (rI 150 r8 ((a3 * v9) + x4.2)) fun v10 =>
bd (if v10 = 0 then (rt x4.1) else
rt (x4.1 + 1)) fun (z11 : Int32) =>
rec4 (z11, (x4.2 + 1))
def p_X1_gainBy (a1 : Nat) (a2 : Nat) (a3 : Int32) (a4 : Int32) : am0 Int32 :=
if a1 = 0 then (rt 0) else
bd (gI 3 a1 2) fun v2 =>
if a3 < v2 then (bd (alp (p_X1_gainBy_L20 a1 a3 a4) amFu (0, 0)) fun (y5 : Int32) =>
bd (gI 3 a2 6) fun v13 =>
bd (gI 3 a1 6) fun v14 =>
bd (rt ((1 + v13) + v14)) fun v15 =>
bd (nz v15) fun _ =>
rt (y5 * (24 / v15))) else
rt 0
def p_X1_gainOf (a1 : Int32) (a2 : Int32) (a3 : Int32) : am0 Int32 :=
bd (gM) fun _ =>
bd (rR 24 1 a1) fun r1 =>
bd (p_X1_blazeOf r1 a3) fun r2 =>
bd (nn r1) fun _ =>
bd (p_X5_floorOf r1 a2) fun v4 =>
bd (gI 3 r1 3) fun v5 =>
bd (nz v5) fun _ =>
bd (rt (a2 - a2 / v5 * v5)) fun v7 =>
bd (gC 4 r2 5) fun _ =>
bd (rI 150 r2 a2) fun v8 =>
bd (if v8 = 0 then (rt (-10)) else
rt 50) fun (z9 : Int32) =>
bd (gI 3 r1 5) fun v11 =>
bd (if v11 = 0 then (rt 10) else
rt 30) fun (z12 : Int32) =>
bd (if v7 ≤ 0 then (rt z9) else
bd (gC 4 r2 5) fun _ =>
bd (rI 150 r2 (a2 - 1)) fun v16 =>
if v16 = 0 then (rt z9) else
bd (rt (z9 + z12)) fun v18 =>
rt v18) fun (z14 : Int32) =>
bd (gI 3 r1 3) fun v19 =>
bd (if (v19 - 1) ≤ v7 then (rt z14) else
bd (gC 4 r2 5) fun _ =>
bd (rI 150 r2 (a2 + 1)) fun v22 =>
if v22 = 0 then (rt z14) else
bd (rt (z14 + z12)) fun v24 =>
rt v24) fun (z20 : Int32) =>
bd (if v4 ≤ 0 then (rt z20) else
bd (gC 4 r2 5) fun _ =>
bd (gI 3 r1 3) fun v27 =>
bd (rI 150 r2 (a2 - v27)) fun v28 =>
if v28 = 0 then (rt z20) else
bd (gI 3 r1 4) fun v30 =>
bd (if v7 = v30 then (rt 60) else
rt 20) fun (z31 : Int32) =>
bd (rt (z20 + z31)) fun v33 =>
rt v33) fun (z25 : Int32) =>
bd (gI 3 r1 2) fun v34 =>
bd (if (v34 - 1) ≤ v4 then (rt z25) else
bd (gC 4 r2 5) fun _ =>
bd (gI 3 r1 3) fun v37 =>
bd (rI 150 r2 (a2 + v37)) fun v38 =>
if v38 = 0 then (rt z25) else
rt (z25 + 5)) fun (z35 : Int32) =>
bd (p_X1_beside a1 (-1)) fun r40 =>
bd (p_X1_gainBy r40 r1 v4 a3) fun v41 =>
bd (p_X1_beside a1 1) fun r42 =>
bd (p_X1_gainBy r42 r1 v4 a3) fun v43 =>
bd (gC 4 r2 2) fun _ =>
bd (rI 147 r2 a2) fun v44 =>
rt (((z35 + v41) + v43) - (v44 / 4))
def p_X1_hurt_L2 (a1 : Nat) (a2 : Int32) (rec1 : Int32 → am0 (Unit)) (x1 : Int32) : am0 (Unit) :=
bd (gI 0 1 13) fun v3 =>
if v3 ≤ x1 then (rt ()) else
bd (rR 28 1 x1) fun r5 =>
bd (gI 6 r5 5) fun v6 =>
bd (if v6 = 2 then (bd (gR 6 r5 15) fun r9 =>
if r9 = a1 then (bd (gI 6 r5 9) fun v11 =>
if v11 = a2 then (bd (gI 6 r5 1) fun v13 =>
bd (p_X1_ready r5 v13) fun _ =>
bd (pI 6 r5 5 4) fun _ =>
rt ()) else
rt ()) else
rt ()) else
rt ()) fun (z7 : Unit) =>
rec1 (x1 + 1)
def p_X1_hurt (a1 : Nat) (a2 : Int32) : am0 Unit :=
bd (gM) fun _ =>
bd (alp (p_X1_hurt_L2 a1 a2) amFu 0) fun (y2 : Unit) =>
rt ()
def p_X1_fall_L51 (a1 : Nat) (a2 : Nat) (x3 : Int32) (rec14 : Int32 → am0 (Unit)) (x14 : Int32) : am0 (Unit) :=
bd (gI 3 a1 3) fun v16 =>
if v16 ≤ x14 then (rt ()) else
bd (gI 3 a1 3) fun v18 =>
bd (rt ((x3 * v18) + x14)) fun v19 =>
bd (gI 3 a1 3) fun v20 =>
bd (rt (v19 - v20)) fun v21 =>
bd (gC 4 a2 1) fun _ =>
bd (gC 4 a2 1) fun _ =>
bd (rI 146 a2 v21) fun v22 =>
bd (gC 4 a2 1) fun _ =>
bd (rI 146 a2 v19) fun v23 =>
bd (rt (if (v22 + v23) < 2000 then (v22 + v23) else 2000)) fun v24 =>
bd (wI 146 a2 v21 v24) fun _ =>
bd (gC 4 a2 4) fun _ =>
bd (rI 149 a2 (x3 - 1)) fun v25 =>
bd (if v25 = 0 then (bd (gC 4 a2 0) fun _ =>
bd (gC 4 a2 0) fun _ =>
bd (rI 145 a2 v21) fun v28 =>
bd (gC 4 a2 0) fun _ =>
bd (rI 145 a2 v19) fun v29 =>
bd (rt (if v28 < v29 then v29 else v28)) fun v30 =>
bd (wI 145 a2 v21 v30) fun _ =>
rt ()) else
rt ()) fun (z26 : Unit) =>
bd (gC 4 a2 1) fun _ =>
bd (wI 146 a2 v19 0) fun _ =>
bd (gC 4 a2 0) fun _ =>
bd (wI 145 a2 v19 0) fun _ =>
rec14 (x14 + 1)
def p_X1_fall_L8 (a1 : Nat) (a2 : Nat) (a3 : Int32) (rec3 : Int32 → am0 (Unit)) (x3 : Int32) : am0 (Unit) :=
if x3 ≤ 0 then (rt ()) else
bd (gC 4 a2 4) fun _ =>
bd (rI 149 a2 x3) fun v6 =>
bd (if v6 = 0 then (bd (nn a1) fun _ =>
bd (p_X5_load a1 a2 x3) fun v10 =>
bd (nn a1) fun _ =>
bd (p_X5_bears a1) fun v12 =>
if v12 ≤ v10 then (bd (gC 4 a2 4) fun _ =>
bd (wI 149 a2 x3 1) fun _ =>
bd (alp (p_X1_fall_L51 a1 a2 x3) amFu 0) fun (y15 : Unit) =>
if a3 = 0 then (rt ()) else
bd (gI 3 a1 10) fun v32 =>
bd (gC 3 a1 0) fun _ =>
bd (rI 143 a1 x3) fun v33 =>
bd (pI 3 a1 10 (v32 + v33)) fun _ =>
bd (gC 3 a1 0) fun _ =>
bd (wI 143 a1 x3 0) fun _ =>
bd (p_X1_hurt a1 x3) fun _ =>
rt ()) else
rt ()) else
rt ()) fun (z7 : Unit) =>
rec3 (x3 + (-1))
def p_X1_fall (a1 : Nat) (a2 : Nat) (a3 : Int32) : am0 Unit :=
bd (gI 3 a1 2) fun v1 =>
bd (rt (v1 - 1)) fun v2 =>
bd (alp (p_X1_fall_L8 a1 a2 a3) amFu v2) fun (y4 : Unit) =>
rt ()
def p_X1_change_L12 (a1 : Int32) (x1 : Int32) (rec5 : Int32 → am0 (Unit)) (x5 : Int32) : am0 (Unit) :=
bd (rR 24 1 x1) fun r7 =>
bd (nn r7) fun _ =>
bd (p_X5_all r7) fun v9 =>
if v9 ≤ x5 then (rt ()) else
bd (rR 24 1 x1) fun r11 =>
bd (p_X1_blazeOf r11 a1) fun r12 =>
bd (gC 4 r12 5) fun _ =>
bd (rR 24 1 x1) fun r13 =>
bd (rR 24 1 x1) fun r14 =>
bd (p_X1_blazeOf r14 a1) fun r15 =>
bd (nn r13) fun _ =>
bd (p_X5_burns r13 r15 x5) fun v17 =>
bd (zg v17) fun _ =>
bd (wI 150 r12 x5 v17) fun _ =>
rec5 (x5 + 1)
def p_X1_change_L2 (a1 : Int32) (rec1 : Int32 → am0 (Unit)) (x1 : Int32) : am0 (Unit) :=
bd (gI 0 1 6) fun v3 =>
if v3 ≤ x1 then (rt ()) else
bd (alp (p_X1_change_L12 a1 x1) amFu 0) fun (y6 : Unit) =>
rec1 (x1 + 1)
def p_X1_change_L86 (a1 : Int32) (x19 : Int32) (rec23 : Int32 → am0 (Unit)) (x23 : Int32) : am0 (Unit) :=
bd (rR 24 1 x19) fun r25 =>
bd (nn r25) fun _ =>
bd (p_X5_all r25) fun v27 =>
if v27 ≤ x23 then (rt ()) else
bd (rR 24 1 x19) fun r29 =>
bd (p_X1_blazeOf r29 a1) fun r30 =>
bd (gC 4 r30 6) fun _ =>
bd (p_X1_gainOf x19 x23 a1) fun v31 =>
bd (wI 151 r30 x23 v31) fun _ =>
rec23 (x23 + 1)
def p_X1_change_L76 (a1 : Int32) (rec19 : Int32 → am0 (Unit)) (x19 : Int32) : am0 (Unit) :=
bd (gI 0 1 6) fun v21 =>
if v21 ≤ x19 then (rt ()) else
bd (alp (p_X1_change_L86 a1 x19) amFu 0) fun (y24 : Unit) =>
rec19 (x19 + 1)
def p_X1_change_L162 (r36 : Nat) (r37 : Nat) (rec38 : Int32 → am0 (Unit)) (x38 : Int32) : am0 (Unit) :=
bd (nn r36) fun _ =>
bd (p_X5_all r36) fun v41 =>
if v41 ≤ x38 then (rt ()) else
bd (nn r36) fun _ =>
bd (p_X5_floorOf r36 x38) fun v44 =>
bd (gC 4 r37 5) fun _ =>
bd (rI 150 r37 x38) fun v45 =>
bd (if v45 = 0 then (rt ()) else
bd (gC 4 r37 1) fun _ =>
bd (rI 146 r37 x38) fun v48 =>
bd (gC 4 r37 0) fun _ =>
bd (rI 145 r37 x38) fun v49 =>
bd (rt (if (1 + (v49 / 250)) < v48 then (1 + (v49 / 250)) else v48)) fun v50 =>
bd (gC 4 r37 1) fun _ =>
bd (rI 146 r37 x38) fun v51 =>
bd (wI 146 r37 x38 (v51 - v50)) fun _ =>
bd (gC 4 r37 3) fun _ =>
bd (rI 148 r37 v44) fun v52 =>
bd (wI 148 r37 v44 (v52 + v50)) fun _ =>
rt ()) fun (z46 : Unit) =>
bd (gC 4 r37 0) fun _ =>
bd (gC 4 r37 4) fun _ =>
bd (rI 149 r37 v44) fun v53 =>
bd (if v53 = 0 then (bd (gC 4 r37 0) fun _ =>
bd (rI 145 r37 x38) fun v56 =>
bd (gC 4 r37 6) fun _ =>
bd (rI 151 r37 x38) fun v57 =>
bd (rt (if (v56 + v57) < 1000 then (v56 + v57) else 1000)) fun v58 =>
bd (rt (if 0 < v58 then v58 else 0)) fun v59 =>
rt v59) else
rt 0) fun (z54 : Int32) =>
bd (wI 145 r37 x38 z54) fun _ =>
bd (gC 4 r37 2) fun _ =>
bd (wI 147 r37 x38 0) fun _ =>
rec38 (x38 + 1)
def p_X1_change_L136 (a1 : Int32) (rec32 : Int32 → am0 (Unit)) (x32 : Int32) : am0 (Unit) :=
bd (gI 0 1 6) fun v34 =>
if v34 ≤ x32 then (rt ()) else
bd (rR 24 1 x32) fun r36 =>
bd (p_X1_blazeOf r36 a1) fun r37 =>
bd (alp (p_X1_change_L162 r36 r37) amFu 0) fun (y39 : Unit) =>
rec32 (x32 + 1)
def p_X1_change_L316 (a1 : Int32) (rec60 : Int32 → am0 (Unit)) (x60 : Int32) : am0 (Unit) :=
bd (gI 0 1 6) fun v62 =>
if v62 ≤ x60 then (rt ()) else
bd (rR 24 1 x60) fun r64 =>
bd (rR 24 1 x60) fun r65 =>
bd (p_X1_blazeOf r65 a1) fun r66 =>
bd (if a1 = 0 then (rt 1) else
rt 0) fun (z67 : Int32) =>
bd (p_X1_fall r64 r66 z67) fun _ =>
rec60 (x60 + 1)
def p_X1_change (a1 : Int32) : am0 Unit :=
bd (gM) fun _ =>
bd (alp (p_X1_change_L2 a1) amFu 0) fun (y2 : Unit) =>
bd (alp (p_X1_change_L76 a1) amFu 0) fun (y20 : Unit) =>
bd (alp (p_X1_change_L136 a1) amFu 0) fun (y33 : Unit) =>
bd (alp (p_X1_change_L316 a1) amFu 0) fun (y61 : Unit) =>
rt ()
def p_X1_smother_L19 (r5 : Nat) (rec6 : Int32 → am0 (Unit)) (x6 : Int32) : am0 (Unit) :=
bd (nn r5) fun _ =>
bd (p_X5_all r5) fun v9 =>
if v9 ≤ x6 then (rt ()) else
bd (nn r5) fun _ =>
bd (p_X5_floorOf r5 x6) fun v12 =>
bd (gC 3 r5 2) fun _ =>
bd (nn r5) fun _ =>
bd (p_X5_burns r5 (2 * r5 - 1) x6) fun v14 =>
bd (if v14 = 0 then (rt ()) else
bd (gC 3 r5 2) fun _ =>
bd (gC 4 (2 * r5 - 1) 0) fun _ =>
bd (rI 145 (2 * r5 - 1) x6) fun v17 =>
if v17 < 600 then (rt ()) else
bd (gC 3 r5 0) fun _ =>
bd (rI 143 r5 v12) fun v19 =>
if v19 = 0 then (rt ()) else
bd (gC 3 r5 0) fun _ =>
bd (rI 143 r5 v12) fun v21 =>
bd (wI 143 r5 v12 (v21 - 1)) fun _ =>
bd (gI 3 r5 10) fun v22 =>
bd (pI 3 r5 10 (v22 + 1)) fun _ =>
rt ()) fun (z15 : Unit) =>
rec6 (x6 + 1)
def p_X1_smother_L2  (rec1 : Int32 → am0 (Unit)) (x1 : Int32) : am0 (Unit) :=
bd (gI 0 1 6) fun v3 =>
if v3 ≤ x1 then (rt ()) else
bd (rR 24 1 x1) fun r5 =>
bd (alp (p_X1_smother_L19 r5) amFu 0) fun (y7 : Unit) =>
rec1 (x1 + 1)
def p_X1_smother  : am0 Unit :=
bd (gM) fun _ =>
bd (alp (p_X1_smother_L2) amFu 0) fun (y2 : Unit) =>
rt ()
def p_X1_isWorked_L2 (a1 : Int32) (rec1 : Int32 → am0 Int32) (x1 : Int32) : am0 Int32 :=
bd (gI 0 1 13) fun v2 =>
if v2 ≤ x1 then (rt 0) else
bd (rR 28 1 x1) fun r4 =>
bd (gI 6 r4 5) fun v5 =>
jn (fun (z6 : Unit) => rec1 (x1 + 1)) fun (k6 : Unit → am0 (Int32)) =>
if v5 = 2 then (bd (rR 28 1 x1) fun r8 =>
bd (gR 6 r8 15) fun r9 =>
bd (gI 3 r9 0) fun v10 =>
if v10 = a1 then (rt 1) else
k6 ()) else
k6 ()
def p_X1_isWorked (a1 : Int32) : am0 Int32 :=
bd (gM) fun _ =>
alp (p_X1_isWorked_L2 a1) amFu 0
def p_X1_finish_L2  (rec1 : Int32 → am0 (Unit)) (x1 : Int32) : am0 (Unit) :=
bd (gI 0 1 25) fun v3 =>
if v3 ≤ x1 then (rt ()) else
bd (rR 32 1 x1) fun r5 =>
bd (gI 7 r5 4) fun v6 =>
bd (if v6 = 0 then (bd (rR 32 1 x1) fun r9 =>
bd (gI 7 r9 1) fun v10 =>
bd (p_X1_isWorked v10) fun v11 =>
if v11 = 0 then (rt ()) else
bd (rR 32 1 x1) fun r13 =>
bd (gI 7 r13 1) fun v14 =>
bd (p_X1_worst v14) fun r15 =>
if r15 = 0 then (bd (rR 32 1 x1) fun r17 =>
bd (p_X1_close r17 1) fun _ =>
rt ()) else
rt ()) else
rt ()) fun (z7 : Unit) =>
rec1 (x1 + 1)
def p_X1_finish_L73  (rec18 : Int32 → am0 (Unit)) (x18 : Int32) : am0 (Unit) :=
bd (gI 0 1 13) fun v20 =>
if v20 ≤ x18 then (rt ()) else
bd (rR 28 1 x18) fun r22 =>
bd (gI 6 r22 5) fun v23 =>
bd (if v23 = 2 then (bd (rR 28 1 x18) fun r26 =>
bd (gR 6 r26 15) fun r27 =>
bd (gI 3 r27 0) fun v28 =>
bd (p_X1_worst v28) fun r29 =>
if r29 = 0 then (bd (rR 28 1 x18) fun r31 =>
bd (p_X1_turnHome r31) fun _ =>
rt ()) else
rt ()) else
rt ()) fun (z24 : Unit) =>
rec18 (x18 + 1)
def p_X1_finish  : am0 Unit :=
bd (gM) fun _ =>
bd (alp (p_X1_finish_L2) amFu 0) fun (y2 : Unit) =>
bd (alp (p_X1_finish_L73) amFu 0) fun (y19 : Unit) =>
rt ()
def p_X29_more (r0 : Nat) (a1 : Int32) : am0 Int32 :=
if a1 = 0 then (rt (-1)) else
if a1 = 2 then (rt 2) else
rt 1
def p_X8_tire (r0 : Nat) : am0 Unit :=
bd (gI 6 r0 5) fun v1 =>
bd (if v1 = 4 then (rt 0) else
bd (gI 6 r0 10) fun v4 =>
bd (gI 6 r0 5) fun v5 =>
bd (nn r0) fun _ =>
bd (p_X29_more r0 v5) fun v7 =>
bd (rt (if (v4 + v7) < 300 then (v4 + v7) else 300)) fun v8 =>
bd (rt (if 0 < v8 then v8 else 0)) fun v9 =>
rt v9) fun (z2 : Int32) =>
bd (pI 6 r0 10 z2) fun _ =>
rt ()
def p_X1_minute_L12  (rec2 : Int32 → am0 (Unit)) (x2 : Int32) : am0 (Unit) :=
bd (gI 0 1 13) fun v4 =>
if v4 ≤ x2 then (rt ()) else
bd (rR 28 1 x2) fun r6 =>
bd (p_X1_arrive r6) fun _ =>
rec2 (x2 + 1)
def p_X1_minute_L38  (rec7 : Int32 → am0 (Unit)) (x7 : Int32) : am0 (Unit) :=
bd (gI 0 1 13) fun v9 =>
if v9 ≤ x7 then (rt ()) else
bd (rR 28 1 x7) fun r11 =>
bd (p_X1_goOver r11) fun _ =>
rec7 (x7 + 1)
def p_X1_minute_L64  (rec12 : Int32 → am0 (Unit)) (x12 : Int32) : am0 (Unit) :=
bd (gI 0 1 10) fun v14 =>
if v14 ≤ x12 then (rt ()) else
bd (wI 26 1 x12 0) fun _ =>
rec12 (x12 + 1)
def p_X1_minute_L87  (rec16 : Int32 → am0 (Unit)) (x16 : Int32) : am0 (Unit) :=
bd (gI 0 1 13) fun v18 =>
if v18 ≤ x16 then (rt ()) else
bd (rR 28 1 x16) fun r20 =>
bd (p_X1_work r20) fun _ =>
rec16 (x16 + 1)
def p_X1_minute_L134  (rec21 : Int32 → am0 (Unit)) (x21 : Int32) : am0 (Unit) :=
bd (gI 0 1 13) fun v23 =>
if v23 ≤ x21 then (rt ()) else
bd (rR 28 1 x21) fun r25 =>
bd (vc 6 r25 (fun c => if c = 6 then p_X8_tire r25 else if c = 7 then p_X8_tire r25 else if c = 8 then p_X8_tire r25 else if c = 9 then p_X8_tire r25 else fl0)) fun _ =>
rec21 (x21 + 1)
def p_X1_minute  : am0 Unit :=
bd (gM) fun _ =>
bd (gI 0 1 0) fun v1 =>
bd (pI 0 1 0 (v1 + 1)) fun _ =>
bd (alp (p_X1_minute_L12) amFu 0) fun (y3 : Unit) =>
bd (alp (p_X1_minute_L38) amFu 0) fun (y8 : Unit) =>
bd (alp (p_X1_minute_L64) amFu 0) fun (y13 : Unit) =>
bd (alp (p_X1_minute_L87) amFu 0) fun (y17 : Unit) =>
bd (p_X1_share) fun _ =>
bd (p_X1_change 0) fun _ =>
bd (p_X1_smother) fun _ =>
bd (p_X1_notice) fun _ =>
bd (p_X1_finish) fun _ =>
bd (alp (p_X1_minute_L134) amFu 0) fun (y22 : Unit) =>
rt ()
def p_X1_tick_L27 (a1 : Int32) (rec5 : Int32 → am0 (Unit)) (x5 : Int32) : am0 (Unit) :=
if a1 ≤ x5 then (rt ()) else
bd (p_X1_minute) fun _ =>
rec5 (x5 + 1)
def p_X1_tick (a1 : Int32) : am0 Int32 :=
bd (p_X1_in a1 0 300) fun v1 =>
if v1 = 0 then (rt (-1)) else
bd (gI 0 1 0) fun v3 =>
if (v3 + a1) ≤ 20000 then (bd (alp (p_X1_tick_L27 a1) amFu 0) fun (y6 : Unit) =>
bd (gI 0 1 0) fun v8 =>
rt v8) else
rt (-1)
def p_X1_act (a1 : Int32) : am1 Int32 :=
bd1 (up (gM)) fun _ =>
bd1 (up (p_X1_in a1 1 200)) fun v1 =>
if v1 = 0 then (rt1 (-1)) else
bd1 (up (gI 0 1 37)) fun v3 =>
if v3 = 12 then (rt1 (-1)) else
bd1 (up (gI 0 1 37)) fun v5 =>
bdx1 (p_X1_whole 2) (rt1 (-1)) fun r6 =>
bd1 (up (wR 35 1 v5 r6)) fun _ =>
bd1 (up (gI 0 1 37)) fun v7 =>
bd1 (up (wI 36 1 v7 a1)) fun _ =>
bd1 (up (gI 0 1 37)) fun v8 =>
bd1 (up (gI 0 1 0)) fun v9 =>
bd1 (up (wI 37 1 v8 v9)) fun _ =>
bd1 (up (gI 0 1 37)) fun v10 =>
bd1 (up (pI 0 1 37 (v10 + 1))) fun _ =>
bd1 (up (pI 0 1 17 0)) fun _ =>
bd1 (up (gI 0 1 37)) fun v11 =>
rt1 (v11 - 1)
def p_X1_isAsked (a1 : Int32) (a2 : Int32) : am0 Int32 :=
bd (p_X1_isHouse a1) fun v1 =>
jn (fun (z2 : Unit) => rt 0) fun (k2 : Unit → am0 (Int32)) =>
if v1 = 0 then (k2 ()) else
bd (gI 0 1 0) fun v4 =>
bd (p_X1_in a2 0 v4) fun v5 =>
if v5 = 0 then (k2 ()) else
rt 1
def p_X1_forceOf_L5 (a1 : Nat) (a2 : Int32) (rec1 : (Int32 × Int32) → am0 (Int32)) (x1 : Int32 × Int32) : am0 (Int32) :=
bd (gI 0 1 37) fun v3 =>
if v3 ≤ x1.2 then (rt x1.1) else
bd (rI 37 1 x1.2) fun v5 =>
bd (if a2 < v5 then (rt x1.1) else
bd (rI 36 1 x1.2) fun v8 =>
bd (gI 3 a1 7) fun v9 =>
if v9 < v8 then (rt x1.1) else
jn (fun (z11 : Unit) => rt x1.2) fun (k11 : Unit → am0 ((Int32))) =>
if x1.1 = (-1) then (k11 ()) else
bd (rI 36 1 x1.2) fun v13 =>
bd (rI 36 1 x1.1) fun v14 =>
if v13 < v14 then (rt x1.1) else
k11 ()) fun (z6 : Int32) =>
rec1 (z6, (x1.2 + 1))
def p_X1_forceOf (a1 : Nat) (a2 : Int32) : am0 Int32 :=
bd (gM) fun _ =>
bd (alp (p_X1_forceOf_L5 a1 a2) amFu ((-1), 0)) fun (y2 : Int32) =>
rt y2
def p_X1_force (a1 : Int32) (a2 : Int32) : am0 Int32 :=
bd (gM) fun _ =>
bd (p_X1_isAsked a1 a2) fun v1 =>
if v1 = 0 then (rt (-1)) else
bd (rR 24 1 a1) fun r3 =>
bd (p_X1_forceOf r3 a2) fun v4 =>
rt v4
def p_X1_note (a1 : Int32) (a2 : Int32) (a3 : Int32) : am0 Int32 :=
bd (gM) fun _ =>
bd (gI 0 1 38) fun v1 =>
if v1 = 100 then (rt 0) else
bd (gI 0 1 38) fun v3 =>
bd (wI 38 1 v3 a1) fun _ =>
bd (gI 0 1 38) fun v4 =>
bd (wI 39 1 v4 a2) fun _ =>
bd (gI 0 1 38) fun v5 =>
bd (wI 40 1 v5 a3) fun _ =>
bd (gI 0 1 38) fun v6 =>
bd (gI 0 1 0) fun v7 =>
bd (wI 41 1 v6 v7) fun _ =>
bd (gI 0 1 38) fun v8 =>
bd (pI 0 1 38 (v8 + 1)) fun _ =>
rt 1
def p_X1_change_2 (a1 : Int32) (a2 : Int32) (a3 : Int32) : am0 Int32 :=
bd (p_X1_isHouse a1) fun v1 =>
jn (fun (z2 : Unit) => rt 0) fun (k2 : Unit → am0 (Int32)) =>
if v1 = 0 then (k2 ()) else
bd (p_X1_in a2 0 9) fun v4 =>
if v4 = 0 then (k2 ()) else
bd (gI 0 1 0) fun v6 =>
bd (p_X1_in a3 0 v6) fun v7 =>
if v7 = 0 then (k2 ()) else
bd (p_X1_note a1 a2 a3) fun v9 =>
if v9 = 0 then (k2 ()) else
rt 1
def p_X1_look_2 (a1 : Int32) : am0 Int32 :=
bd (p_X1_isHouse a1) fun v1 =>
jn (fun (z2 : Unit) => rt 0) fun (k2 : Unit → am0 (Int32)) =>
if v1 = 0 then (k2 ()) else
bd (gI 0 1 0) fun v4 =>
bd (p_X1_note a1 (-1) v4) fun v5 =>
if v5 = 0 then (k2 ()) else
rt 1
def p_X1_usedAt_L5 (a1 : Int32) (a2 : Int32) (rec1 : (Int32 × Int32) → am0 (Int32)) (x1 : Int32 × Int32) : am0 (Int32) :=
bd (gI 0 1 38) fun v3 =>
if v3 ≤ x1.2 then (rt x1.1) else
bd (rI 38 1 x1.2) fun v5 =>
bd (if v5 = a1 then (bd (rI 39 1 x1.2) fun v8 =>
if v8 = (-1) then (rt x1.1) else
bd (rI 41 1 x1.2) fun v10 =>
if a2 < v10 then (rt x1.1) else
bd (rI 40 1 x1.2) fun v12 =>
if v12 ≤ a2 then (jn (fun (z14 : Unit) => rt x1.2) fun (k14 : Unit → am0 ((Int32))) =>
if x1.1 = (-1) then (k14 ()) else
bd (rI 40 1 x1.2) fun v16 =>
bd (rI 40 1 x1.1) fun v17 =>
if v16 < v17 then (rt x1.1) else
k14 ()) else
rt x1.1) else
rt x1.1) fun (z6 : Int32) =>
rec1 (z6, (x1.2 + 1))
def p_X1_usedAt (a1 : Int32) (a2 : Int32) : am0 Int32 :=
bd (gM) fun _ =>
bd (alp (p_X1_usedAt_L5 a1 a2) amFu ((-1), 0)) fun (y2 : Int32) =>
if y2 = (-1) then (bd (rR 24 1 a1) fun r21 =>
bd (gI 3 r21 8) fun v22 =>
rt v22) else
bd (rI 39 1 y2) fun v20 =>
rt v20
def p_X1_used (a1 : Int32) (a2 : Int32) : am0 Int32 :=
bd (p_X1_isAsked a1 a2) fun v1 =>
if v1 = 0 then (rt (-1)) else
bd (p_X1_usedAt a1 a2) fun v3 =>
rt v3
def p_X1_besides (a1 : Int32) : am0 Int32 :=
bd (p_X1_beside a1 (-1)) fun r1 =>
bd (if r1 = 0 then (rt 0) else
rt 1) fun (z2 : Int32) =>
bd (p_X1_beside a1 1) fun r4 =>
bd (if r4 = 0 then (rt 0) else
rt 1) fun (z5 : Int32) =>
rt (z2 + z5)
def p_X1_unlooked_L5 (a1 : Int32) (a2 : Int32) (rec1 : (Int32 × Int32) → am0 (Int32)) (x1 : Int32 × Int32) : am0 (Int32) :=
bd (gI 0 1 38) fun v3 =>
if v3 ≤ x1.2 then (rt x1.1) else
bd (rI 38 1 x1.2) fun v5 =>
bd (if v5 = a1 then (bd (rI 39 1 x1.2) fun v8 =>
if v8 = (-1) then (bd (rI 41 1 x1.2) fun v10 =>
if a2 < v10 then (rt x1.1) else
bd (rI 41 1 x1.2) fun v12 =>
rt v12) else
rt x1.1) else
rt x1.1) fun (z6 : Int32) =>
rec1 (z6, (x1.2 + 1))
def p_X1_unlooked (a1 : Int32) (a2 : Int32) : am0 Int32 :=
bd (gM) fun _ =>
bd (alp (p_X1_unlooked_L5 a1 a2) amFu ((-1), 0)) fun (y2 : Int32) =>
if y2 = (-1) then (rt 999) else
rt ((a2 - y2) / 1440)
def p_X1_regard_L13 (r1 : Nat) (rec2 : (Int32 × Int32) → am0 (Int32)) (x2 : Int32 × Int32) : am0 (Int32) :=
bd (gI 3 r1 2) fun v4 =>
if v4 ≤ x2.2 then (rt x2.1) else
bd (gC 3 r1 1) fun _ =>
bd (rI 144 r1 x2.2) fun v6 =>
bd (rt (if x2.1 < v6 then v6 else x2.1)) fun v7 =>
rec2 (v7, (x2.2 + 1))
def p_X1_regard (a1 : Int32) (a2 : Int32) : am0 Unit :=
bd (gM) fun _ =>
bd (rR 24 1 a1) fun r1 =>
bd (alp (p_X1_regard_L13 r1) amFu (0, 0)) fun (y3 : Int32) =>
bd (gI 3 r1 2) fun v8 =>
bd (wI 29 1 115 v8) fun _ =>
bd (gI 3 r1 3) fun v9 =>
bd (wI 29 1 114 v9) fun _ =>
bd (p_X1_usedAt a1 a2) fun v10 =>
bd (wI 29 1 117 v10) fun _ =>
bd (gI 3 r1 1) fun v11 =>
bd (wI 29 1 107 v11) fun _ =>
bd (wI 29 1 103 y3) fun _ =>
bd (gI 3 r1 4) fun v12 =>
bd (if v12 = (-1) then (rt 0) else
rt 1) fun (z13 : Int32) =>
bd (wI 29 1 120 z13) fun _ =>
bd (gI 3 r1 6) fun v15 =>
bd (wI 29 1 119 v15) fun _ =>
bd (gI 3 r1 7) fun v16 =>
bd (wI 29 1 121 v16) fun _ =>
bd (gI 3 r1 5) fun v17 =>
bd (if v17 = 0 then (rt 0) else
rt 1) fun (z18 : Int32) =>
bd (wI 29 1 100 z18) fun _ =>
bd (p_X1_besides a1) fun v20 =>
bd (wI 29 1 110 v20) fun _ =>
bd (p_X1_unlooked a1 a2) fun v21 =>
bd (wI 29 1 108 v21) fun _ =>
rt ()
def p_X1_failsBy_L39 (a3 : Int32) (rec5 : (Int32 × Nat) → am0 (Int32)) (x5 : Int32 × Nat) : am0 (Int32) :=
if x5.2 = 0 then (rt x5.1) else
bd (gR 8 x5.2 0) fun r8 =>
bd (vc 10 r8 (fun c => if c = 15 then p_X20_holds r8 else if c = 16 then p_X15_holds 256 r8 else if c = 17 then p_X21_holds 256 r8 else fl0)) fun v10 =>
bd (if v10 = 0 then (rt x5.1) else
bd (if x5.1 = a3 then (bd (gI 8 x5.2 2) fun v15 =>
bd (pI 0 1 39 v15) fun _ =>
rt ()) else
rt ()) fun (z13 : Unit) =>
rt (x5.1 + 1)) fun (z11 : Int32) =>
bd (gR 8 x5.2 3) fun r16 =>
rec5 (z11, r16)
def p_X1_failsBy (a1 : Int32) (a2 : Int32) (a3 : Int32) : am0 Int32 :=
bd (gM) fun _ =>
bd (rR 24 1 a1) fun r1 =>
bd (p_X1_forceOf r1 a2) fun v2 =>
if v2 = (-1) then (rt 0) else
bd (p_X1_regard a1 a2) fun _ =>
bd (rR 35 1 v2) fun r4 =>
bd (alp (p_X1_failsBy_L39 a3) amFu (0, r4)) fun (y6 : Int32) =>
rt y6
def p_X1_fails (a1 : Int32) (a2 : Int32) : am0 Int32 :=
bd (p_X1_isAsked a1 a2) fun v1 =>
if v1 = 0 then (rt (-1)) else
bd (p_X1_failsBy a1 a2 (-1)) fun v3 =>
rt v3
def p_X1_code (a1 : Int32) (a2 : Int32) (a3 : Int32) : am0 Int32 :=
bd (p_X1_isAsked a1 a2) fun v1 =>
jn (fun (z2 : Unit) => rt (-1)) fun (k2 : Unit → am0 (Int32)) =>
if v1 = 0 then (k2 ()) else
if a3 < 0 then (k2 ()) else
bd (p_X1_failsBy a1 a2 a3) fun v5 =>
if v5 ≤ a3 then (k2 ()) else
bd (gI 0 1 39) fun v7 =>
rt v7
def p_X1_failing_L4  (rec1 : (Int32 × Int32) → am0 (Int32)) (x1 : Int32 × Int32) : am0 (Int32) :=
bd (gI 0 1 6) fun v3 =>
if v3 ≤ x1.2 then (rt x1.1) else
bd (gI 0 1 0) fun v5 =>
bd (p_X1_failsBy x1.2 v5 (-1)) fun v6 =>
bd (if v6 ≤ 0 then (rt x1.1) else
bd (rt (x1.1 ||| ((1 : Int32) <<< (x1.2 &&& 31)))) fun v9 =>
rt v9) fun (z7 : Int32) =>
rec1 (z7, (x1.2 + 1))
def p_X1_failing  : am0 Int32 :=
bd (alp (p_X1_failing_L4) amFu (0, 0)) fun (y2 : Int32) =>
rt y2
def p_X1_plot_L12  (rec1 : Int32 → am0 (Unit)) (x1 : Int32) : am0 (Unit) :=
bd (gI 0 1 6) fun v3 =>
if v3 ≤ x1 then (rt ()) else
bd (gI 0 1 45) fun v5 =>
if 8 ≤ v5 then (rt ()) else
bd (rR 24 1 x1) fun r7 =>
bd (gI 3 r7 0) fun v8 =>
bd (rI 23 1 v8) fun v9 =>
bd (if 1000000000 ≤ v9 then (rt ()) else
bd (gI 0 1 45) fun v12 =>
bd (pI 0 1 45 (v12 + 1)) fun _ =>
bd (wI 42 1 v12 x1) fun _ =>
rt ()) fun (z10 : Unit) =>
rec1 (x1 + 1)
def p_X1_plot_L113 (a1 : Int32) (x13 : Int32) (rec23 : Int32 → am0 (Unit)) (x23 : Int32) : am0 (Unit) :=
bd (gI 0 1 45) fun v25 =>
if v25 < x23 then (rt ()) else
bd (rG 47 1 x13) fun r27 =>
bd (gI 0 1 45) fun v28 =>
bd (if x23 = v28 then (rt a1) else
bd (rI 42 1 x23) fun v31 =>
bd (rR 24 1 v31) fun r32 =>
bd (gI 3 r32 0) fun v33 =>
rt v33) fun (z29 : Int32) =>
bd (rI 23 1 z29) fun v34 =>
bd (wI 46 r27 x23 v34) fun _ =>
rec23 (x23 + 1)
def p_X1_plot_L73 (a1 : Int32) (rec13 : Int32 → am0 (Unit)) (x13 : Int32) : am0 (Unit) :=
bd (gI 0 1 45) fun v15 =>
if v15 < x13 then (rt ()) else
bd (gI 0 1 45) fun v17 =>
bd (if x13 = v17 then (rt a1) else
bd (rI 42 1 x13) fun v20 =>
bd (rR 24 1 v20) fun r21 =>
bd (gI 3 r21 0) fun v22 =>
rt v22) fun (z18 : Int32) =>
bd (p_X1_stroll z18) fun _ =>
bd (alp (p_X1_plot_L113 a1 x13) amFu 0) fun (y24 : Unit) =>
rec13 (x13 + 1)
def p_X1_plot_L174  (rec35 : Int32 → am0 (Unit)) (x35 : Int32) : am0 (Unit) :=
bd (gI 0 1 45) fun v37 =>
if v37 ≤ x35 then (rt ()) else
bd (rI 42 1 x35) fun v39 =>
bd (gI 0 1 0) fun v40 =>
bd (p_X1_failsBy v39 v40 (-1)) fun v41 =>
bd (rI 42 1 x35) fun v42 =>
bd (gI 0 1 0) fun v43 =>
bd (p_X1_unlooked v42 v43) fun v44 =>
bd (rt (if v44 < 30 then v44 else 30)) fun v45 =>
bd (wI 43 1 x35 ((10 * v41) + v45)) fun _ =>
rec35 (x35 + 1)
def p_X1_plot (a1 : Int32) : am0 Unit :=
bd (gM) fun _ =>
bd (p_X1_stroll a1) fun _ =>
bd (pI 0 1 45 0) fun _ =>
bd (alp (p_X1_plot_L12) amFu 0) fun (y2 : Unit) =>
bd (alp (p_X1_plot_L73 a1) amFu 0) fun (y14 : Unit) =>
bd (alp (p_X1_plot_L174) amFu 0) fun (y36 : Unit) =>
rt ()
def p_X1_go_L89 (s_X1_go : Int32 → Int32 → Int32 → Int32 → Int32 → am0 Unit) (a1 : Int32) (a2 : Int32) (a3 : Int32) (a4 : Int32) (a5 : Int32) (rec16 : Int32 → am0 (Unit)) (x16 : Int32) : am0 (Unit) :=
bd (gI 0 1 45) fun v18 =>
if v18 ≤ x16 then (rt ()) else
bd (rG 47 1 a1) fun r20 =>
bd (rI 46 r20 x16) fun v21 =>
bd (rt ((a3 + v21) + 10)) fun v22 =>
bd (if ((a2 >>> (x16 &&& 31)) &&& 1) = 1 then (rt ()) else
if v22 ≤ a5 then (bd (gI 0 1 46) fun v26 =>
bd (wI 44 1 v26 x16) fun _ =>
bd (gI 0 1 46) fun v27 =>
bd (pI 0 1 46 (v27 + 1)) fun _ =>
bd (rI 43 1 x16) fun v28 =>
bd (s_X1_go x16 (a2 ||| ((1 : Int32) <<< (x16 &&& 31))) v22 (a4 + v28) a5) fun _ =>
bd (gI 0 1 46) fun v29 =>
bd (pI 0 1 46 (v29 - 1)) fun _ =>
rt ()) else
rt ()) fun (z23 : Unit) =>
rec16 (x16 + 1)
def b_X1_go (s_X1_go : Int32 → Int32 → Int32 → Int32 → Int32 → am0 Unit) (a1 : Int32) (a2 : Int32) (a3 : Int32) (a4 : Int32) (a5 : Int32) : am0 Unit :=
bd (gM) fun _ =>
bd (rG 47 1 a1) fun r1 =>
bd (gI 0 1 45) fun v2 =>
bd (rI 46 r1 v2) fun v3 =>
bd (rt (a3 + v3)) fun v4 =>
bd (if a5 < v4 then (rt ()) else
bd (gI 0 1 48) fun v7 =>
jn (fun (z8 : Unit) => bd (pI 0 1 48 a4) fun _ =>
bd (pI 0 1 49 v4) fun _ =>
bd (gI 0 1 46) fun v14 =>
bd (pI 0 1 47 v14) fun _ =>
bd (gI 0 1 46) fun v15 =>
bd (cpI okI 44 1 0 45 1 0 v15) fun _ =>
rt ()) fun (k8 : Unit → am0 ((Unit))) =>
if v7 < a4 then (k8 ()) else
bd (gI 0 1 48) fun v10 =>
if a4 = v10 then (bd (gI 0 1 49) fun v12 =>
if v12 ≤ v4 then (rt ()) else
k8 ()) else
rt ()) fun (z5 : Unit) =>
bd (alp (p_X1_go_L89 s_X1_go a1 a2 a3 a4 a5) amFu 0) fun (y17 : Unit) =>
rt ()
def gr_X1_go : Nat → (Int32 → Int32 → Int32 → Int32 → Int32 → am0 Unit)
  | 0 => (fun _ _ _ _ _ => fl0)
  | d + 1 => (b_X1_go (gr_X1_go d))
def p_X1_go (d : Nat) : Int32 → Int32 → Int32 → Int32 → Int32 → am0 Unit := (gr_X1_go d)
def p_X1_findRound (a1 : Int32) (a2 : Int32) : am0 Int32 :=
bd (p_X1_isCorner a1) fun v1 =>
if v1 = 0 then (rt 0) else
bd (p_X1_in a2 0 500) fun v3 =>
if v3 = 0 then (rt 0) else
bd (p_X1_plot a1) fun _ =>
bd (pI 0 1 46 0) fun _ =>
bd (pI 0 1 47 0) fun _ =>
bd (pI 0 1 48 0) fun _ =>
bd (pI 0 1 49 0) fun _ =>
bd (gI 0 1 45) fun v5 =>
bd (p_X1_go 16 v5 0 0 0 a2) fun _ =>
rt 1
def p_X1_round (a1 : Int32) (a2 : Int32) (a3 : Int32) : am0 Int32 :=
bd (p_X1_in a3 0 2) fun v1 =>
if v1 = 0 then (rt (-1)) else
bd (p_X1_findRound a1 a2) fun v3 =>
if v3 = 0 then (rt (-1)) else
if a3 = 0 then (bd (gI 0 1 48) fun v6 =>
rt v6) else
if a3 = 1 then (bd (gI 0 1 49) fun v9 =>
rt v9) else
bd (gI 0 1 47) fun v8 =>
rt v8
def p_X1_rounded (a1 : Int32) (a2 : Int32) (a3 : Int32) : am0 Int32 :=
bd (gM) fun _ =>
bd (p_X1_findRound a1 a2) fun v1 =>
jn (fun (z2 : Unit) => rt (-1)) fun (k2 : Unit → am0 (Int32)) =>
if v1 = 0 then (k2 ()) else
bd (gI 0 1 47) fun v4 =>
bd (p_X1_in a3 0 (v4 - 1)) fun v5 =>
if v5 = 0 then (k2 ()) else
bd (rI 45 1 a3) fun v7 =>
bd (rI 42 1 v7) fun v8 =>
rt v8
def p_X1_survey_L2  (rec1 : Int32 → am0 (Unit)) (x1 : Int32) : am0 (Unit) :=
if 20 ≤ x1 then (rt ()) else
bd (p_X1_stroll x1) fun _ =>
bd (rG 49 1 x1) fun r4 =>
bd (cpI okI 23 1 0 48 r4 0 20) fun _ =>
bd (wI 50 1 x1 0) fun _ =>
rec1 (x1 + 1)
def p_X1_survey_L45  (rec5 : Int32 → am0 (Unit)) (x5 : Int32) : am0 (Unit) :=
bd (gI 0 1 25) fun v7 =>
if v7 ≤ x5 then (rt ()) else
bd (rR 32 1 x5) fun r9 =>
bd (gI 7 r9 1) fun v10 =>
bd (rI 50 1 v10) fun v11 =>
bd (wI 50 1 v10 (v11 + 1)) fun _ =>
rec5 (x5 + 1)
def p_X1_survey  : am0 Unit :=
bd (gM) fun _ =>
bd (alp (p_X1_survey_L2) amFu 0) fun (y2 : Unit) =>
bd (alp (p_X1_survey_L45) amFu 0) fun (y6 : Unit) =>
rt ()
def p_X1_points_L6 (a1 : Int32) (a2 : Int32) (a3 : Int32) (rec1 : (Int32 × Int32) → am0 (Int32)) (x1 : Int32 × Int32) : am0 (Int32) :=
if 20 ≤ x1.2 then (rt x1.1) else
bd (if ((a2 >>> (x1.2 &&& 31)) &&& 1) = 1 then (bd (rG 49 1 x1.2) fun r6 =>
bd (rI 48 r6 a1) fun v7 =>
if a3 < v7 then (rt x1.1) else
rt (x1.1 + 1)) else
rt x1.1) fun (z4 : Int32) =>
rec1 (z4, (x1.2 + 1))
def p_X1_points (a1 : Int32) (a2 : Int32) (a3 : Int32) : am0 Int32 :=
bd (gM) fun _ =>
bd (alp (p_X1_points_L6 a1 a2 a3) amFu (0, 0)) fun (y2 : Int32) =>
if y2 = 0 then (rt 0) else
if y2 = 1 then (rt 2) else
rt 3
def p_X1_pick_L91 (s_X1_pick : Int32 → Int32 → Int32 → Int32 → Int32 → am0 Unit) (a1 : Int32) (a2 : Int32) (a4 : Int32) (a5 : Int32) (rec2 : Int32 → am0 (Unit)) (x2 : Int32) : am0 (Unit) :=
if 20 ≤ x2 then (rt ()) else
bd (wI 51 1 a2 x2) fun _ =>
bd (s_X1_pick a1 (a2 + 1) (x2 + 1) (a4 ||| ((1 : Int32) <<< (x2 &&& 31))) a5) fun _ =>
rec2 (x2 + 1)
def p_X1_pick_L11 (a4 : Int32) (a5 : Int32) (rec5 : (Int32 × Int32) → am0 (Int32)) (x5 : Int32 × Int32) : am0 (Int32) :=
if 20 ≤ x5.2 then (rt x5.1) else
bd (rI 50 1 x5.2) fun v8 =>
bd (if v8 ≤ 0 then (rt x5.1) else
bd (rI 50 1 x5.2) fun v11 =>
bd (p_X1_points x5.2 a4 a5) fun v12 =>
bd (rt (x5.1 + (v11 * v12))) fun v13 =>
rt v13) fun (z9 : Int32) =>
rec5 (z9, (x5.2 + 1))
def b_X1_pick (s_X1_pick : Int32 → Int32 → Int32 → Int32 → Int32 → am0 Unit) (a1 : Int32) (a2 : Int32) (a3 : Int32) (a4 : Int32) (a5 : Int32) : am0 Unit :=
bd (gM) fun _ =>
if a2 = a1 then (bd (alp (p_X1_pick_L11 a4 a5) amFu (0, 0)) fun (y6 : Int32) =>
bd (gI 0 1 54) fun v14 =>
if v14 < y6 then (bd (pI 0 1 54 y6) fun _ =>
bd (cpI okI 51 1 0 52 1 0 a1) fun _ =>
rt ()) else
rt ()) else
bd (alp (p_X1_pick_L91 s_X1_pick a1 a2 a4 a5) amFu a3) fun (y3 : Unit) =>
rt ()
def gr_X1_pick : Nat → (Int32 → Int32 → Int32 → Int32 → Int32 → am0 Unit)
  | 0 => (fun _ _ _ _ _ => fl0)
  | d + 1 => (b_X1_pick (gr_X1_pick d))
def p_X1_pick (d : Nat) : Int32 → Int32 → Int32 → Int32 → Int32 → am0 Unit := (gr_X1_pick d)
def p_X1_findPlan (a1 : Int32) (a2 : Int32) : am0 Int32 :=
bd (p_X1_in a1 1 4) fun v1 =>
if v1 = 0 then (rt 0) else
bd (p_X1_in a2 1 100) fun v3 =>
if v3 = 0 then (rt 0) else
bd (p_X1_survey) fun _ =>
bd (pI 0 1 54 (-1)) fun _ =>
bd (p_X1_pick 16 a1 0 0 0 a2) fun _ =>
rt 1
def p_X1_plan (a1 : Int32) (a2 : Int32) : am0 Int32 :=
bd (p_X1_findPlan a1 a2) fun v1 =>
if v1 = 0 then (rt (-1)) else
bd (gI 0 1 54) fun v3 =>
rt v3
def p_X1_planned (a1 : Int32) (a2 : Int32) (a3 : Int32) : am0 Int32 :=
bd (gM) fun _ =>
bd (p_X1_findPlan a1 a2) fun v1 =>
jn (fun (z2 : Unit) => rt (-1)) fun (k2 : Unit → am0 (Int32)) =>
if v1 = 0 then (k2 ()) else
bd (p_X1_in a3 0 (a1 - 1)) fun v4 =>
if v4 = 0 then (k2 ()) else
bd (rI 52 1 a3) fun v6 =>
rt v6
def p_X23_init (r0 : Nat) : am0 Unit :=
bd (nn r0) fun _ =>
rt ()
def p_X24_init (r0 : Nat) : am1 Unit :=
bd1 (up (nn r0)) fun _ =>
bd1 (up (p_X23_init r0)) fun _ =>
bd1 (nwA 153 20) fun r2 =>
bd1 (up (pRs [18] 11 r0 0 r2)) fun _ =>
rt1 ()
def p_X25_init (r0 : Nat) : am1 Unit :=
bd1 (up (nn r0)) fun _ =>
bd1 (up (p_X23_init r0)) fun _ =>
bd1 (nwA 154 20) fun r2 =>
bd1 (up (pRs [19] 11 r0 0 r2)) fun _ =>
rt1 ()
def p_X26_init (r0 : Nat) : am1 Unit :=
bd1 (up (nn r0)) fun _ =>
bd1 (up (p_X23_init r0)) fun _ =>
bd1 (nwA 155 20) fun r2 =>
bd1 (up (pRs [20] 11 r0 0 r2)) fun _ =>
rt1 ()
def p_X27_init (r0 : Nat) : am1 Unit :=
bd1 (up (nn r0)) fun _ =>
bd1 (up (p_X23_init r0)) fun _ =>
bd1 (nwA 156 20) fun r2 =>
bd1 (up (pRs [21] 11 r0 0 r2)) fun _ =>
rt1 ()
def p_X1_row (a1 : Int32) : am1 Int32 :=
bd1 (up (gM)) fun _ =>
bd1 (up (p_X1_in a1 0 3)) fun v1 =>
if v1 = 0 then (rt1 (-1)) else
bd1 (up (gI 0 1 57)) fun v3 =>
if v3 = 6 then (rt1 (-1)) else
bd1 (up (gI 0 1 57)) fun v5 =>
bd1 (if a1 = 0 then (bd1 (nw 11 18 1) fun r8 =>
bd1 (up (nn r8)) fun _ =>
bd1 (p_X24_init r8) fun _ =>
rt1 r8) else
if a1 = 1 then (bd1 (nw 11 19 1) fun r11 =>
bd1 (up (nn r11)) fun _ =>
bd1 (p_X25_init r11) fun _ =>
rt1 r11) else
if a1 = 2 then (bd1 (nw 11 20 1) fun r16 =>
bd1 (up (nn r16)) fun _ =>
bd1 (p_X26_init r16) fun _ =>
rt1 r16) else
bd1 (nw 11 21 1) fun r14 =>
bd1 (up (nn r14)) fun _ =>
bd1 (p_X27_init r14) fun _ =>
rt1 r14) fun (z6 : Nat) =>
bd1 (up (wR 53 1 v5 z6)) fun _ =>
bd1 (up (gI 0 1 57)) fun v18 =>
bd1 (up (wI 54 1 v18 a1)) fun _ =>
bd1 (up (gI 0 1 57)) fun v19 =>
bd1 (up (pI 0 1 57 (v19 + 1))) fun _ =>
bd1 (up (gI 0 1 57)) fun v20 =>
rt1 (v20 - 1)
def p_X1_isRow (a1 : Int32) : am0 Int32 :=
bd (gI 0 1 57) fun v1 =>
bd (p_X1_in a1 0 (v1 - 1)) fun v2 =>
bd (zg v2) fun _ => rt v2
def p_X24_put (r0 : Nat) (a1 : Int32) (a2 : Int32) : am0 Unit :=
bd (gRs [18] 11 r0 0) fun r1 =>
bd (wI 153 r1 a1 (a2.toInt8.toInt32.toInt8.toInt32)) fun _ =>
rt ()
def p_X25_put (r0 : Nat) (a1 : Int32) (a2 : Int32) : am0 Unit :=
bd (gRs [19] 11 r0 0) fun r1 =>
bd (wI 154 r1 a1 (a2.toInt16.toInt32.toInt16.toInt32)) fun _ =>
rt ()
def p_X26_put (r0 : Nat) (a1 : Int32) (a2 : Int32) : am0 Unit :=
bd (gRs [20] 11 r0 0) fun r1 =>
bd (wI 155 r1 a1 a2) fun _ =>
rt ()
def p_X27_put (r0 : Nat) (a1 : Int32) (a2 : Int32) : am0 Unit :=
bd (gRs [21] 11 r0 0) fun r1 =>
bd (if a2 = (-1000000) then (rt 2143289344) else
bd (g32 (FP.fdiv (FP.i2f a2) 1090519040)) fun _ =>
rt (FP.fdiv (FP.i2f a2) 1090519040)) fun (z2 : UInt32) =>
bd (wF 156 r1 a1 z2) fun _ =>
rt ()
def p_X1_put (a1 : Int32) (a2 : Int32) (a3 : Int32) : am0 Int32 :=
bd (gM) fun _ =>
bd (p_X1_isRow a1) fun v1 =>
if v1 = 0 then (rt 0) else
bd (rR 53 1 a1) fun r3 =>
if r3 = 0 then (rt 0) else
bd (p_X1_isCorner a2) fun v5 =>
if v5 = 0 then (rt 0) else
bd (p_X1_in a3 (-1000000) 1000000) fun v7 =>
if v7 = 0 then (rt 0) else
bd (rR 53 1 a1) fun r9 =>
bd (vc 11 r9 (fun c => if c = 18 then p_X24_put r9 a2 a3 else if c = 19 then p_X25_put r9 a2 a3 else if c = 20 then p_X26_put r9 a2 a3 else if c = 21 then p_X27_put r9 a2 a3 else fl0)) fun _ =>
rt 1
def p_X1_lose (a1 : Int32) : am0 Int32 :=
bd (gM) fun _ =>
bd (p_X1_isRow a1) fun v1 =>
if v1 = 0 then (rt 0) else
bd (rR 53 1 a1) fun r3 =>
if r3 = 0 then (rt 0) else
bd (wR 53 1 a1 0) fun _ =>
rt 1
def p_X26_copy (r0 : Nat) (a1 : Int32) (a2 : Nat) (a3 : Int32) (a4 : Int32) : am0 Unit :=
bd (gRs [20] 11 r0 0) fun r1 =>
bd (ck [20] 11 a2) fun _ =>
bd (gRs [20] 11 a2 0) fun r2 =>
bd (cpI okI 155 r1 a1 155 r2 a3 a4) fun _ =>
rt ()
def p_X1_isJudged (a1 : Int32) (a2 : Int32) (a3 : Int32) : am0 Int32 :=
bd (gM) fun _ =>
bd (p_X1_isRow a1) fun v1 =>
jn (fun (z2 : Unit) => rt 0) fun (k2 : Unit → am0 (Int32)) =>
if v1 = 0 then (k2 ()) else
bd (rR 53 1 a1) fun r4 =>
if r4 = 0 then (k2 ()) else
bd (p_X1_in a2 0 1048575) fun v6 =>
if v6 = 0 then (k2 ()) else
bd (p_X1_in a3 0 100) fun v8 =>
if v8 = 0 then (k2 ()) else
rt 1
def p_X24_value (r0 : Nat) (a1 : Int32) : am0 UInt64 :=
bd (gRs [18] 11 r0 0) fun r1 =>
bd (rI 153 r1 a1) fun v2 =>
rt (FP.i2d v2)
def p_X25_value (r0 : Nat) (a1 : Int32) : am0 UInt64 :=
bd (gRs [19] 11 r0 0) fun r1 =>
bd (rI 154 r1 a1) fun v2 =>
rt (FP.i2d v2)
def p_X26_value (r0 : Nat) (a1 : Int32) : am0 UInt64 :=
bd (gRs [20] 11 r0 0) fun r1 =>
bd (rI 155 r1 a1) fun v2 =>
rt (FP.i2d v2)
def p_X27_value (r0 : Nat) (a1 : Int32) : am0 UInt64 :=
bd (gRs [21] 11 r0 0) fun r1 =>
bd (rF 156 r1 a1) fun v2 =>
bd (gRs [21] 11 r0 0) fun r3 =>
bd (rF 156 r3 a1) fun v4 =>
if (Op.cmpValue (FP.fcmp v2 v4) .l) = 0 then (bd (gRs [21] 11 r0 0) fun r6 =>
bd (rF 156 r6 a1) fun v7 =>
bd (g64 (FP.f2d v7)) fun _ =>
rt (FP.f2d v7)) else
rt 9221120237041090560
def p_X1_judged_L6 (a1 : Nat) (a2 : Int32) (a3 : Int32) (rec1 : (UInt64 × Int32) → am0 (UInt64)) (x1 : UInt64 × Int32) : am0 (UInt64) :=
if 20 ≤ x1.2 then (rt x1.1) else
bd (vc 11 a1 (fun c => if c = 18 then p_X24_value a1 x1.2 else if c = 19 then p_X25_value a1 x1.2 else if c = 20 then p_X26_value a1 x1.2 else if c = 21 then p_X27_value a1 x1.2 else fl0)) fun v5 =>
bd (if (Op.cmpValue (FP.dcmp v5 v5) .l) = 0 then (rt v5) else
rt 4652007308841189376) fun (z6 : UInt64) =>
bd (p_X1_points x1.2 a2 a3) fun v8 =>
bd (g64 (FP.dmul z6 (FP.i2d v8))) fun _ =>
bd (g64 (FP.dadd x1.1 (FP.dmul z6 (FP.i2d v8)))) fun _ =>
bd (rt (FP.dadd x1.1 (FP.dmul z6 (FP.i2d v8)))) fun v11 =>
rec1 (v11, (x1.2 + 1))
def p_X1_judged (a1 : Nat) (a2 : Int32) (a3 : Int32) : am0 UInt64 :=
bd (alp (p_X1_judged_L6 a1 a2 a3) amFu (FP.dconst0, 0)) fun (y2 : UInt64) =>
rt y2
def p_X1_judge (a1 : Int32) (a2 : Int32) (a3 : Int32) : am0 UInt64 :=
bd (gM) fun _ =>
bd (p_X1_isJudged a1 a2 a3) fun v1 =>
if v1 = 0 then (rt 9221120237041090560) else
bd (p_X1_survey) fun _ =>
bd (rR 53 1 a1) fun r3 =>
bd (p_X1_judged r3 a2 a3) fun v4 =>
rt v4
def p_X1_loss (a1 : Int32) (a2 : Int32) (a3 : Int32) (a4 : Int32) : am0 UInt64 :=
bd (gM) fun _ =>
bd (p_X1_isJudged a1 a2 a3) fun v1 =>
jn (fun (z2 : Unit) => rt 9221120237041090560) fun (k2 : Unit → am0 (UInt64)) =>
if v1 = 0 then (k2 ()) else
bd (p_X1_isCorner a4) fun v4 =>
if v4 = 0 then (k2 ()) else
if ((a2 >>> (a4 &&& 31)) &&& 1) = 0 then (k2 ()) else
bd (p_X1_survey) fun _ =>
bd (rR 53 1 a1) fun r7 =>
bd (p_X1_judged r7 a2 a3) fun v8 =>
bd (rR 53 1 a1) fun r9 =>
bd (p_X1_judged r9 (a2 &&& (((1 : Int32) <<< (a4 &&& 31)) ^^^ (-1))) a3) fun v10 =>
bd (g64 (FP.dsub v8 v10)) fun _ =>
rt (FP.dsub v8 v10)
def p_X6_take (r0 : Nat) (a1 : Nat) : am0 Unit :=
bd (gC 4 a1 0) fun _ =>
bd (gC 4 r0 0) fun _ =>
bd (cpI okI 145 a1 0 145 r0 0 24) fun _ =>
bd (gC 4 a1 1) fun _ =>
bd (gC 4 r0 1) fun _ =>
bd (cpI okI 146 a1 0 146 r0 0 24) fun _ =>
bd (gC 4 a1 3) fun _ =>
bd (gC 4 r0 3) fun _ =>
bd (cpI okI 148 a1 0 148 r0 0 6) fun _ =>
bd (gC 4 a1 4) fun _ =>
bd (gC 4 r0 4) fun _ =>
bd (cpI okZ 149 a1 0 149 r0 0 6) fun _ =>
rt ()
def p_X1_what_L72 (x7 : Int32) (rec14 : Int32 → am0 (Unit)) (x14 : Int32) : am0 (Unit) :=
if 24 ≤ x14 then (rt ()) else
bd (rR 24 1 x7) fun r17 =>
bd (gC 3 r17 3) fun _ =>
bd (gC 4 (2 * r17) 2) fun _ =>
bd (wI 147 (2 * r17) x14 0) fun _ =>
rec14 (x14 + 1)
def p_X1_what_L37  (rec7 : Int32 → am0 (Unit)) (x7 : Int32) : am0 (Unit) :=
bd (gI 0 1 6) fun v9 =>
if v9 ≤ x7 then (rt ()) else
bd (rR 24 1 x7) fun r11 =>
bd (gC 3 r11 3) fun _ =>
bd (rR 24 1 x7) fun r12 =>
bd (gC 3 r12 2) fun _ =>
bd (nn (2 * r11)) fun _ =>
bd (p_X6_take (2 * r11) (2 * r12 - 1)) fun _ =>
bd (alp (p_X1_what_L72 x7) amFu 0) fun (y15 : Unit) =>
rec7 (x7 + 1)
def p_X1_what_L132 (a2 : Int32) (a3 : Int32) (a4 : Int32) (r18 : Nat) (rec20 : Int32 → am0 (Unit)) (x20 : Int32) : am0 (Unit) :=
if a4 ≤ x20 then (rt ()) else
bd (gC 3 r18 3) fun _ =>
bd (gC 4 (2 * r18) 2) fun _ =>
bd (wI 147 (2 * r18) a2 a3) fun _ =>
bd (p_X1_change 1) fun _ =>
rec20 (x20 + 1)
def p_X1_what (a1 : Int32) (a2 : Int32) (a3 : Int32) (a4 : Int32) : am0 Int32 :=
bd (gM) fun _ =>
bd (p_X1_isRoom a1 a2) fun v1 =>
if v1 = 0 then (rt (-1)) else
bd (p_X1_in a3 0 500) fun v3 =>
if v3 = 0 then (rt (-1)) else
bd (p_X1_in a4 1 200) fun v5 =>
if v5 = 0 then (rt (-1)) else
bd (alp (p_X1_what_L37) amFu 0) fun (y8 : Unit) =>
bd (rR 24 1 a1) fun r18 =>
bd (gC 3 r18 3) fun _ =>
bd (p_X1_burntOf r18 (2 * r18)) fun v19 =>
bd (alp (p_X1_what_L132 a2 a3 a4 r18) amFu 0) fun (y21 : Unit) =>
bd (gC 3 r18 3) fun _ =>
bd (p_X1_burntOf r18 (2 * r18)) fun v23 =>
rt (v23 - v19)
def p_X1_count_L19  (rec1 : (Int32 × Int32 × Int32 × Int32) → am0 (Int32 × Int32 × Int32)) (x1 : Int32 × Int32 × Int32 × Int32) : am0 (Int32 × Int32 × Int32) :=
bd (gI 0 1 25) fun v3 =>
if v3 ≤ x1.2.2.2 then (rt (x1.1, x1.2.1, x1.2.2.1)) else
bd (rR 32 1 x1.2.2.2) fun r5 =>
bd (gI 7 r5 4) fun v6 =>
bd (if v6 = 0 then (rt 1) else
rt 0) fun (z7 : Int32) =>
bd (rt (x1.1 + z7)) fun v9 =>
bd (rR 32 1 x1.2.2.2) fun r10 =>
bd (gI 7 r10 4) fun v11 =>
bd (if v11 = 2 then (rt 1) else
rt 0) fun (z12 : Int32) =>
bd (rt (x1.2.1 + z12)) fun v14 =>
bd (rR 32 1 x1.2.2.2) fun r15 =>
bd (gI 7 r15 7) fun v16 =>
bd (rt (x1.2.2.1 + v16)) fun v17 =>
rec1 (v9, v14, v17, (x1.2.2.2 + 1))
def p_X1_count_L95  (rec18 : (Int32 × Int32 × Int32) → am0 (Int32 × Int32)) (x18 : Int32 × Int32 × Int32) : am0 (Int32 × Int32) :=
bd (gI 0 1 6) fun v20 =>
if v20 ≤ x18.2.2 then (rt (x18.1, x18.2.1)) else
bd (rR 24 1 x18.2.2) fun r22 =>
bd (gI 3 r22 9) fun v23 =>
bd (rt (x18.1 + v23)) fun v24 =>
bd (rR 24 1 x18.2.2) fun r25 =>
bd (gI 3 r25 10) fun v26 =>
bd (rt (x18.2.1 + v26)) fun v27 =>
rec18 (v24, v27, (x18.2.2 + 1))
def p_X1_count_L143  (rec28 : (Int32 × Int32) → am0 (Int32)) (x28 : Int32 × Int32) : am0 (Int32) :=
bd (gI 0 1 13) fun v30 =>
if v30 ≤ x28.2 then (rt x28.1) else
bd (rR 28 1 x28.2) fun r32 =>
bd (gI 6 r32 5) fun v33 =>
bd (if v33 = 4 then (rt 1) else
rt 0) fun (z34 : Int32) =>
bd (rt (x28.1 + z34)) fun v36 =>
rec28 (v36, (x28.2 + 1))
def p_X1_count (a1 : Int32) : am0 Int32 :=
bd (gM) fun _ =>
bd (alp (p_X1_count_L19) amFu (0, 0, 0, 0)) fun (y2 : Int32 × Int32 × Int32) =>
bd (alp (p_X1_count_L95) amFu (0, 0, 0)) fun (y19 : Int32 × Int32) =>
bd (alp (p_X1_count_L143) amFu (0, 0)) fun (y29 : Int32) =>
if a1 = 0 then (bd (gI 0 1 0) fun v38 =>
rt v38) else
if a1 = 1 then (bd (gI 0 1 2) fun v40 =>
rt v40) else
if a1 = 2 then (bd (gI 0 1 6) fun v42 =>
rt v42) else
if a1 = 3 then (bd (gI 0 1 13) fun v44 =>
rt v44) else
if a1 = 4 then (bd (gI 0 1 25) fun v46 =>
rt v46) else
if a1 = 5 then (rt y2.1) else
if a1 = 6 then (rt y2.2.1) else
if a1 = 7 then (rt y2.2.2) else
if a1 = 8 then (rt y19.1) else
if a1 = 9 then (rt y19.2) else
if a1 = 10 then (rt y29) else
if a1 = 11 then (bd (gI 0 1 37) fun v54 =>
rt v54) else
if a1 = 12 then (bd (gI 0 1 23) fun v56 =>
rt v56) else
if a1 = 13 then (bd (gI 0 1 17) fun v58 =>
rt v58) else
if a1 = 14 then (bd (gI 0 1 10) fun v60 =>
rt v60) else
if a1 = 15 then (bd (gI 0 1 11) fun v62 =>
rt v62) else
if a1 = 16 then (bd (gI 0 1 57) fun v64 =>
rt v64) else
rt (-1)
def p_X3_init_L767 (x92 : Int32) (rec95 : Int32 → am1 (Unit)) (x95 : Int32) : am1 (Unit) :=
if 20 ≤ x95 then (rt1 ()) else
bd1 (up (gR5 1 1 6)) fun r98 =>
bd1 (if x92 = x95 then (rt1 0) else
rt1 1000000) fun (z99 : Int32) =>
bd1 (up (wI 59 r98 ((20 * x92) + x95) z99)) fun _ =>
rec95 (x95 + 1)
def p_X3_init_L759  (rec92 : Int32 → am1 (Unit)) (x92 : Int32) : am1 (Unit) :=
if 20 ≤ x92 then (rt1 ()) else
bd1 (alp1 (p_X3_init_L767 x92) amFu 0) fun (y96 : Unit) =>
rec92 (x92 + 1)
def p_X3_init  : am1 Unit :=
bd1 (nwA 55 40) fun r1 =>
bd1 (up (pR5 1 1 2 r1)) fun _ =>
bd1 (nwA 56 40) fun r2 =>
bd1 (up (pR5 1 1 3 r2)) fun _ =>
bd1 (nwA 57 40) fun r3 =>
bd1 (up (pR5 1 1 4 r3)) fun _ =>
bd1 (nwA 58 160) fun r4 =>
bd1 (up (pR5 1 1 5 r4)) fun _ =>
bd1 (nwA 59 400) fun r5 =>
bd1 (up (pR5 1 1 6 r5)) fun _ =>
bd1 (nwA 60 40) fun r6 =>
bd1 (up (pR5 1 1 7 r6)) fun _ =>
bd1 (nwA 61 12020) fun r7 =>
bd1 (up (pR5 1 1 8 r7)) fun _ =>
bd1 (nwA 62 12) fun r8 =>
bd1 (up (pR5 1 1 10 r8)) fun _ =>
bd1 (nwA 63 12) fun r9 =>
bd1 (up (pR5 1 1 11 r9)) fun _ =>
bd1 (nwA 64 12) fun r10 =>
bd1 (up (pR5 1 1 12 r10)) fun _ =>
bd1 (nwA 65 12) fun r11 =>
bd1 (up (pR5 1 1 13 r11)) fun _ =>
bd1 (nwA 66 12) fun r12 =>
bd1 (up (pR5 1 1 14 r12)) fun _ =>
bd1 (nwA 67 12) fun r13 =>
bd1 (up (pR5 1 1 15 r13)) fun _ =>
bd1 (nwA 68 12) fun r14 =>
bd1 (up (pR5 1 1 16 r14)) fun _ =>
bd1 (nwA 69 12) fun r15 =>
bd1 (up (pR5 1 1 17 r15)) fun _ =>
bd1 (nwA 70 12) fun r16 =>
bd1 (up (pR5 1 1 18 r16)) fun _ =>
bd1 (nwA 71 12) fun r17 =>
bd1 (up (pR5 1 1 19 r17)) fun _ =>
bd1 (nwA 72 12) fun r18 =>
bd1 (up (pR5 1 1 20 r18)) fun _ =>
bd1 (nwA 73 12) fun r19 =>
bd1 (up (pR5 1 1 21 r19)) fun _ =>
bd1 (nwA 74 288) fun r20 =>
bd1 (up (pR5 1 1 22 r20)) fun _ =>
bd1 (nwA 75 288) fun r21 =>
bd1 (up (pR5 1 1 23 r21)) fun _ =>
bd1 (nwA 76 288) fun r22 =>
bd1 (up (pR5 1 1 24 r22)) fun _ =>
bd1 (nwA 77 288) fun r23 =>
bd1 (up (pR5 1 1 25 r23)) fun _ =>
bd1 (nwA 78 288) fun r24 =>
bd1 (up (pR5 1 1 26 r24)) fun _ =>
bd1 (nwA 79 72) fun r25 =>
bd1 (up (pR5 1 1 27 r25)) fun _ =>
bd1 (nwA 80 72) fun r26 =>
bd1 (up (pR5 1 1 28 r26)) fun _ =>
bd1 (nwA 81 72) fun r27 =>
bd1 (up (pR5 1 1 29 r27)) fun _ =>
bd1 (nwA 82 72) fun r28 =>
bd1 (up (pR5 1 1 30 r28)) fun _ =>
bd1 (nwA 83 6) fun r29 =>
bd1 (up (pR5 1 1 32 r29)) fun _ =>
bd1 (nwA 84 20) fun r30 =>
bd1 (up (pR5 1 1 33 r30)) fun _ =>
bd1 (nwA 85 20) fun r31 =>
bd1 (up (pR5 1 1 34 r31)) fun _ =>
bd1 (nwA 86 6) fun r32 =>
bd1 (up (pR5 1 1 35 r32)) fun _ =>
bd1 (nwA 87 16) fun r33 =>
bd1 (up (pR5 1 1 36 r33)) fun _ =>
bd1 (nwA 88 16) fun r34 =>
bd1 (up (pR5 1 1 37 r34)) fun _ =>
bd1 (nwA 89 16) fun r35 =>
bd1 (up (pR5 1 1 38 r35)) fun _ =>
bd1 (nwA 90 16) fun r36 =>
bd1 (up (pR5 1 1 39 r36)) fun _ =>
bd1 (nwA 91 16) fun r37 =>
bd1 (up (pR5 1 1 40 r37)) fun _ =>
bd1 (nwA 92 16) fun r38 =>
bd1 (up (pR5 1 1 41 r38)) fun _ =>
bd1 (nwA 93 16) fun r39 =>
bd1 (up (pR5 1 1 42 r39)) fun _ =>
bd1 (nwA 94 16) fun r40 =>
bd1 (up (pR5 1 1 43 r40)) fun _ =>
bd1 (nwA 95 16) fun r41 =>
bd1 (up (pR5 1 1 44 r41)) fun _ =>
bd1 (nwA 96 16) fun r42 =>
bd1 (up (pR5 1 1 45 r42)) fun _ =>
bd1 (nwA 97 16) fun r43 =>
bd1 (up (pR5 1 1 46 r43)) fun _ =>
bd1 (nwA 98 16) fun r44 =>
bd1 (up (pR5 1 1 47 r44)) fun _ =>
bd1 (nwA 99 16) fun r45 =>
bd1 (up (pR5 1 1 48 r45)) fun _ =>
bd1 (nwA 100 16) fun r46 =>
bd1 (up (pR5 1 1 49 r46)) fun _ =>
bd1 (nwA 101 16) fun r47 =>
bd1 (up (pR5 1 1 50 r47)) fun _ =>
bd1 (nwA 102 16) fun r48 =>
bd1 (up (pR5 1 1 51 r48)) fun _ =>
bd1 (nwA 103 16) fun r49 =>
bd1 (up (pR5 1 1 52 r49)) fun _ =>
bd1 (nwA 104 16) fun r50 =>
bd1 (up (pR5 1 1 53 r50)) fun _ =>
bd1 (nwA 105 16) fun r51 =>
bd1 (up (pR5 1 1 54 r51)) fun _ =>
bd1 (nwA 106 16) fun r52 =>
bd1 (up (pR5 1 1 55 r52)) fun _ =>
bd1 (nwA 107 200) fun r53 =>
bd1 (up (pR5 1 1 59 r53)) fun _ =>
bd1 (nwA 107 4000) fun r54 =>
bd1 (up (pR5 1 1 60 r54)) fun _ =>
bd1 (nwA 107 2400) fun r55 =>
bd1 (up (pR5 1 1 61 r55)) fun _ =>
bd1 (nwA 107 200) fun r56 =>
bd1 (up (pR5 1 1 62 r56)) fun _ =>
bd1 (nwA 108 20) fun r57 =>
bd1 (up (pR5 1 1 63 r57)) fun _ =>
bd1 (nwA 109 12) fun r58 =>
bd1 (up (pR5 1 1 64 r58)) fun _ =>
bd1 (nwA 110 12) fun r59 =>
bd1 (up (pR5 1 1 65 r59)) fun _ =>
bd1 (nwA 111 12) fun r60 =>
bd1 (up (pR5 1 1 66 r60)) fun _ =>
bd1 (nwA 112 128) fun r61 =>
bd1 (up (pR5 1 1 67 r61)) fun _ =>
bd1 (nwA 113 5) fun r62 =>
bd1 (up (pR5 1 1 68 r62)) fun _ =>
bd1 (nwA 114 200) fun r63 =>
bd1 (up (pR5 1 1 69 r63)) fun _ =>
bd1 (up (pI 1 1 73 (-1))) fun _ =>
bd1 (up (gR5 1 1 59)) fun r64 =>
bd1 (up (pR 1 1 76 r64)) fun _ =>
bd1 (up (pR 1 1 77 5)) fun _ =>
bd1 (nwA 115 60) fun r65 =>
bd1 (up (pR5 1 1 83 r65)) fun _ =>
bd1 (nwA 116 60) fun r66 =>
bd1 (up (pR5 1 1 84 r66)) fun _ =>
bd1 (nwA 117 60) fun r67 =>
bd1 (up (pR5 1 1 85 r67)) fun _ =>
bd1 (nwA 118 60) fun r68 =>
bd1 (up (pR5 1 1 86 r68)) fun _ =>
bd1 (nwA 119 60) fun r69 =>
bd1 (up (pR5 1 1 87 r69)) fun _ =>
bd1 (nwA 120 60) fun r70 =>
bd1 (up (pR5 1 1 88 r70)) fun _ =>
bd1 (nwA 121 60) fun r71 =>
bd1 (up (pR5 1 1 89 r71)) fun _ =>
bd1 (nwA 122 60) fun r72 =>
bd1 (up (pR5 1 1 90 r72)) fun _ =>
bd1 (nwA 123 60) fun r73 =>
bd1 (up (pR5 1 1 91 r73)) fun _ =>
bd1 (nwA 124 5) fun r74 =>
bd1 (up (pR5 1 1 94 r74)) fun _ =>
bd1 (nwA 125 100) fun r75 =>
bd1 (up (pR5 1 1 95 r75)) fun _ =>
bd1 (nwA 126 100) fun r76 =>
bd1 (up (pR5 1 1 96 r76)) fun _ =>
bd1 (nwA 127 100) fun r77 =>
bd1 (up (pR5 1 1 97 r77)) fun _ =>
bd1 (nwA 128 100) fun r78 =>
bd1 (up (pR5 1 1 98 r78)) fun _ =>
bd1 (nwA 129 12) fun r79 =>
bd1 (up (pR5 1 1 100 r79)) fun _ =>
bd1 (nwA 130 12) fun r80 =>
bd1 (up (pR5 1 1 101 r80)) fun _ =>
bd1 (nwA 131 12) fun r81 =>
bd1 (up (pR5 1 1 102 r81)) fun _ =>
bd1 (nwA 132 12) fun r82 =>
bd1 (up (pR5 1 1 103 r82)) fun _ =>
bd1 (nwA 133 20) fun r83 =>
bd1 (up (pR5 1 1 111 r83)) fun _ =>
bd1 (nwA 134 120) fun r84 =>
bd1 (up (pR5 1 1 112 r84)) fun _ =>
bd1 (nwA 135 20) fun r85 =>
bd1 (up (pR5 1 1 113 r85)) fun _ =>
bd1 (nwA 136 6) fun r86 =>
bd1 (up (pR5 1 1 114 r86)) fun _ =>
bd1 (nwA 137 6) fun r87 =>
bd1 (up (pR5 1 1 115 r87)) fun _ =>
bd1 (nwA 138 288) fun r88 =>
bd1 (up (pR5 1 1 117 r88)) fun _ =>
bd1 (nwA 139 288) fun r89 =>
bd1 (up (pR5 1 1 118 r89)) fun _ =>
bd1 (nwA 140 72) fun r90 =>
bd1 (up (pR5 1 1 119 r90)) fun _ =>
bd1 (nwA 141 72) fun r91 =>
bd1 (up (pR5 1 1 120 r91)) fun _ =>
bd1 (alp1 (p_X3_init_L759) amFu 0) fun (y93 : Unit) =>
rt1 ()
def p_X3_thrown  : am0 Int32 :=
bd (gI 1 1 0) fun v1 =>
rt v1
def p_X3_isCorner (a1 : Int32) : am0 Int32 :=
jn (fun (z1 : Unit) => rt 0) fun (k1 : Unit → am0 (Int32)) =>
if a1 < 0 then (k1 ()) else
if 20 ≤ a1 then (k1 ()) else
rt 1
def p_X3_isIn (a1 : Int32) (a2 : Int32) (a3 : Int32) : am0 Int32 :=
jn (fun (z1 : Unit) => rt 0) fun (k1 : Unit → am0 (Int32)) =>
if a1 < a2 then (k1 ()) else
if a3 < a1 then (k1 ()) else
rt 1
def p_X3_street_L78  (rec13 : Int32 → am0 (Unit)) (x13 : Int32) : am0 (Unit) :=
if 4 ≤ x13 then (rt ()) else
bd (gI 1 1 9) fun v16 =>
bd (wI 58 1 ((4 * v16) + x13) 100) fun _ =>
rec13 (x13 + 1)
def p_X3_street_L187 (x21 : Int32) (x24 : Int32) (rec27 : Int32 → am0 (Unit)) (x27 : Int32) : am0 (Unit) :=
if 20 ≤ x27 then (rt ()) else
bd (rI 59 1 ((20 * x24) + x27)) fun v30 =>
bd (rI 59 1 ((20 * x24) + x21)) fun v31 =>
bd (rI 59 1 ((20 * x21) + x27)) fun v32 =>
bd (rt (if (v31 + v32) < v30 then (v31 + v32) else v30)) fun v33 =>
bd (wI 59 1 ((20 * x24) + x27) v33) fun _ =>
rec27 (x27 + 1)
def p_X3_street_L177 (x21 : Int32) (rec24 : Int32 → am0 (Unit)) (x24 : Int32) : am0 (Unit) :=
if 20 ≤ x24 then (rt ()) else
bd (alp (p_X3_street_L187 x21 x24) amFu 0) fun (y28 : Unit) =>
rec24 (x24 + 1)
def p_X3_street_L167  (rec21 : Int32 → am0 (Unit)) (x21 : Int32) : am0 (Unit) :=
if 20 ≤ x21 then (rt ()) else
bd (alp (p_X3_street_L177 x21) amFu 0) fun (y25 : Unit) =>
rec21 (x21 + 1)
def p_X3_street (a1 : Int32) (a2 : Int32) (a3 : Int32) : am0 Int32 :=
bd (gM) fun _ =>
bd (pI 1 1 0 0) fun _ =>
bd (gI 1 1 9) fun v1 =>
if v1 = 40 then (rt (-1)) else
bd (p_X3_isCorner a1) fun v3 =>
if v3 = 0 then (rt (-1)) else
bd (p_X3_isCorner a2) fun v5 =>
if v5 = 0 then (rt (-1)) else
if a1 = a2 then (rt (-1)) else
bd (p_X3_isIn a3 1 20) fun v8 =>
if v8 = 0 then (rt (-1)) else
bd (gI 1 1 9) fun v10 =>
bd (wI 55 1 v10 a1) fun _ =>
bd (gI 1 1 9) fun v11 =>
bd (wI 56 1 v11 a2) fun _ =>
bd (gI 1 1 9) fun v12 =>
bd (wI 57 1 v12 a3) fun _ =>
bd (alp (p_X3_street_L78) amFu 0) fun (y14 : Unit) =>
bd (gI 1 1 9) fun v17 =>
bd (pI 1 1 9 (v17 + 1)) fun _ =>
bd (rI 59 1 ((20 * a1) + a2)) fun v18 =>
bd (rt (if a3 < v18 then a3 else v18)) fun v19 =>
bd (wI 59 1 ((20 * a1) + a2) v19) fun _ =>
bd (rI 59 1 ((20 * a1) + a2)) fun v20 =>
bd (wI 59 1 ((20 * a2) + a1) v20) fun _ =>
bd (alp (p_X3_street_L167) amFu 0) fun (y22 : Unit) =>
bd (gI 1 1 9) fun v34 =>
rt (v34 - 1)
def p_X3_isStreet (a1 : Int32) : am0 Int32 :=
jn (fun (z1 : Unit) => rt 0) fun (k1 : Unit → am0 (Int32)) =>
if a1 < 0 then (k1 ()) else
bd (gI 1 1 9) fun v3 =>
if v3 ≤ a1 then (k1 ()) else
rt 1
def p_X3_jam (a1 : Int32) (a2 : Int32) (a3 : Int32) : am0 Int32 :=
bd (gM) fun _ =>
bd (pI 1 1 0 0) fun _ =>
bd (p_X3_isStreet a1) fun v1 =>
if v1 = 0 then (rt 0) else
bd (p_X3_isIn a2 0 3) fun v3 =>
if v3 = 0 then (rt 0) else
bd (p_X3_isIn a3 100 400) fun v5 =>
if v5 = 0 then (rt 0) else
bd (wI 58 1 ((4 * a1) + a2) a3) fun _ =>
rt 1
def p_X3_closed (a1 : Int32) (a2 : Int32) : am0 Int32 :=
bd (gM) fun _ =>
bd (pI 1 1 0 0) fun _ =>
bd (p_X3_isStreet a1) fun v1 =>
if v1 = 0 then (rt 0) else
bd (rI 60 1 a1) fun v3 =>
if v3 = a2 then (rt 0) else
bd (zg a2) fun _ =>
bd (wI 60 1 a1 a2) fun _ =>
rt 1
def p_X3_partOf (a1 : Int32) : am0 Int32 :=
rt ((a1 / 360) - (a1 / 360) / 4 * 4)
def p_X3_comeBy_L3  (rec1 : Int32 → am0 (Unit)) (x1 : Int32) : am0 (Unit) :=
if 12020 ≤ x1 then (rt ()) else
bd (wI 61 1 x1 0) fun _ =>
rec1 (x1 + 1)
def p_X3_comeBy_L75 (a4 : Int32) (x4 : Int32) (v8 : Int32) (rec9 : Int32 → am0 (Unit)) (x9 : Int32) : am0 (Unit) :=
bd (gI 1 1 9) fun v11 =>
if v11 ≤ x9 then (rt ()) else
bd (rI 55 1 x9) fun v13 =>
bd (rI 61 1 ((20 * x4) + v13)) fun v14 =>
bd (rI 56 1 x9) fun v15 =>
bd (rI 61 1 ((20 * x4) + v15)) fun v16 =>
bd (rI 60 1 x9) fun v17 =>
bd (if v17 = 0 then (jn (fun (z20 : Unit) => bd (rI 57 1 x9) fun v23 =>
bd (rI 58 1 ((4 * x9) + v8)) fun v24 =>
bd (rt (x4 + ((((v23 * v24) * a4) + 9999) / 10000))) fun v25 =>
if v25 ≤ 600 then (bd (if v14 = 0 then (rt ()) else
bd (rI 56 1 x9) fun v29 =>
bd (wI 61 1 ((20 * v25) + v29) 1) fun _ =>
rt ()) fun (z27 : Unit) =>
if v16 = 0 then (rt ()) else
bd (rI 55 1 x9) fun v31 =>
bd (wI 61 1 ((20 * v25) + v31) 1) fun _ =>
rt ()) else
rt ()) fun (k20 : Unit → am0 ((Unit))) =>
if v14 = 0 then (if v16 = 0 then (rt ()) else
k20 ()) else
k20 ()) else
rt ()) fun (z18 : Unit) =>
rec9 (x9 + 1)
def p_X3_comeBy_L35 (a2 : Int32) (a3 : Int32) (a4 : Int32) (rec4 : Int32 → am0 Int32) (x4 : Int32) : am0 Int32 :=
if 600 < x4 then (rt (-1)) else
bd (rI 61 1 ((20 * x4) + a2)) fun v6 =>
if v6 = 0 then (bd (p_X3_partOf (a3 + x4)) fun v8 =>
bd (alp (p_X3_comeBy_L75 a4 x4 v8) amFu 0) fun (y10 : Unit) =>
rec4 (x4 + 1)) else
rt (a3 + x4)
def p_X3_comeBy (a1 : Int32) (a2 : Int32) (a3 : Int32) (a4 : Int32) : am0 Int32 :=
bd (gM) fun _ =>
bd (alp (p_X3_comeBy_L3) amFu 0) fun (y2 : Unit) =>
bd (wI 61 1 a1 1) fun _ =>
alp (p_X3_comeBy_L35 a2 a3 a4) amFu 0
def p_X3_come (a1 : Int32) (a2 : Int32) (a3 : Int32) (a4 : Int32) : am0 Int32 :=
bd (pI 1 1 0 0) fun _ =>
bd (p_X3_isCorner a1) fun v1 =>
jn (fun (z2 : Unit) => rt (-1)) fun (k2 : Unit → am0 (Int32)) =>
if v1 = 0 then (k2 ()) else
bd (p_X3_isCorner a2) fun v4 =>
if v4 = 0 then (k2 ()) else
bd (p_X3_isIn a3 0 30000) fun v6 =>
if v6 = 0 then (k2 ()) else
bd (p_X3_isIn a4 50 300) fun v8 =>
if v8 = 0 then (k2 ()) else
bd (p_X3_comeBy a1 a2 a3 a4) fun v10 =>
rt v10
def p_X3_walkOf (a1 : Int32) (a2 : Int32) : am0 Int32 :=
bd (gM) fun _ =>
bd (rI 59 1 ((20 * a1) + a2)) fun v1 =>
rt v1
def p_X3_feet (a1 : Int32) (a2 : Int32) : am0 Int32 :=
bd (pI 1 1 0 0) fun _ =>
bd (p_X3_isCorner a1) fun v1 =>
jn (fun (z2 : Unit) => rt (-1)) fun (k2 : Unit → am0 (Int32)) =>
if v1 = 0 then (k2 ()) else
bd (p_X3_isCorner a2) fun v4 =>
if v4 = 0 then (k2 ()) else
bd (p_X3_walkOf a1 a2) fun v6 =>
if 1000000 ≤ v6 then (k2 ()) else
bd (p_X3_walkOf a1 a2) fun v8 =>
rt (100 * v8)
def p_X3_house (a1 : Int32) (a2 : Int32) (a3 : Int32) (a4 : Int32) (a5 : Int32) : am0 Int32 :=
bd (gM) fun _ =>
bd (pI 1 1 0 0) fun _ =>
bd (gI 1 1 31) fun v1 =>
if v1 = 12 then (rt (-1)) else
bd (p_X3_isCorner a1) fun v3 =>
if v3 = 0 then (rt (-1)) else
bd (p_X3_isIn a2 0 2) fun v5 =>
if v5 = 0 then (rt (-1)) else
bd (p_X3_isIn a3 1 6) fun v7 =>
if v7 = 0 then (rt (-1)) else
bd (p_X3_isIn a4 1 4) fun v9 =>
if v9 = 0 then (rt (-1)) else
bd (p_X3_isIn a5 (-1) (a4 - 1)) fun v11 =>
if v11 = 0 then (rt (-1)) else
bd (gI 1 1 31) fun v13 =>
bd (wI 62 1 v13 a1) fun _ =>
bd (gI 1 1 31) fun v14 =>
bd (wI 63 1 v14 a2) fun _ =>
bd (gI 1 1 31) fun v15 =>
bd (wI 64 1 v15 a3) fun _ =>
bd (gI 1 1 31) fun v16 =>
bd (wI 65 1 v16 a4) fun _ =>
bd (gI 1 1 31) fun v17 =>
bd (wI 66 1 v17 a5) fun _ =>
bd (gI 1 1 31) fun v18 =>
bd (wI 68 1 v18 1) fun _ =>
bd (gI 1 1 31) fun v19 =>
bd (pI 1 1 31 (v19 + 1)) fun _ =>
bd (gI 1 1 31) fun v20 =>
rt (v20 - 1)
def p_X3_isHouse (a1 : Int32) : am0 Int32 :=
jn (fun (z1 : Unit) => rt 0) fun (k1 : Unit → am0 (Int32)) =>
if a1 < 0 then (k1 ()) else
bd (gI 1 1 31) fun v3 =>
if v3 ≤ a1 then (k1 ()) else
rt 1
def p_X3_build (a1 : Int32) (a2 : Int32) (a3 : Int32) (a4 : Int32) : am0 Int32 :=
bd (gM) fun _ =>
bd (pI 1 1 0 0) fun _ =>
bd (p_X3_isHouse a1) fun v1 =>
if v1 = 0 then (rt 0) else
bd (p_X3_isIn a3 0 3) fun v3 =>
if v3 = 0 then (rt 0) else
bd (p_X3_isIn a4 1 200) fun v5 =>
if v5 = 0 then (rt 0) else
bd (zg a2) fun _ =>
bd (wI 73 1 a1 a2) fun _ =>
bd (wI 67 1 a1 a3) fun _ =>
bd (wI 68 1 a1 a4) fun _ =>
rt 1
def p_X3_isFloor (a1 : Int32) (a2 : Int32) : am0 Int32 :=
bd (gM) fun _ =>
bd (p_X3_isHouse a1) fun v1 =>
jn (fun (z2 : Unit) => rt 0) fun (k2 : Unit → am0 (Int32)) =>
if v1 = 0 then (k2 ()) else
if a2 < 0 then (k2 ()) else
bd (rI 64 1 a1) fun v5 =>
if v5 ≤ a2 then (k2 ()) else
rt 1
def p_X3_openAt_L2 (a1 : Int32) (rec1 : Int32 → am0 Int32) (x1 : Int32) : am0 Int32 :=
bd (gI 1 1 92) fun v2 =>
if v2 ≤ x1 then (rt (-1)) else
bd (rI 115 1 x1) fun v4 =>
jn (fun (z5 : Unit) => rec1 (x1 + 1)) fun (k5 : Unit → am0 (Int32)) =>
if v4 = a1 then (bd (rI 117 1 x1) fun v7 =>
if v7 = 0 then (rt x1) else
k5 ()) else
k5 ()
def p_X3_openAt (a1 : Int32) : am0 Int32 :=
bd (gM) fun _ =>
alp (p_X3_openAt_L2 a1) amFu 0
def p_X3_floorOf (a1 : Int32) (a2 : Int32) : am0 Int32 :=
bd (gM) fun _ =>
bd (rI 65 1 a1) fun v1 =>
bd (nz v1) fun _ =>
rt (a2 / v1)
def p_X3_burns (a1 : Int32) (a2 : Int32) : am0 Int32 :=
bd (gM) fun _ =>
bd (rt ((24 * a1) + a2)) fun v1 =>
bd (rI 74 1 v1) fun v2 =>
jn (fun (z3 : Unit) => rt 0) fun (k3 : Unit → am0 (Int32)) =>
if v2 < 300 then (k3 ()) else
bd (rI 75 1 v1) fun v5 =>
if v5 ≤ 0 then (k3 ()) else
bd (p_X3_floorOf a1 a2) fun v7 =>
bd (rI 82 1 ((6 * a1) + v7)) fun v8 =>
if v8 = 0 then (rt 1) else
k3 ()
def p_X3_burning_L4 (a1 : Int32) (rec1 : (Int32 × Int32) → am0 (Int32)) (x1 : Int32 × Int32) : am0 (Int32) :=
bd (rI 64 1 a1) fun v3 =>
bd (rI 65 1 a1) fun v4 =>
if (v3 * v4) ≤ x1.2 then (rt x1.1) else
bd (p_X3_burns a1 x1.2) fun v6 =>
bd (if v6 = 0 then (rt 0) else
rt 1) fun (z7 : Int32) =>
bd (rt (x1.1 + z7)) fun v9 =>
rec1 (v9, (x1.2 + 1))
def p_X3_burning (a1 : Int32) : am0 Int32 :=
bd (gM) fun _ =>
bd (alp (p_X3_burning_L4 a1) amFu (0, 0)) fun (y2 : Int32) =>
rt y2
def p_X3_burnsAt_L2 (a1 : Int32) (rec1 : Int32 → am0 Int32) (x1 : Int32) : am0 Int32 :=
bd (gI 1 1 31) fun v2 =>
if v2 ≤ x1 then (rt 0) else
bd (rI 62 1 x1) fun v4 =>
jn (fun (z5 : Unit) => rec1 (x1 + 1)) fun (k5 : Unit → am0 (Int32)) =>
if v4 = a1 then (bd (p_X3_burning x1) fun v7 =>
if v7 ≤ 0 then (k5 ()) else
rt 1) else
k5 ()
def p_X3_burnsAt (a1 : Int32) : am0 Int32 :=
bd (gM) fun _ =>
alp (p_X3_burnsAt_L2 a1) amFu 0
def p_X3_mark (a1 : Int32) : am0 Unit :=
bd (gM) fun _ =>
bd (p_X3_openAt a1) fun v1 =>
if v1 = (-1) then (rt ()) else
bd (p_X3_burnsAt a1) fun v3 =>
if v3 = 0 then (rt ()) else
bd (wI 123 1 v1 1) fun _ =>
rt ()
def p_X3_floor_L55 (a1 : Int32) (a2 : Int32) (a3 : Int32) (rec9 : Int32 → am0 (Unit)) (x9 : Int32) : am0 (Unit) :=
bd (rI 65 1 a1) fun v11 =>
if v11 ≤ x9 then (rt ()) else
bd (rI 65 1 a1) fun v13 =>
bd (wI 75 1 (((24 * a1) + (a2 * v13)) + x9) a3) fun _ =>
rec9 (x9 + 1)
def p_X3_floor (a1 : Int32) (a2 : Int32) (a3 : Int32) (a4 : Int32) : am0 Int32 :=
bd (gM) fun _ =>
bd (pI 1 1 0 0) fun _ =>
bd (p_X3_isFloor a1 a2) fun v1 =>
if v1 = 0 then (rt 0) else
bd (p_X3_isIn a3 0 500) fun v3 =>
if v3 = 0 then (rt 0) else
bd (p_X3_isIn a4 0 20) fun v5 =>
if v5 = 0 then (rt 0) else
bd (rI 82 1 ((6 * a1) + a2)) fun v7 =>
if v7 = 0 then (bd (alp (p_X3_floor_L55 a1 a2 a3) amFu 0) fun (y10 : Unit) =>
bd (wI 81 1 ((6 * a1) + a2) a3) fun _ =>
bd (wI 80 1 ((6 * a1) + a2) a4) fun _ =>
bd (rI 62 1 a1) fun v14 =>
bd (p_X3_mark v14) fun _ =>
rt 1) else
rt 0
def p_X3_isRoom (a1 : Int32) (a2 : Int32) : am0 Int32 :=
bd (gM) fun _ =>
bd (p_X3_isHouse a1) fun v1 =>
jn (fun (z2 : Unit) => rt 0) fun (k2 : Unit → am0 (Int32)) =>
if v1 = 0 then (k2 ()) else
if a2 < 0 then (k2 ()) else
bd (rI 64 1 a1) fun v5 =>
bd (rI 65 1 a1) fun v6 =>
if (v5 * v6) ≤ a2 then (k2 ()) else
rt 1
def p_X3_light (a1 : Int32) (a2 : Int32) : am0 Int32 :=
bd (gM) fun _ =>
bd (pI 1 1 0 0) fun _ =>
bd (p_X3_isRoom a1 a2) fun v1 =>
if v1 = 0 then (rt 0) else
bd (p_X3_floorOf a1 a2) fun v3 =>
bd (rI 82 1 ((6 * a1) + v3)) fun v4 =>
if v4 = 0 then (bd (rI 74 1 ((24 * a1) + a2)) fun v6 =>
bd (rt (if 400 < v6 then v6 else 400)) fun v7 =>
bd (wI 74 1 ((24 * a1) + a2) v7) fun _ =>
bd (rI 62 1 a1) fun v8 =>
bd (p_X3_mark v8) fun _ =>
rt 1) else
rt 0
def p_X3_room (a1 : Int32) (a2 : Int32) (a3 : Int32) : am0 Int32 :=
bd (gM) fun _ =>
bd (pI 1 1 0 0) fun _ =>
bd (p_X3_isRoom a1 a2) fun v1 =>
if v1 = 0 then (rt (-1)) else
if a3 = 0 then (bd (rI 74 1 ((24 * a1) + a2)) fun v4 =>
rt v4) else
if a3 = 1 then (bd (rI 75 1 ((24 * a1) + a2)) fun v6 =>
rt v6) else
if a3 = 2 then (bd (p_X3_burns a1 a2) fun v8 =>
if v8 = 0 then (rt 0) else
rt 1) else
rt (-1)
def p_X3_loadOf (a1 : Int32) (a2 : Int32) : am0 Int32 :=
bd (gM) fun _ =>
if a2 = 0 then (rt 0) else
bd (rI 79 1 ((6 * a1) + a2)) fun v2 =>
bd (rI 79 1 (((6 * a1) + a2) - 1)) fun v3 =>
rt (v2 + (2 * v3))
def p_X3_floored (a1 : Int32) (a2 : Int32) (a3 : Int32) : am0 Int32 :=
bd (gM) fun _ =>
bd (pI 1 1 0 0) fun _ =>
bd (p_X3_isFloor a1 a2) fun v1 =>
if v1 = 0 then (rt (-1)) else
bd (rt ((6 * a1) + a2)) fun v3 =>
if a3 = 0 then (bd (rI 79 1 v3) fun v5 =>
rt v5) else
if a3 = 1 then (bd (rI 82 1 v3) fun v7 =>
if v7 = 0 then (rt 0) else
rt 1) else
if a3 = 2 then (bd (rI 80 1 v3) fun v10 =>
rt v10) else
if a3 = 3 then (bd (p_X3_loadOf a1 a2) fun v12 =>
rt v12) else
rt (-1)
def p_X3_burntOf_L4 (a1 : Int32) (rec1 : (Int32 × Int32) → am0 (Int32)) (x1 : Int32 × Int32) : am0 (Int32) :=
bd (rI 64 1 a1) fun v3 =>
if v3 ≤ x1.2 then (rt x1.1) else
bd (rI 79 1 ((6 * a1) + x1.2)) fun v5 =>
bd (rt (x1.1 + v5)) fun v6 =>
rec1 (v6, (x1.2 + 1))
def p_X3_burntOf (a1 : Int32) : am0 Int32 :=
bd (gM) fun _ =>
bd (alp (p_X3_burntOf_L4 a1) amFu (0, 0)) fun (y2 : Int32) =>
rt y2
def p_X3_housed_L89 (a1 : Int32) (rec12 : (Int32 × Int32) → am0 (Int32)) (x12 : Int32 × Int32) : am0 (Int32) :=
bd (rI 64 1 a1) fun v14 =>
if v14 ≤ x12.2 then (rt x12.1) else
bd (rI 82 1 ((6 * a1) + x12.2)) fun v16 =>
bd (if v16 = 0 then (rt 0) else
rt 1) fun (z17 : Int32) =>
bd (rt (x12.1 + z17)) fun v19 =>
rec12 (v19, (x12.2 + 1))
def p_X3_housed_L134 (a1 : Int32) (rec21 : (Int32 × Int32) → am0 (Int32)) (x21 : Int32 × Int32) : am0 (Int32) :=
bd (gI 1 1 58) fun v23 =>
if v23 ≤ x21.2 then (rt x21.1) else
bd (rI 94 1 x21.2) fun v25 =>
bd (jn (fun (z27 : Unit) => rt 0) fun (k27 : Unit → am0 ((Int32))) =>
if v25 = 2 then (bd (rI 98 1 x21.2) fun v29 =>
if v29 = a1 then (rt 1) else
k27 ()) else
k27 ()) fun (z26 : Int32) =>
bd (rt (x21.1 + z26)) fun v31 =>
rec21 (v31, (x21.2 + 1))
def p_X3_housed (a1 : Int32) (a2 : Int32) : am0 Int32 :=
bd (gM) fun _ =>
bd (pI 1 1 0 0) fun _ =>
bd (p_X3_isHouse a1) fun v1 =>
if v1 = 0 then (rt (-1)) else
if a2 = 0 then (bd (p_X3_burning a1) fun v4 =>
rt v4) else
if a2 = 1 then (bd (p_X3_burntOf a1) fun v6 =>
rt v6) else
if a2 = 2 then (bd (rI 70 1 a1) fun v8 =>
rt v8) else
if a2 = 3 then (bd (rI 71 1 a1) fun v10 =>
rt v10) else
if a2 = 4 then (bd (alp (p_X3_housed_L89 a1) amFu (0, 0)) fun (y13 : Int32) =>
rt y13) else
if a2 = 5 then (bd (alp (p_X3_housed_L134 a1) amFu (0, 0)) fun (y22 : Int32) =>
rt y22) else
if a2 = 6 then (bd (rI 72 1 a1) fun v33 =>
rt v33) else
rt (-1)
def p_X3_main (a1 : Int32) : am0 Int32 :=
bd (gM) fun _ =>
bd (pI 1 1 0 0) fun _ =>
bd (gI 1 1 56) fun v1 =>
if v1 = 6 then (rt (-1)) else
bd (p_X3_isIn a1 10 2000) fun v3 =>
if v3 = 0 then (rt (-1)) else
bd (gI 1 1 56) fun v5 =>
bd (wI 83 1 v5 a1) fun _ =>
bd (gI 1 1 56) fun v6 =>
bd (pI 1 1 56 (v6 + 1)) fun _ =>
bd (gI 1 1 56) fun v7 =>
rt (v7 - 1)
def p_X3_head (a1 : Int32) (a2 : Int32) : am0 Int32 :=
bd (gM) fun _ =>
bd (pI 1 1 0 0) fun _ =>
bd (gI 1 1 57) fun v1 =>
if v1 = 20 then (rt (-1)) else
bd (p_X3_isCorner a1) fun v3 =>
if v3 = 0 then (rt (-1)) else
bd (gI 1 1 56) fun v5 =>
bd (p_X3_isIn a2 0 (v5 - 1)) fun v6 =>
if v6 = 0 then (rt (-1)) else
bd (gI 1 1 57) fun v8 =>
bd (wI 84 1 v8 a1) fun _ =>
bd (gI 1 1 57) fun v9 =>
bd (wI 85 1 v9 a2) fun _ =>
bd (gI 1 1 57) fun v10 =>
bd (pI 1 1 57 (v10 + 1)) fun _ =>
bd (gI 1 1 57) fun v11 =>
rt (v11 - 1)
def p_X3_crew (a1 : Int32) (a2 : Int32) (a3 : Int32) (a4 : Int32) (a5 : Int32) : am0 Int32 :=
bd (gM) fun _ =>
bd (pI 1 1 0 0) fun _ =>
bd (gI 1 1 58) fun v1 =>
if v1 = 16 then (rt (-1)) else
bd (p_X3_isIn a1 0 3) fun v3 =>
if v3 = 0 then (rt (-1)) else
bd (p_X3_isCorner a2) fun v5 =>
if v5 = 0 then (rt (-1)) else
bd (p_X3_isIn a4 50 150) fun v7 =>
if v7 = 0 then (rt (-1)) else
bd (p_X3_isIn a5 1 9) fun v9 =>
if v9 = 0 then (rt (-1)) else
bd (gI 1 1 58) fun v11 =>
bd (wI 87 1 v11 a1) fun _ =>
bd (wI 88 1 v11 a2) fun _ =>
bd (zg a3) fun _ =>
bd (wI 106 1 v11 a3) fun _ =>
bd (wI 89 1 v11 a4) fun _ =>
bd (wI 90 1 v11 a5) fun _ =>
bd (if 2 ≤ a1 then (if a1 = 2 then (rt 1) else
rt 0) else
rt 100) fun (z13 : Int32) =>
bd (wI 91 1 v11 z13) fun _ =>
bd (if 2 ≤ a1 then (rt 0) else
rt 10) fun (z16 : Int32) =>
bd (wI 92 1 v11 z16) fun _ =>
bd (if a1 = 1 then (rt 1) else
rt 0) fun (z18 : Int32) =>
bd (wI 93 1 v11 z18) fun _ =>
bd (wI 95 1 v11 a2) fun _ =>
bd (wI 96 1 v11 (-1)) fun _ =>
bd (wI 97 1 v11 (-1)) fun _ =>
bd (wI 98 1 v11 (-1)) fun _ =>
bd (wI 99 1 v11 (-1)) fun _ =>
bd (gI 1 1 58) fun v20 =>
bd (pI 1 1 58 (v20 + 1)) fun _ =>
rt v11
def p_X3_isCrew (a1 : Int32) : am0 Int32 :=
jn (fun (z1 : Unit) => rt 0) fun (k1 : Unit → am0 (Int32)) =>
if a1 < 0 then (k1 ()) else
bd (gI 1 1 58) fun v3 =>
if v3 ≤ a1 then (k1 ()) else
rt 1
def p_X3_gear (a1 : Int32) (a2 : Int32) (a3 : Int32) (a4 : Int32) : am0 Int32 :=
bd (gM) fun _ =>
bd (pI 1 1 0 0) fun _ =>
bd (p_X3_isCrew a1) fun v1 =>
if v1 = 0 then (rt 0) else
bd (rI 94 1 a1) fun v3 =>
if v3 = 2 then (rt 0) else
bd (jn (fun (z6 : Unit) => rt 0) fun (k6 : Unit → am0 ((Int32))) =>
if a2 = 0 then (if a3 = 0 then (if a4 = 0 then (rt 1) else
k6 ()) else
k6 ()) else
k6 ()) fun (z5 : Int32) =>
bd (rI 87 1 a1) fun v10 =>
bd (if v10 = 2 then (bd (p_X3_isIn a2 1 6) fun v13 =>
bd (jn (fun (z15 : Unit) => rt 0) fun (k15 : Unit → am0 ((Int32))) =>
if v13 = 0 then (k15 ()) else
if a3 = 0 then (if a4 = 0 then (rt 1) else
k15 ()) else
k15 ()) fun (z14 : Int32) =>
rt z14) else
rt z5) fun (z11 : Int32) =>
bd (rI 87 1 a1) fun v19 =>
bd (if 2 ≤ v19 then (rt z11) else
bd (p_X3_isIn a2 100 3000) fun v22 =>
bd (jn (fun (z24 : Unit) => rt 0) fun (k24 : Unit → am0 ((Int32))) =>
if v22 = 0 then (k24 ()) else
bd (p_X3_isIn a3 10 500) fun v26 =>
if v26 = 0 then (k24 ()) else
bd (rI 87 1 a1) fun v28 =>
jn (fun (z29 : Unit) => rt 1) fun (k29 : Unit → am0 ((Int32))) =>
if v28 = 0 then (if a4 = 0 then (k29 ()) else
k24 ()) else
bd (p_X3_isIn a4 1 30) fun v32 =>
if v32 = 0 then (k24 ()) else
k29 ()) fun (z23 : Int32) =>
rt z23) fun (z20 : Int32) =>
if z20 = 0 then (rt 0) else
bd (wI 91 1 a1 a2) fun _ =>
bd (wI 92 1 a1 a3) fun _ =>
bd (wI 93 1 a1 a4) fun _ =>
rt 1
def p_X3_rests (a1 : Int32) (a2 : Int32) : am0 Unit :=
bd (gM) fun _ =>
bd (wI 94 1 a1 0) fun _ =>
bd (wI 95 1 a1 a2) fun _ =>
bd (wI 96 1 a1 (-1)) fun _ =>
bd (wI 98 1 a1 (-1)) fun _ =>
bd (wI 99 1 a1 (-1)) fun _ =>
rt ()
def p_X3_heal (a1 : Int32) : am0 Int32 :=
bd (gM) fun _ =>
bd (pI 1 1 0 0) fun _ =>
bd (p_X3_isCrew a1) fun v1 =>
if v1 = 0 then (rt 0) else
bd (rI 94 1 a1) fun v3 =>
if v3 = 4 then (bd (rI 88 1 a1) fun v5 =>
bd (p_X3_rests a1 v5) fun _ =>
rt 1) else
rt 0
def p_X3_slowOf (a1 : Int32) : am0 Int32 :=
bd (gM) fun _ =>
bd (rI 89 1 a1) fun v1 =>
bd (rI 106 1 a1) fun v2 =>
bd (if v2 = 0 then (rt 0) else
bd (rI 100 1 a1) fun v5 =>
rt (v5 / 3)) fun (z3 : Int32) =>
rt (v1 + z3)
def p_X3_turns (a1 : Int32) (a2 : Int32) : am0 Unit :=
bd (gM) fun _ =>
bd (rI 88 1 a1) fun v1 =>
bd (gI 1 1 1) fun v2 =>
bd (p_X3_slowOf a1) fun v3 =>
bd (p_X3_comeBy a2 v1 v2 v3) fun v4 =>
bd (rI 88 1 a1) fun v5 =>
bd (p_X3_rests a1 v5) fun _ =>
if v4 = (-1) then (rt ()) else
bd (gI 1 1 1) fun v7 =>
if v4 = v7 then (rt ()) else
bd (wI 94 1 a1 3) fun _ =>
bd (wI 96 1 a1 v4) fun _ =>
rt ()
def p_X3_recall (a1 : Int32) : am0 Int32 :=
bd (gM) fun _ =>
bd (pI 1 1 0 0) fun _ =>
bd (p_X3_isCrew a1) fun v1 =>
if v1 = 0 then (rt 0) else
bd (rI 94 1 a1) fun v3 =>
if v3 = 0 then (bd (rI 95 1 a1) fun v5 =>
bd (rI 88 1 a1) fun v6 =>
if v5 = v6 then (rt 0) else
bd (rI 95 1 a1) fun v8 =>
bd (p_X3_turns a1 v8) fun _ =>
rt 1) else
rt 0
def p_X3_about (a1 : Int32) (a2 : Int32) : am0 Int32 :=
bd (gM) fun _ =>
bd (p_X3_isCrew a1) fun v1 =>
bd (jn (fun (z3 : Unit) => rt 1) fun (k3 : Unit → am0 ((Int32))) =>
if v1 = 0 then (k3 ()) else
bd (p_X3_isIn a2 0 8) fun v5 =>
if v5 = 0 then (k3 ()) else
rt 0) fun (z2 : Int32) =>
bd (pI 1 1 0 z2) fun _ =>
bd (gI 1 1 0) fun v7 =>
if v7 ≤ 0 then (if a2 = 0 then (bd (rI 94 1 a1) fun v10 =>
rt v10) else
if a2 = 1 then (bd (rI 95 1 a1) fun v12 =>
rt v12) else
if a2 = 2 then (bd (rI 96 1 a1) fun v14 =>
rt v14) else
if a2 = 3 then (bd (rI 97 1 a1) fun v16 =>
rt v16) else
if a2 = 4 then (bd (rI 98 1 a1) fun v18 =>
rt v18) else
if a2 = 5 then (bd (rI 99 1 a1) fun v20 =>
rt v20) else
if a2 = 6 then (bd (rI 100 1 a1) fun v22 =>
rt v22) else
if a2 = 7 then (bd (p_X3_slowOf a1) fun v24 =>
rt v24) else
bd (rI 103 1 a1) fun v25 =>
rt v25) else
rt 0
def p_X3_headFor_L4 (a1 : Int32) (rec1 : (Int32 × Int32) → am0 (Int32)) (x1 : Int32 × Int32) : am0 (Int32) :=
bd (gI 1 1 57) fun v3 =>
if v3 ≤ x1.2 then (rt x1.1) else
bd (rI 84 1 x1.2) fun v5 =>
bd (rI 62 1 a1) fun v6 =>
bd (p_X3_walkOf v5 v6) fun v7 =>
bd (if x1.1 = (-1) then (rt 1000000) else
bd (rI 84 1 x1.1) fun v10 =>
bd (rI 62 1 a1) fun v11 =>
bd (p_X3_walkOf v10 v11) fun v12 =>
rt v12) fun (z8 : Int32) =>
bd (if z8 ≤ v7 then (rt x1.1) else
rt x1.2) fun (z13 : Int32) =>
rec1 (z13, (x1.2 + 1))
def p_X3_headFor (a1 : Int32) : am0 Int32 :=
bd (gM) fun _ =>
bd (alp (p_X3_headFor_L4 a1) amFu ((-1), 0)) fun (y2 : Int32) =>
rt y2
def p_X3_reachOf_L33 (a1 : Int32) (a2 : Int32) (v1 : Int32) (rec7 : Int32 → am0 (Int32)) (x7 : Int32) : am0 (Int32) :=
if x7 < 0 then (rt x7) else
bd (rI 84 1 v1) fun v10 =>
bd (rI 62 1 a2) fun v11 =>
bd (p_X3_walkOf v10 v11) fun v12 =>
bd (rI 91 1 a1) fun v13 =>
if ((100 * v12) + (20 * (x7 + 1))) ≤ v13 then (rt x7) else
rec7 (x7 + (-1))
def p_X3_reachOf (a1 : Int32) (a2 : Int32) : am0 Int32 :=
bd (gM) fun _ =>
bd (p_X3_headFor a2) fun v1 =>
bd (rI 87 1 a1) fun v2 =>
if 2 ≤ v2 then (rt (-1)) else
if v1 = (-1) then (rt (-1)) else
bd (rI 64 1 a2) fun v5 =>
bd (rt (v5 - 1)) fun v6 =>
bd (alp (p_X3_reachOf_L33 a1 a2 v1) amFu v6) fun (y8 : Int32) =>
rt y8
def p_X3_reach (a1 : Int32) (a2 : Int32) : am0 Int32 :=
bd (pI 1 1 0 0) fun _ =>
bd (p_X3_isCrew a1) fun v1 =>
jn (fun (z2 : Unit) => rt (-1)) fun (k2 : Unit → am0 (Int32)) =>
if v1 = 0 then (k2 ()) else
bd (p_X3_isHouse a2) fun v4 =>
if v4 = 0 then (k2 ()) else
bd (p_X3_reachOf a1 a2) fun v6 =>
rt v6
def p_X3_bytesIn_L5 (a1 : Int32) (rec1 : (Int32 × Int32) → am0 (Int32)) (x1 : Int32 × Int32) : am0 (Int32) :=
if x1.2 < 0 then (rt x1.1) else
bd (if ((a1 >>> (x1.2 &&& 31)) &&& 255) = 0 then (rt 0) else
rt 1) fun (z4 : Int32) =>
bd (rt (x1.1 + z4)) fun v6 =>
rec1 (v6, (x1.2 + (-8)))
def p_X3_bytesIn (a1 : Int32) : am0 Int32 :=
bd (alp (p_X3_bytesIn_L5 a1) amFu (0, 24)) fun (y2 : Int32) =>
rt y2
def p_X3_put4_L3 (a1 : Int32) (rec1 : Int32 → am0 (Unit)) (x1 : Int32) : am0 (Unit) :=
if x1 < 0 then (rt ()) else
bd (if ((a1 >>> (x1 &&& 31)) &&& 255) = 0 then (rt ()) else
bd (gI 1 1 70) fun v6 =>
bd (wI 107 1 v6 (((a1 >>> (x1 &&& 31)).toInt8.toInt32).toInt8.toInt32)) fun _ =>
bd (gI 1 1 70) fun v7 =>
bd (pI 1 1 70 (v7 + 1)) fun _ =>
rt ()) fun (z4 : Unit) =>
rec1 (x1 + (-8))
def p_X3_put4 (a1 : Int32) : am0 Unit :=
bd (gM) fun _ =>
bd (alp (p_X3_put4_L3 a1) amFu 24) fun (y2 : Unit) =>
rt ()
def p_X3_feed (a1 : Int32) (a2 : Int32) (a3 : Int32) (a4 : Int32) (a5 : Int32) : am0 Int32 :=
bd (pI 1 1 0 0) fun _ =>
bd (gI 1 1 70) fun v1 =>
bd (p_X3_bytesIn a1) fun v2 =>
bd (p_X3_bytesIn a2) fun v3 =>
bd (p_X3_bytesIn a3) fun v4 =>
bd (p_X3_bytesIn a4) fun v5 =>
bd (p_X3_bytesIn a5) fun v6 =>
if (((((v1 + v2) + v3) + v4) + v5) + v6) ≤ 200 then (bd (p_X3_put4 a1) fun _ =>
bd (p_X3_put4 a2) fun _ =>
bd (p_X3_put4 a3) fun _ =>
bd (p_X3_put4 a4) fun _ =>
bd (p_X3_put4 a5) fun _ =>
bd (gI 1 1 70) fun v8 =>
rt v8) else
rt (-1)
def p_X3_end (a1 : Int32) : am0 Int32 :=
bd (pI 1 1 0 0) fun _ =>
if a1 < 0 then (rt 0) else
bd (gI 1 1 70) fun v2 =>
if a1 ≤ v2 then (bd (pI 1 1 70 a1) fun _ =>
rt 1) else
rt 0
def p_X3_look_L0  (rec1 : Unit → am0 (Unit)) (x1 : Unit) : am0 (Unit) :=
bd (gI 1 1 80) fun v3 =>
bd (gI 1 1 79) fun v4 =>
if v4 ≤ v3 then (rt ()) else
bd (gR 1 1 76) fun r6 =>
bd (gI 1 1 78) fun v7 =>
bd (gI 1 1 80) fun v8 =>
bd (rI 107 r6 (v7 + v8)) fun v9 =>
if v9 = 32 then (bd (gI 1 1 80) fun v11 =>
bd (pI 1 1 80 (v11 + 1)) fun _ =>
rec1 ()) else
rt ()
def p_X3_look  : am0 Int32 :=
bd (alp (p_X3_look_L0) amFu ()) fun (y2 : Unit) =>
bd (gI 1 1 80) fun v12 =>
bd (gI 1 1 79) fun v13 =>
if v13 ≤ v12 then (rt (-1)) else
bd (gR 1 1 76) fun r15 =>
bd (gI 1 1 78) fun v16 =>
bd (gI 1 1 80) fun v17 =>
bd (rI 107 r15 (v16 + v17)) fun v18 =>
rt (v18 &&& 255)
def p_X3_stop  : am0 Int32 :=
bd (gI 1 1 81) fun v1 =>
if v1 = (-1) then (bd (gI 1 1 80) fun v3 =>
bd (pI 1 1 81 v3) fun _ =>
rt 0) else
rt 0
def p_X3_goesIn  : am0 Int32 :=
bd (gI 1 1 82) fun v1 =>
if v1 = 8 then (bd (p_X3_stop) fun v3 =>
bd (zg v3) fun _ => rt v3) else
bd (gI 1 1 82) fun v5 =>
bd (pI 1 1 82 (v5 + 1)) fun _ =>
bd (gI 1 1 80) fun v6 =>
bd (pI 1 1 80 (v6 + 1)) fun _ =>
rt 1
def p_X3_takes (a1 : Int32) : am0 Int32 :=
bd (gI 1 1 81) fun v1 =>
jn (fun (z2 : Unit) => bd (p_X3_stop) fun v7 =>
bd (zg v7) fun _ => rt v7) fun (k2 : Unit → am0 (Int32)) =>
if v1 = (-1) then (bd (p_X3_look) fun v4 =>
if v4 = a1 then (bd (gI 1 1 80) fun v6 =>
bd (pI 1 1 80 (v6 + 1)) fun _ =>
rt 1) else
k2 ()) else
k2 ()
def p_X3_isDigit  : am0 Int32 :=
bd (gI 1 1 80) fun v1 =>
bd (gI 1 1 79) fun v2 =>
jn (fun (z3 : Unit) => rt 0) fun (k3 : Unit → am0 (Int32)) =>
if v2 ≤ v1 then (k3 ()) else
bd (gR 1 1 76) fun r5 =>
bd (gI 1 1 78) fun v6 =>
bd (gI 1 1 80) fun v7 =>
bd (rI 107 r5 (v6 + v7)) fun v8 =>
if v8 < 48 then (k3 ()) else
bd (gR 1 1 76) fun r10 =>
bd (gI 1 1 78) fun v11 =>
bd (gI 1 1 80) fun v12 =>
bd (rI 107 r10 (v11 + v12)) fun v13 =>
if 57 < v13 then (k3 ()) else
rt 1
def p_X3_number_L22 (a1 : Int32) (rec6 : (Int32 × Int32) → am0 Int32) (x6 : Int32 × Int32) : am0 Int32 :=
bd (p_X3_isDigit) fun v7 =>
if v7 = 0 then (rt x6.1) else
bd (gI 1 1 81) fun v9 =>
if v9 = (-1) then (if x6.2 = a1 then (bd (p_X3_stop) fun v12 =>
rt 0) else
bd (gR 1 1 76) fun r13 =>
bd (gI 1 1 78) fun v14 =>
bd (gI 1 1 80) fun v15 =>
bd (rI 107 r13 (v14 + v15)) fun v16 =>
bd (rt (((10 * x6.1) + v16) - 48)) fun v17 =>
bd (gI 1 1 80) fun v18 =>
bd (pI 1 1 80 (v18 + 1)) fun _ =>
rec6 (v17, (x6.2 + 1))) else
rt x6.1
def p_X3_number (a1 : Int32) : am0 Int32 :=
bd (p_X3_look) fun v1 =>
bd (p_X3_isDigit) fun v2 =>
bd (if v2 = 0 then (bd (p_X3_stop) fun v5 =>
rt ()) else
rt ()) fun (z3 : Unit) =>
alp (p_X3_number_L22 a1) amFu (0, 0)
def p_X3_bound (a1 : Int64) : am0 Int32 :=
bd (rt (if a1 < 1000000 then a1 else 1000000)) fun v1 =>
bd (rt (if v1 < (-1000000) then (-1000000) else v1)) fun v2 =>
rt v2.toInt32
def b_X3_atom (s_X3_atom : am0 Int32) (s_X3_sums : am0 Int32) (s_X3_term : am0 Int32)  : am0 Int32 :=
bd (gM) fun _ =>
bd (p_X3_look) fun v1 =>
jn (fun (z2 : Unit) => if v1 = 91 then (bd (p_X3_goesIn) fun v12 =>
if v12 = 0 then (rt 0) else
bd (s_X3_sums) fun v14 =>
bd (p_X3_takes 93) fun v15 =>
if v15 = 0 then (rt 0) else
bd (gI 1 1 82) fun v17 =>
bd (pI 1 1 82 (v17 - 1)) fun _ =>
rt v14) else
bd (p_X3_number 4) fun v11 =>
rt v11) fun (k2 : Unit → am0 (Int32)) =>
if v1 = (-1) then (k2 ()) else
bd (gR 1 1 77) fun r4 =>
bd (gd (r4 ≠ 0 ∧ r4 ≤ am_strN)) fun _ =>
bd (p_J6_indexOf r4 v1) fun v6 =>
if v6 < 0 then (k2 ()) else
bd (gI 1 1 80) fun v8 =>
bd (pI 1 1 80 (v8 + 1)) fun _ =>
bd (rI 112 1 v1) fun v9 =>
rt v9
def p_X3_sums_L5 (s_X3_term : am0 Int32) (rec2 : Int32 → am0 (Int32)) (x2 : Int32) : am0 (Int32) :=
bd (gI 1 1 81) fun v4 =>
if v4 = (-1) then (bd (p_X3_look) fun v6 =>
jn (fun (z7 : Unit) => bd (p_X3_look) fun v11 =>
bd (if v11 = 43 then (rt 1) else
rt 0) fun (z12 : Int32) =>
bd (gI 1 1 80) fun v14 =>
bd (pI 1 1 80 (v14 + 1)) fun _ =>
bd (s_X3_term) fun v15 =>
bd (if z12 = 0 then (rt (x2.toInt64 - v15.toInt64)) else
rt (x2.toInt64 + v15.toInt64)) fun (z16 : Int64) =>
bd (p_X3_bound z16) fun v18 =>
rec2 v18) fun (k7 : Unit → am0 ((Int32))) =>
if v6 = 43 then (k7 ()) else
bd (p_X3_look) fun v9 =>
if v9 = 45 then (k7 ()) else
rt x2) else
rt x2
def b_X3_sums (s_X3_atom : am0 Int32) (s_X3_sums : am0 Int32) (s_X3_term : am0 Int32)  : am0 Int32 :=
bd (s_X3_term) fun v1 =>
bd (alp (p_X3_sums_L5 s_X3_term) amFu v1) fun (y3 : Int32) =>
rt y3
def p_X3_term_L5 (s_X3_atom : am0 Int32) (rec2 : Int32 → am0 (Int32)) (x2 : Int32) : am0 (Int32) :=
bd (gI 1 1 81) fun v4 =>
if v4 = (-1) then (bd (p_X3_look) fun v6 =>
if v6 = 42 then (bd (gI 1 1 80) fun v8 =>
bd (pI 1 1 80 (v8 + 1)) fun _ =>
bd (s_X3_atom) fun v9 =>
bd (p_X3_bound (x2.toInt64 * v9.toInt64)) fun v10 =>
rec2 v10) else
rt x2) else
rt x2
def b_X3_term (s_X3_atom : am0 Int32) (s_X3_sums : am0 Int32) (s_X3_term : am0 Int32)  : am0 Int32 :=
bd (s_X3_atom) fun v1 =>
bd (alp (p_X3_term_L5 s_X3_atom) amFu v1) fun (y3 : Int32) =>
rt y3
def gr_X3_atom : Nat → (am0 Int32) × (am0 Int32) × (am0 Int32)
  | 0 => (fl0, fl0, fl0)
  | d + 1 => (b_X3_atom (gr_X3_atom d).1 (gr_X3_atom d).2.1 (gr_X3_atom d).2.2, b_X3_sums (gr_X3_atom d).1 (gr_X3_atom d).2.1 (gr_X3_atom d).2.2, b_X3_term (gr_X3_atom d).1 (gr_X3_atom d).2.1 (gr_X3_atom d).2.2)
def p_X3_atom (d : Nat) : am0 Int32 := (gr_X3_atom d).1
def p_X3_sums (d : Nat) : am0 Int32 := (gr_X3_atom d).2.1
def p_X3_term (d : Nat) : am0 Int32 := (gr_X3_atom d).2.2
def p_X3_condition_L5 (s_X3_part : am0 Int32) (rec2 : Int32 → am0 (Int32)) (x2 : Int32) : am0 (Int32) :=
bd (gI 1 1 81) fun v4 =>
if v4 = (-1) then (bd (p_X3_look) fun v6 =>
if v6 = 124 then (bd (gI 1 1 80) fun v8 =>
bd (pI 1 1 80 (v8 + 1)) fun _ =>
bd (s_X3_part) fun v9 =>
bd (jn (fun (z11 : Unit) => rt 1) fun (k11 : Unit → am0 ((Int32))) =>
if x2 = 0 then (if v9 = 0 then (rt 0) else
k11 ()) else
k11 ()) fun (z10 : Int32) =>
rec2 z10) else
rt x2) else
rt x2
def b_X3_condition (s_X3_condition : am0 Int32) (s_X3_part : am0 Int32) (s_X3_unit : am0 Int32)  : am0 Int32 :=
bd (s_X3_part) fun v1 =>
bd (alp (p_X3_condition_L5 s_X3_part) amFu v1) fun (y3 : Int32) =>
bd (zg y3) fun _ => rt y3
def p_X3_part_L5 (s_X3_unit : am0 Int32) (rec2 : Int32 → am0 (Int32)) (x2 : Int32) : am0 (Int32) :=
bd (gI 1 1 81) fun v4 =>
if v4 = (-1) then (bd (p_X3_look) fun v6 =>
if v6 = 38 then (bd (gI 1 1 80) fun v8 =>
bd (pI 1 1 80 (v8 + 1)) fun _ =>
bd (s_X3_unit) fun v9 =>
bd (jn (fun (z11 : Unit) => rt 0) fun (k11 : Unit → am0 ((Int32))) =>
if x2 = 0 then (k11 ()) else
if v9 = 0 then (k11 ()) else
rt 1) fun (z10 : Int32) =>
rec2 z10) else
rt x2) else
rt x2
def b_X3_part (s_X3_condition : am0 Int32) (s_X3_part : am0 Int32) (s_X3_unit : am0 Int32)  : am0 Int32 :=
bd (s_X3_unit) fun v1 =>
bd (alp (p_X3_part_L5 s_X3_unit) amFu v1) fun (y3 : Int32) =>
bd (zg y3) fun _ => rt y3
def b_X3_unit (s_X3_condition : am0 Int32) (s_X3_part : am0 Int32) (s_X3_unit : am0 Int32)  : am0 Int32 :=
bd (p_X3_look) fun v1 =>
if v1 = 33 then (bd (p_X3_goesIn) fun v3 =>
if v3 = 0 then (rt 0) else
bd (s_X3_unit) fun v5 =>
bd (gI 1 1 82) fun v6 =>
bd (pI 1 1 82 (v6 - 1)) fun _ =>
if v5 = 0 then (rt 1) else
rt 0) else
if v1 = 40 then (bd (p_X3_goesIn) fun v9 =>
if v9 = 0 then (rt 0) else
bd (s_X3_condition) fun v11 =>
bd (p_X3_takes 41) fun v12 =>
if v12 = 0 then (rt 0) else
bd (gI 1 1 82) fun v14 =>
bd (pI 1 1 82 (v14 - 1)) fun _ =>
bd (zg v11) fun _ => rt v11) else
bd (p_X3_sums 64) fun v16 =>
bd (gI 1 1 81) fun v17 =>
if v17 = (-1) then (bd (p_X3_look) fun v19 =>
jn (fun (z20 : Unit) => bd (gI 1 1 80) fun v26 =>
bd (pI 1 1 80 (v26 + 1)) fun _ =>
bd (p_X3_sums 64) fun v27 =>
if v19 = 61 then (if v16 = v27 then (rt 1) else
rt 0) else
if v19 = 60 then (if v27 ≤ v16 then (rt 0) else
rt 1) else
if v16 ≤ v27 then (rt 0) else
rt 1) fun (k20 : Unit → am0 (Int32)) =>
if v19 = 61 then (k20 ()) else
if v19 = 60 then (k20 ()) else
if v19 = 62 then (k20 ()) else
bd (p_X3_stop) fun v24 =>
bd (zg v24) fun _ => rt v24) else
rt 0
def gr_X3_condition : Nat → (am0 Int32) × (am0 Int32) × (am0 Int32)
  | 0 => (fl0, fl0, fl0)
  | d + 1 => (b_X3_condition (gr_X3_condition d).1 (gr_X3_condition d).2.1 (gr_X3_condition d).2.2, b_X3_part (gr_X3_condition d).1 (gr_X3_condition d).2.1 (gr_X3_condition d).2.2, b_X3_unit (gr_X3_condition d).1 (gr_X3_condition d).2.1 (gr_X3_condition d).2.2)
def p_X3_condition (d : Nat) : am0 Int32 := (gr_X3_condition d).1
def p_X3_part (d : Nat) : am0 Int32 := (gr_X3_condition d).2.1
def p_X3_unit (d : Nat) : am0 Int32 := (gr_X3_condition d).2.2
def p_X3_actionOf (a1 : Int32) : am0 Int32 :=
if a1 = 112 then (rt 0) else
if a1 = 115 then (rt 1) else
if a1 = 108 then (rt 2) else
if a1 = 99 then (rt 3) else
if a1 = 109 then (rt 4) else
rt (-1)
def p_X3_clause_L103 (v1 : Int32) (rec20 : Int32 → am0 Unit) (x20 : Int32) : am0 Unit :=
bd (gI 1 1 81) fun v21 =>
if v21 = (-1) then (if x20 = (-1) then (rt ()) else
bd (gI 1 1 80) fun v24 =>
bd (pI 1 1 80 (v24 + 1)) fun _ =>
bd (p_X3_look) fun v25 =>
bd (p_X3_isDigit) fun v26 =>
if v26 = 0 then (bd (p_X3_stop) fun v28 =>
rt ()) else
bd (gI 1 1 80) fun v29 =>
bd (pI 1 1 80 (v29 + 1)) fun _ =>
bd (if v1 = 0 then (rt ()) else
bd (rI 113 1 x20) fun v32 =>
bd (rt (if ((v32 + v25) - 48) < 9 then ((v32 + v25) - 48) else 9)) fun v33 =>
bd (wI 113 1 x20 v33) fun _ =>
rt ()) fun (z30 : Unit) =>
bd (p_X3_look) fun v34 =>
bd (p_X3_actionOf v34) fun v35 =>
rec20 v35) else
rt ()
def p_X3_clause (a1 : Int32) (a2 : Int32) : am0 Unit :=
bd (gM) fun _ =>
bd (p_X3_condition 64) fun v1 =>
bd (p_X3_takes 63) fun v2 =>
if v2 = 0 then (rt ()) else
bd (if v1 = 0 then (rt ()) else
if 30 ≤ a2 then (rt ()) else
bd (gI 1 1 75) fun v7 =>
bd (pI 1 1 75 (v7 ||| ((1 : Int32) <<< (a2 &&& 31)))) fun _ =>
rt ()) fun (z4 : Unit) =>
if a1 = 0 then (bd (p_X3_look) fun v15 =>
bd (p_X3_actionOf v15) fun v16 =>
bd (if v16 = (-1) then (bd (p_X3_stop) fun v19 =>
rt ()) else
rt ()) fun (z17 : Unit) =>
alp (p_X3_clause_L103 v1) amFu v16) else
bd (p_X3_number 3) fun v9 =>
bd (gI 1 1 81) fun v10 =>
if v10 = (-1) then (if v1 = 0 then (rt ()) else
bd (gI 1 1 74) fun v13 =>
bd (wI 114 1 v13 v9) fun _ =>
bd (gI 1 1 74) fun v14 =>
bd (pI 1 1 74 (v14 + 1)) fun _ =>
rt ()) else
rt ()
def p_X3_goThrough_L44  (rec1 : Int32 → am0 (Unit)) (x1 : Int32) : am0 (Unit) :=
if 5 ≤ x1 then (rt ()) else
bd (wI 113 1 x1 0) fun _ =>
rec1 (x1 + 1)
def p_X3_goThrough_L133 (a1 : Int32) (rec17 : (Int32 × Int32) → am0 (Unit)) (x17 : Int32 × Int32) : am0 (Unit) :=
if x17.2 = 0 then (rt ()) else
bd (if a1 = 2 then (rt 1) else
rt 0) fun (z20 : Int32) =>
bd (p_X3_clause z20 x17.1) fun _ =>
bd (gI 1 1 81) fun v22 =>
bd (jn (fun (z24 : Unit) => rt 0) fun (k24 : Unit → am0 ((Int32))) =>
if v22 = (-1) then (bd (p_X3_look) fun v26 =>
if v26 = 59 then (rt 1) else
k24 ()) else
k24 ()) fun (z23 : Int32) =>
if z23 = 0 then (rec17 ((x17.1 + 1), z23)) else
bd (gI 1 1 80) fun v29 =>
bd (pI 1 1 80 (v29 + 1)) fun _ =>
rec17 ((x17.1 + 1), z23)
def p_X3_goThrough (a1 : Int32) (a2 : Nat) (a3 : Int32) (a4 : Int32) : am0 Int32 :=
bd (gM) fun _ =>
bd (pR 1 1 76 a2) fun _ =>
bd (pI 1 1 78 a3) fun _ =>
bd (pI 1 1 79 a4) fun _ =>
bd (pI 1 1 80 0) fun _ =>
bd (pI 1 1 81 (-1)) fun _ =>
bd (pI 1 1 82 0) fun _ =>
bd (pI 1 1 74 0) fun _ =>
bd (pI 1 1 75 0) fun _ =>
bd (alp (p_X3_goThrough_L44) amFu 0) fun (y2 : Unit) =>
bd (if a1 = 0 then (rt 1) else
if a1 = 1 then (rt 2) else
rt 3) fun (z4 : Nat) =>
bd (pR 1 1 77 z4) fun _ =>
if a1 = 1 then (bd (p_X3_condition 64) fun v8 =>
bd (gI 1 1 81) fun v9 =>
if v9 = (-1) then (bd (p_X3_look) fun v12 =>
if v12 = (-1) then (bd (zg v8) fun _ => rt v8) else
bd (p_X3_stop) fun v15 =>
bd (zg v8) fun _ => rt v8) else
bd (zg v8) fun _ => rt v8) else
bd (alp (p_X3_goThrough_L133 a1) amFu (0, 1)) fun (y18 : Unit) =>
bd (gI 1 1 81) fun v30 =>
bd (if v30 = (-1) then (bd (p_X3_look) fun v33 =>
if v33 = (-1) then (rt ()) else
bd (p_X3_stop) fun v35 =>
rt ()) else
rt ()) fun (z31 : Unit) =>
bd (gI 1 1 81) fun v36 =>
if v36 = (-1) then (rt 1) else
rt 0
def p_X3_fault (a1 : Int32) : am0 Int32 :=
bd (gM) fun _ =>
bd (pI 1 1 0 0) fun _ =>
bd (p_X3_isIn a1 0 2) fun v1 =>
if v1 = 0 then (rt (-2)) else
bd (gI 1 1 70) fun v3 =>
bd (p_X3_goThrough a1 1 0 v3) fun v4 =>
bd (gI 1 1 81) fun v5 =>
rt v5
def p_X3_orders_L22  (rec5 : Int32 → am0 (Unit)) (x5 : Int32) : am0 (Unit) :=
bd (gI 1 1 70) fun v7 =>
if v7 ≤ x5 then (rt ()) else
bd (gI 1 1 71) fun v9 =>
bd (rI 107 1 x5) fun v10 =>
bd (wI 107 2 ((200 * v9) + x5) (v10.toInt8.toInt32)) fun _ =>
rec5 (x5 + 1)
def p_X3_orders  : am0 Int32 :=
bd (gM) fun _ =>
bd (p_X3_fault 0) fun v1 =>
if v1 = (-1) then (bd (gI 1 1 71) fun v3 =>
if v3 = 20 then (rt (-1)) else
bd (alp (p_X3_orders_L22) amFu 0) fun (y6 : Unit) =>
bd (gI 1 1 71) fun v11 =>
bd (gI 1 1 70) fun v12 =>
bd (wI 108 1 v11 v12) fun _ =>
bd (gI 1 1 71) fun v13 =>
bd (pI 1 1 71 (v13 + 1)) fun _ =>
bd (pI 1 1 70 0) fun _ =>
bd (gI 1 1 71) fun v14 =>
rt (v14 - 1)) else
rt (-1)
def p_X3_leaving_L13  (rec3 : Int32 → am0 (Unit)) (x3 : Int32) : am0 (Unit) :=
bd (gI 1 1 70) fun v5 =>
if v5 ≤ x3 then (rt ()) else
bd (rI 107 1 x3) fun v7 =>
bd (wI 107 4 x3 (v7.toInt8.toInt32)) fun _ =>
rec3 (x3 + 1)
def p_X3_leaving  : am0 Int32 :=
bd (gM) fun _ =>
bd (p_X3_fault 1) fun v1 =>
if v1 = (-1) then (bd (alp (p_X3_leaving_L13) amFu 0) fun (y4 : Unit) =>
bd (gI 1 1 70) fun v8 =>
bd (pI 1 1 73 v8) fun _ =>
bd (pI 1 1 70 0) fun _ =>
rt 1) else
rt 0
def p_X3_act_L33  (rec7 : Int32 → am0 (Unit)) (x7 : Int32) : am0 (Unit) :=
bd (gI 1 1 70) fun v9 =>
if v9 ≤ x7 then (rt ()) else
bd (gI 1 1 72) fun v11 =>
bd (rI 107 1 x7) fun v12 =>
bd (wI 107 3 ((200 * v11) + x7) (v12.toInt8.toInt32)) fun _ =>
rec7 (x7 + 1)
def p_X3_act (a1 : Int32) : am0 Int32 :=
bd (gM) fun _ =>
bd (p_X3_fault 2) fun v1 =>
if v1 = (-1) then (bd (gI 1 1 72) fun v3 =>
if v3 = 12 then (rt (-1)) else
bd (p_X3_isIn a1 1 200) fun v5 =>
if v5 = 0 then (rt (-1)) else
bd (alp (p_X3_act_L33) amFu 0) fun (y8 : Unit) =>
bd (gI 1 1 72) fun v13 =>
bd (gI 1 1 70) fun v14 =>
bd (wI 109 1 v13 v14) fun _ =>
bd (gI 1 1 72) fun v15 =>
bd (wI 110 1 v15 a1) fun _ =>
bd (gI 1 1 72) fun v16 =>
bd (gI 1 1 1) fun v17 =>
bd (wI 111 1 v16 v17) fun _ =>
bd (gI 1 1 72) fun v18 =>
bd (pI 1 1 72 (v18 + 1)) fun _ =>
bd (pI 1 1 70 0) fun _ =>
bd (gI 1 1 72) fun v19 =>
rt (v19 - 1)) else
rt (-1)
def p_X3_falseOf_L8 (a1 : Int32) (a2 : Int32) (rec1 : (Int32 × Int32 × Int32) → am0 (Int32 × Int32)) (x1 : Int32 × Int32 × Int32) : am0 (Int32 × Int32) :=
bd (gI 1 1 92) fun v3 =>
if v3 ≤ x1.2.2 then (rt (x1.1, x1.2.1)) else
bd (rI 115 1 x1.2.2) fun v5 =>
bd (if v5 = a1 then (bd (rI 117 1 x1.2.2) fun v8 =>
if v8 = 0 then (rt (x1.1, x1.2.1)) else
bd (rI 118 1 x1.2.2) fun v10 =>
bd (p_X3_partOf v10) fun v11 =>
if v11 = a2 then (bd (rI 117 1 x1.2.2) fun v13 =>
bd (if v13 = 2 then (rt 1) else
rt 0) fun (z14 : Int32) =>
bd (rt (x1.2.1 + z14)) fun v16 =>
rt ((x1.1 + 1), v16)) else
rt (x1.1, x1.2.1)) else
rt (x1.1, x1.2.1)) fun (z6 : Int32 × Int32) =>
rec1 (z6.1, z6.2, (x1.2.2 + 1))
def p_X3_falseOf (a1 : Int32) (a2 : Int32) : am0 Int32 :=
bd (gM) fun _ =>
bd (alp (p_X3_falseOf_L8 a1 a2) amFu (0, 0, 0)) fun (y2 : Int32 × Int32) =>
if y2.1 = 0 then (rt 0) else
bd (nz y2.1) fun _ =>
rt ((100 * y2.2) / y2.1)
def p_X3_falses (a1 : Int32) (a2 : Int32) : am0 Int32 :=
bd (pI 1 1 0 0) fun _ =>
bd (p_X3_isCorner a1) fun v1 =>
jn (fun (z2 : Unit) => rt (-1)) fun (k2 : Unit → am0 (Int32)) =>
if v1 = 0 then (k2 ()) else
bd (p_X3_isIn a2 0 3) fun v4 =>
if v4 = 0 then (k2 ()) else
bd (p_X3_falseOf a1 a2) fun v6 =>
rt v6
def p_X3_readyOf_L4 (a1 : Int32) (rec1 : (Int32 × Int32) → am0 (Int32)) (x1 : Int32 × Int32) : am0 (Int32) :=
bd (gI 1 1 58) fun v3 =>
if v3 ≤ x1.2 then (rt x1.1) else
bd (rI 87 1 x1.2) fun v5 =>
bd (jn (fun (z7 : Unit) => rt 0) fun (k7 : Unit → am0 ((Int32))) =>
if v5 = a1 then (bd (rI 94 1 x1.2) fun v9 =>
if v9 = 0 then (rt 1) else
k7 ()) else
k7 ()) fun (z6 : Int32) =>
bd (rt (x1.1 + z6)) fun v11 =>
rec1 (v11, (x1.2 + 1))
def p_X3_readyOf (a1 : Int32) : am0 Int32 :=
bd (gM) fun _ =>
bd (alp (p_X3_readyOf_L4 a1) amFu (0, 0)) fun (y2 : Int32) =>
rt y2
def p_X3_askFor_L11 (a1 : Int32) (rec1 : (Int32 × Int32 × Int32) → am0 (Int32 × Int32)) (x1 : Int32 × Int32 × Int32) : am0 (Int32 × Int32) :=
bd (gI 1 1 31) fun v3 =>
if v3 ≤ x1.2.2 then (rt (x1.1, x1.2.1)) else
bd (rI 62 1 x1.2.2) fun v5 =>
bd (if v5 = a1 then (bd (rI 64 1 x1.2.2) fun v8 =>
bd (rt (if x1.1 < v8 then v8 else x1.1)) fun v9 =>
rt (v9, (x1.2.1 + 1))) else
rt (x1.1, x1.2.1)) fun (z6 : Int32 × Int32) =>
rec1 (z6.1, z6.2, (x1.2.2 + 1))
def p_X3_askFor_L58 (a1 : Int32) (rec10 : (Int32 × Int32) → am0 (Int32)) (x10 : Int32 × Int32) : am0 (Int32) :=
bd (gI 1 1 92) fun v12 =>
if v12 ≤ x10.2 then (rt x10.1) else
bd (rI 117 1 x10.2) fun v14 =>
bd (jn (fun (z16 : Unit) => rt 0) fun (k16 : Unit → am0 ((Int32))) =>
if v14 = 0 then (bd (rI 115 1 x10.2) fun v18 =>
if v18 = a1 then (k16 ()) else
rt 1) else
k16 ()) fun (z15 : Int32) =>
bd (rt (x10.1 + z15)) fun v20 =>
rec10 (v20, (x10.2 + 1))
def p_X3_askFor_L270  (rec31 : Int32 → am0 (Unit)) (x31 : Int32) : am0 (Unit) :=
if 5 ≤ x31 then (rt ()) else
bd (wI 113 1 x31 0) fun _ =>
rec31 (x31 + 1)
def p_X3_askFor (a1 : Int32) (a2 : Int32) : am0 Unit :=
bd (gM) fun _ =>
bd (alp (p_X3_askFor_L11 a1) amFu (0, 0, 0)) fun (y2 : Int32 × Int32) =>
bd (alp (p_X3_askFor_L58 a1) amFu (0, 0)) fun (y11 : Int32) =>
bd (wI 112 1 119 a2) fun _ =>
bd (gI 1 1 1) fun v21 =>
bd (wI 112 1 104 ((v21 / 60) - (v21 / 60) / 24 * 24)) fun _ =>
bd (wI 112 1 102 y2.1) fun _ =>
bd (wI 112 1 107 y2.2) fun _ =>
bd (gI 1 1 1) fun v22 =>
bd (p_X3_partOf v22) fun v23 =>
bd (p_X3_falseOf a1 v23) fun v24 =>
bd (wI 112 1 97 v24) fun _ =>
bd (p_X3_readyOf 0) fun v25 =>
bd (wI 112 1 112 v25) fun _ =>
bd (p_X3_readyOf 1) fun v26 =>
bd (wI 112 1 115 v26) fun _ =>
bd (p_X3_readyOf 2) fun v27 =>
bd (wI 112 1 108 v27) fun _ =>
bd (p_X3_readyOf 3) fun v28 =>
bd (wI 112 1 99 v28) fun _ =>
bd (wI 112 1 111 y11) fun _ =>
bd (gI 1 1 71) fun v29 =>
if v29 ≤ 0 then (bd (pI 1 1 75 0) fun _ =>
bd (alp (p_X3_askFor_L270) amFu 0) fun (y32 : Unit) =>
rt ()) else
bd (gI 1 1 71) fun v34 =>
bd (gI 1 1 71) fun v35 =>
bd (rI 108 1 (v35 - 1)) fun v36 =>
bd (p_X3_goThrough 0 2 (200 * (v34 - 1)) v36) fun v37 =>
rt ()
def p_X3_asks (a1 : Int32) (a2 : Int32) (a3 : Int32) : am0 Int32 :=
bd (gM) fun _ =>
bd (pI 1 1 0 0) fun _ =>
bd (p_X3_isCorner a1) fun v1 =>
if v1 = 0 then (rt (-1)) else
bd (p_X3_isIn a2 1 3) fun v3 =>
if v3 = 0 then (rt (-1)) else
bd (p_X3_isIn a3 0 4) fun v5 =>
if v5 = 0 then (rt (-1)) else
bd (p_X3_askFor a1 a2) fun _ =>
bd (rI 113 1 a3) fun v7 =>
rt v7
def p_X3_why (a1 : Int32) (a2 : Int32) : am0 Int32 :=
bd (pI 1 1 0 0) fun _ =>
bd (p_X3_isCorner a1) fun v1 =>
if v1 = 0 then (rt (-1)) else
bd (p_X3_isIn a2 1 3) fun v3 =>
if v3 = 0 then (rt (-1)) else
bd (p_X3_askFor a1 a2) fun _ =>
bd (gI 1 1 75) fun v5 =>
rt v5
def p_X3_isShared_L2 (a1 : Int32) (rec1 : Int32 → am0 Int32) (x1 : Int32) : am0 Int32 :=
bd (gI 1 1 58) fun v2 =>
if v2 ≤ x1 then (rt 0) else
jn (fun (z4 : Unit) => rec1 (x1 + 1)) fun (k4 : Unit → am0 (Int32)) =>
if x1 = a1 then (k4 ()) else
bd (rI 94 1 x1) fun v6 =>
if v6 = 0 then (bd (rI 95 1 x1) fun v8 =>
bd (rI 95 1 a1) fun v9 =>
if v8 = v9 then (rt 1) else
k4 ()) else
k4 ()
def p_X3_isShared (a1 : Int32) : am0 Int32 :=
bd (gM) fun _ =>
alp (p_X3_isShared_L2 a1) amFu 0
def p_X3_soonest_L8 (a1 : Int32) (a2 : Int32) (rec1 : (Int32 × Int32 × Int32) → am0 (Int32 × Int32)) (x1 : Int32 × Int32 × Int32) : am0 (Int32 × Int32) :=
bd (gI 1 1 58) fun v3 =>
if v3 ≤ x1.2.2 then (rt (x1.1, x1.2.1)) else
bd (rI 94 1 x1.2.2) fun v5 =>
bd (if v5 = 0 then (jn (fun (z8 : Unit) => jn (fun (z12 : Unit) => bd (rI 95 1 x1.2.2) fun v16 =>
bd (gI 1 1 1) fun v17 =>
bd (p_X3_slowOf x1.2.2) fun v18 =>
bd (p_X3_comeBy v16 a2 v17 v18) fun v19 =>
if v19 = (-1) then (rt (x1.1, x1.2.1)) else
jn (fun (z21 : Unit) => rt (x1.2.2, v19)) fun (k21 : Unit → am0 ((Int32 × Int32))) =>
if x1.1 = (-1) then (k21 ()) else
if v19 < x1.2.1 then (k21 ()) else
rt (x1.1, x1.2.1)) fun (k12 : Unit → am0 ((Int32 × Int32))) =>
if a1 = (-1) then (bd (p_X3_isShared x1.2.2) fun v14 =>
if v14 = 0 then (rt (x1.1, x1.2.1)) else
k12 ()) else
k12 ()) fun (k8 : Unit → am0 ((Int32 × Int32))) =>
if a1 = (-1) then (k8 ()) else
bd (rI 87 1 x1.2.2) fun v10 =>
if v10 = a1 then (k8 ()) else
rt (x1.1, x1.2.1)) else
rt (x1.1, x1.2.1)) fun (z6 : Int32 × Int32) =>
rec1 (z6.1, z6.2, (x1.2.2 + 1))
def p_X3_soonest (a1 : Int32) (a2 : Int32) : am0 Int32 :=
bd (gM) fun _ =>
bd (alp (p_X3_soonest_L8 a1 a2) amFu ((-1), 0, 0)) fun (y2 : Int32 × Int32) =>
bd (pI 1 1 93 y2.2) fun _ =>
rt y2.1
def p_X3_emptyHome_L15 (x1 : Int32) (rec3 : (Int32 × Int32 × Int32) → am0 (Int32 × Int32)) (x3 : Int32 × Int32 × Int32) : am0 (Int32 × Int32) :=
bd (gI 1 1 58) fun v5 =>
if v5 ≤ x3.2.2 then (rt (x3.1, x3.2.1)) else
bd (jn (fun (z8 : Unit) => rt 1) fun (k8 : Unit → am0 ((Int32))) =>
if x3.1 = 0 then (bd (rI 88 1 x3.2.2) fun v10 =>
if v10 = x1 then (k8 ()) else
rt 0) else
k8 ()) fun (z7 : Int32) =>
bd (jn (fun (z13 : Unit) => rt 1) fun (k13 : Unit → am0 ((Int32))) =>
if x3.2.1 = 0 then (bd (rI 94 1 x3.2.2) fun v15 =>
jn (fun (z16 : Unit) => rt 0) fun (k16 : Unit → am0 ((Int32))) =>
jn (fun (z17 : Unit) => bd (rI 95 1 x3.2.2) fun v21 =>
if v21 = x1 then (k13 ()) else
k16 ()) fun (k17 : Unit → am0 ((Int32))) =>
if v15 = 0 then (k17 ()) else
bd (rI 94 1 x3.2.2) fun v19 =>
if v19 = 3 then (k17 ()) else
k16 ()) else
k13 ()) fun (z12 : Int32) =>
rec3 (z7, z12, (x3.2.2 + 1))
def p_X3_emptyHome_L2  (rec1 : Int32 → am0 Int32) (x1 : Int32) : am0 Int32 :=
if 20 ≤ x1 then (rt (-1)) else
bd (alp (p_X3_emptyHome_L15 x1) amFu (0, 0, 0)) fun (y4 : Int32 × Int32) =>
jn (fun (z23 : Unit) => rec1 (x1 + 1)) fun (k23 : Unit → am0 (Int32)) =>
if y4.1 = 0 then (k23 ()) else
if y4.2 = 0 then (rt x1) else
k23 ()
def p_X3_emptyHome  : am0 Int32 :=
bd (gM) fun _ =>
alp (p_X3_emptyHome_L2) amFu 0
def p_X3_answer_L18  (rec3 : Int32 → am0 (Unit)) (x3 : Int32) : am0 (Unit) :=
if 5 ≤ x3 then (rt ()) else
bd (rI 113 1 x3) fun v6 =>
bd (wI 124 1 x3 v6) fun _ =>
rec3 (x3 + 1)
def p_X3_answer_L50 (a1 : Int32) (x7 : Int32) (rec10 : Int32 → am0 (Unit)) (x10 : Int32) : am0 (Unit) :=
bd (rI 124 1 x7) fun v12 =>
if v12 ≤ x10 then (rt ()) else
bd (rI 115 1 a1) fun v14 =>
bd (p_X3_soonest x7 v14) fun v15 =>
bd (if v15 = (-1) then (bd (rI 121 1 a1) fun v18 =>
bd (wI 121 1 a1 (v18 + 1)) fun _ =>
rt ()) else
bd (wI 94 1 v15 1) fun _ =>
bd (rI 115 1 a1) fun v19 =>
bd (wI 95 1 v15 v19) fun _ =>
bd (gI 1 1 93) fun v20 =>
bd (wI 96 1 v15 v20) fun _ =>
bd (wI 97 1 v15 a1) fun _ =>
bd (rI 120 1 a1) fun v21 =>
bd (wI 120 1 a1 (v21 + 1)) fun _ =>
rt ()) fun (z16 : Unit) =>
rec10 (x10 + 1)
def p_X3_answer_L43 (a1 : Int32) (rec7 : Int32 → am0 (Unit)) (x7 : Int32) : am0 (Unit) :=
if 3 < x7 then (rt ()) else
bd (alp (p_X3_answer_L50 a1 x7) amFu 0) fun (y11 : Unit) =>
rec7 (x7 + 1)
def p_X3_answer_L158  (rec22 : (Int32 × Int32) → am0 (Unit)) (x22 : Int32 × Int32) : am0 (Unit) :=
bd (rI 124 1 4) fun v24 =>
if v24 ≤ x22.2 then (rt ()) else
if x22.1 = 0 then (rt ()) else
bd (p_X3_emptyHome) fun v27 =>
bd (if v27 = (-1) then (rt (-1)) else
bd (p_X3_soonest (-1) v27) fun v30 =>
rt v30) fun (z28 : Int32) =>
bd (if z28 = (-1) then (rt 0) else
rt 1) fun (z31 : Int32) =>
bd (if z31 = 0 then (rt ()) else
bd (wI 94 1 z28 3) fun _ =>
bd (wI 95 1 z28 v27) fun _ =>
bd (gI 1 1 93) fun v35 =>
bd (wI 96 1 z28 v35) fun _ =>
rt ()) fun (z33 : Unit) =>
rec22 (z31, (x22.2 + 1))
def p_X3_answer (a1 : Int32) : am0 Unit :=
bd (gM) fun _ =>
bd (rI 115 1 a1) fun v1 =>
bd (rI 116 1 a1) fun v2 =>
bd (p_X3_askFor v1 v2) fun _ =>
bd (alp (p_X3_answer_L18) amFu 0) fun (y4 : Unit) =>
bd (alp (p_X3_answer_L43 a1) amFu 0) fun (y8 : Unit) =>
bd (alp (p_X3_answer_L158) amFu (1, 0)) fun (y23 : Unit) =>
rt ()
def p_X3_call (a1 : Int32) : am0 Int32 :=
bd (gM) fun _ =>
bd (pI 1 1 0 0) fun _ =>
bd (p_X3_isCorner a1) fun v1 =>
if v1 = 0 then (rt (-1)) else
bd (p_X3_openAt a1) fun v3 =>
jn (fun (z4 : Int32) => bd (rI 122 1 z4) fun v13 =>
bd (wI 122 1 z4 (v13 + 1)) fun _ =>
bd (rI 116 1 z4) fun v14 =>
if v14 = 3 then (rt z4) else
bd (rI 116 1 z4) fun v16 =>
bd (wI 116 1 z4 (v16 + 1)) fun _ =>
bd (p_X3_answer z4) fun _ =>
rt z4) fun (k4 : Int32 → am0 (Int32)) =>
if v3 = (-1) then (bd (gI 1 1 92) fun v6 =>
if v6 = 60 then (rt (-1)) else
bd (gI 1 1 92) fun v8 =>
bd (wI 115 1 v8 a1) fun _ =>
bd (wI 116 1 v8 0) fun _ =>
bd (gI 1 1 1) fun v9 =>
bd (wI 118 1 v8 v9) fun _ =>
bd (wI 119 1 v8 (-1)) fun _ =>
bd (gI 1 1 92) fun v10 =>
bd (pI 1 1 92 (v10 + 1)) fun _ =>
bd (p_X3_burnsAt a1) fun v11 =>
bd (zg v11) fun _ =>
bd (wI 123 1 v8 v11) fun _ =>
k4 v8) else
k4 v3
def p_X3_called (a1 : Int32) (a2 : Int32) : am0 Int32 :=
bd (gM) fun _ =>
bd (pI 1 1 0 0) fun _ =>
if a1 < 0 then (rt (-1)) else
bd (gI 1 1 92) fun v2 =>
if a1 < v2 then (if a2 = 0 then (bd (rI 115 1 a1) fun v5 =>
rt v5) else
if a2 = 1 then (bd (rI 116 1 a1) fun v7 =>
rt v7) else
if a2 = 2 then (bd (rI 117 1 a1) fun v9 =>
rt v9) else
if a2 = 3 then (bd (rI 118 1 a1) fun v11 =>
rt v11) else
if a2 = 4 then (bd (rI 119 1 a1) fun v13 =>
rt v13) else
if a2 = 5 then (bd (rI 120 1 a1) fun v15 =>
rt v15) else
if a2 = 6 then (bd (rI 121 1 a1) fun v17 =>
rt v17) else
if a2 = 7 then (bd (rI 122 1 a1) fun v19 =>
rt v19) else
rt (-1)) else
rt (-1)
def p_X3_worstAt_L4 (a1 : Int32) (rec1 : (Int32 × Int32) → am0 (Int32)) (x1 : Int32 × Int32) : am0 (Int32) :=
bd (gI 1 1 31) fun v3 =>
if v3 ≤ x1.2 then (rt x1.1) else
bd (rI 62 1 x1.2) fun v5 =>
bd (if v5 = a1 then (bd (p_X3_burning x1.2) fun v8 =>
bd (if x1.1 = (-1) then (rt 0) else
bd (p_X3_burning x1.1) fun v11 =>
rt v11) fun (z9 : Int32) =>
if v8 ≤ z9 then (rt x1.1) else
rt x1.2) else
rt x1.1) fun (z6 : Int32) =>
rec1 (z6, (x1.2 + 1))
def p_X3_worstAt (a1 : Int32) : am0 Int32 :=
bd (gM) fun _ =>
bd (alp (p_X3_worstAt_L4 a1) amFu ((-1), 0)) fun (y2 : Int32) =>
rt y2
def p_X3_close (a1 : Int32) (a2 : Int32) : am0 Unit :=
bd (gM) fun _ =>
bd (if a2 = 0 then (rt 1) else
rt 2) fun (z1 : Int32) =>
bd (wI 117 1 a1 z1) fun _ =>
bd (gI 1 1 1) fun v3 =>
bd (wI 119 1 a1 v3) fun _ =>
rt ()
def p_X3_arrives (a1 : Int32) : am0 Unit :=
bd (gM) fun _ =>
bd (rI 94 1 a1) fun v1 =>
if v1 = 3 then (bd (rI 95 1 a1) fun v3 =>
bd (p_X3_rests a1 v3) fun _ =>
rt ()) else
bd (rI 97 1 a1) fun v4 =>
bd (rI 95 1 a1) fun v5 =>
bd (p_X3_worstAt v5) fun v6 =>
jn (fun (z7 : Unit) => bd (rI 117 1 v4) fun v12 =>
bd (if v12 = 0 then (bd (rI 123 1 v4) fun v15 =>
bd (if v15 = 0 then (rt 1) else
rt 0) fun (z16 : Int32) =>
bd (p_X3_close v4 z16) fun _ =>
rt ()) else
rt ()) fun (z13 : Unit) =>
bd (p_X3_turns a1 v5) fun _ =>
rt ()) fun (k7 : Unit → am0 (Unit)) =>
if v6 = (-1) then (k7 ()) else
bd (rI 117 1 v4) fun v9 =>
if v9 = 0 then (bd (wI 94 1 a1 2) fun _ =>
bd (wI 96 1 a1 (-1)) fun _ =>
bd (wI 98 1 a1 v6) fun _ =>
bd (gI 1 1 1) fun v11 =>
bd (wI 101 1 a1 v11) fun _ =>
rt ()) else
k7 ()
def p_X3_save_L18 (a2 : Int32) (rec5 : Int32 → am0 (Int32)) (x5 : Int32) : am0 (Int32) :=
if x5 < 0 then (rt x5) else
bd (rI 82 1 ((6 * a2) + x5)) fun v8 =>
jn (fun (z9 : Unit) => rec5 (x5 + (-1))) fun (k9 : Unit → am0 ((Int32))) =>
if v8 = 0 then (bd (rI 80 1 ((6 * a2) + x5)) fun v11 =>
if v11 = 0 then (k9 ()) else
rt x5) else
k9 ()
def p_X3_save (a1 : Int32) (a2 : Int32) : am0 Unit :=
bd (gM) fun _ =>
bd (rI 91 1 a1) fun v1 =>
bd (rI 64 1 a2) fun v2 =>
bd (rt (if v2 < v1 then v2 else v1)) fun v3 =>
bd (rt (v3 - 1)) fun v4 =>
bd (alp (p_X3_save_L18 a2) amFu v4) fun (y6 : Int32) =>
if 0 ≤ y6 then (bd (rI 80 1 ((6 * a2) + y6)) fun v14 =>
bd (rt (if v14 < 2 then v14 else 2)) fun v15 =>
bd (rt ((6 * a2) + y6)) fun v16 =>
bd (rI 80 1 v16) fun v17 =>
bd (wI 80 1 v16 (v17 - v15)) fun _ =>
bd (rI 70 1 a2) fun v18 =>
bd (wI 70 1 a2 (v18 + v15)) fun _ =>
rt ()) else
rt ()
def p_X3_hasChief_L2 (a1 : Int32) (rec1 : Int32 → am0 Int32) (x1 : Int32) : am0 Int32 :=
bd (gI 1 1 58) fun v2 =>
if v2 ≤ x1 then (rt 0) else
bd (rI 87 1 x1) fun v4 =>
jn (fun (z5 : Unit) => rec1 (x1 + 1)) fun (k5 : Unit → am0 (Int32)) =>
if v4 = 3 then (bd (rI 94 1 x1) fun v7 =>
if v7 = 2 then (bd (rI 98 1 x1) fun v9 =>
if v9 = a1 then (rt 1) else
k5 ()) else
k5 ()) else
k5 ()
def p_X3_hasChief (a1 : Int32) : am0 Int32 :=
bd (gM) fun _ =>
alp (p_X3_hasChief_L2 a1) amFu 0
def p_X3_wantedAt (a1 : Int32) (a2 : Int32) : am0 Int32 :=
bd (gM) fun _ =>
bd (rI 74 1 ((24 * a1) + a2)) fun v1 =>
bd (rI 76 1 ((24 * a1) + a2)) fun v2 =>
rt (v1 - (v2 / 4))
def p_X3_roomFor_L20 (a2 : Int32) (v1 : Int32) (v2 : Int32) (rec3 : (Int32 × Int32) → am0 (Int32)) (x3 : Int32 × Int32) : am0 (Int32) :=
bd (rI 64 1 a2) fun v5 =>
bd (rI 65 1 a2) fun v6 =>
if (v5 * v6) ≤ x3.2 then (rt x3.1) else
bd (p_X3_floorOf a2 x3.2) fun v8 =>
bd (if v1 < v8 then (rt x3.1) else
bd (p_X3_burns a2 x3.2) fun v11 =>
if v11 = 0 then (rt x3.1) else
jn (fun (z13 : Unit) => rt x3.2) fun (k13 : Unit → am0 ((Int32))) =>
if x3.1 = (-1) then (k13 ()) else
if v2 = 0 then (rt x3.1) else
bd (p_X3_wantedAt a2 x3.2) fun v16 =>
bd (p_X3_wantedAt a2 x3.1) fun v17 =>
if v16 ≤ v17 then (rt x3.1) else
k13 ()) fun (z9 : Int32) =>
rec3 (z9, (x3.2 + 1))
def p_X3_roomFor (a1 : Int32) (a2 : Int32) : am0 Int32 :=
bd (gM) fun _ =>
bd (p_X3_reachOf a1 a2) fun v1 =>
bd (p_X3_hasChief a2) fun v2 =>
bd (alp (p_X3_roomFor_L20 a2 v1 v2) amFu ((-1), 0)) fun (y4 : Int32) =>
rt y4
def p_X3_bears (a1 : Int32) : am0 Int32 :=
bd (gM) fun _ =>
bd (rI 65 1 a1) fun v1 =>
bd (rI 63 1 a1) fun v2 =>
bd (if v2 = 0 then (rt 60) else
bd (rI 63 1 a1) fun v5 =>
if v5 = 1 then (rt 100) else
rt 140) fun (z3 : Int32) =>
rt (v1 * z3)
def p_X3_leaves (a1 : Int32) (a2 : Int32) (a3 : Int32) : am0 Int32 :=
bd (gM) fun _ =>
bd (gI 1 1 73) fun v1 =>
if v1 = (-1) then (rt 0) else
bd (p_X3_floorOf a2 a3) fun v3 =>
bd (wI 112 1 118 v3) fun _ =>
bd (p_X3_loadOf a2 v3) fun v4 =>
bd (p_X3_bears a2) fun v5 =>
bd (nz v5) fun _ =>
bd (wI 112 1 98 ((100 * v4) / v5)) fun _ =>
bd (gI 1 1 1) fun v7 =>
bd (rI 101 1 a1) fun v8 =>
bd (wI 112 1 101 (v7 - v8)) fun _ =>
bd (rI 74 1 ((24 * a2) + a3)) fun v9 =>
bd (wI 112 1 116 v9) fun _ =>
bd (rI 90 1 a1) fun v10 =>
bd (wI 112 1 109 v10) fun _ =>
bd (p_X3_burning a2) fun v11 =>
bd (wI 112 1 103 v11) fun _ =>
bd (gI 1 1 73) fun v12 =>
bd (p_X3_goThrough 1 4 0 v12) fun v13 =>
bd (zg v13) fun _ => rt v13
def p_X3_work_L2  (rec1 : Int32 → am0 (Unit)) (x1 : Int32) : am0 (Unit) :=
bd (gI 1 1 56) fun v3 =>
if v3 ≤ x1 then (rt ()) else
bd (wI 86 1 x1 0) fun _ =>
rec1 (x1 + 1)
def p_X3_work_L25  (rec5 : Int32 → am0 (Unit)) (x5 : Int32) : am0 (Unit) :=
bd (gI 1 1 58) fun v7 =>
if v7 ≤ x5 then (rt ()) else
bd (wI 102 1 x5 0) fun _ =>
bd (wI 103 1 x5 0) fun _ =>
bd (wI 99 1 x5 (-1)) fun _ =>
bd (rI 94 1 x5) fun v9 =>
bd (if v9 = 2 then (bd (rI 98 1 x5) fun v12 =>
bd (rI 87 1 x5) fun v13 =>
bd (if v13 = 2 then (bd (p_X3_save x5 v12) fun _ =>
rt ()) else
rt ()) fun (z14 : Unit) =>
bd (rI 87 1 x5) fun v16 =>
if 2 ≤ v16 then (rt ()) else
bd (rI 87 1 x5) fun v18 =>
jn (fun (z19 : Unit) => bd (p_X3_roomFor x5 v12) fun v25 =>
if v25 = (-1) then (rt ()) else
bd (p_X3_leaves x5 v12 v25) fun v27 =>
bd (wI 104 1 x5 ((24 * v12) + v25)) fun _ =>
bd (p_X3_headFor v12) fun v28 =>
bd (rI 85 1 v28) fun v29 =>
bd (wI 105 1 x5 v29) fun _ =>
bd (if v27 = 0 then (bd (rI 92 1 x5) fun v32 =>
rt v32) else
bd (rI 92 1 x5) fun v33 =>
rt (v33 / 2)) fun (z30 : Int32) =>
bd (wI 102 1 x5 z30) fun _ =>
bd (if v27 = 0 then (bd (p_X3_floorOf v12 v25) fun v36 =>
bd (wI 99 1 x5 v36) fun _ =>
rt ()) else
rt ()) fun (z34 : Unit) =>
bd (rI 104 1 x5) fun v37 =>
bd (rI 76 1 v37) fun v38 =>
bd (rI 102 1 x5) fun v39 =>
bd (wI 76 1 v37 (v38 + v39)) fun _ =>
bd (rI 105 1 x5) fun v40 =>
bd (rI 86 1 v40) fun v41 =>
bd (rI 102 1 x5) fun v42 =>
bd (wI 86 1 v40 (v41 + v42)) fun _ =>
rt ()) fun (k19 : Unit → am0 ((Unit))) =>
if v18 = 1 then (bd (gI 1 1 1) fun v21 =>
bd (rI 101 1 x5) fun v22 =>
bd (rI 93 1 x5) fun v23 =>
if v23 ≤ (v21 - v22) then (k19 ()) else
rt ()) else
k19 ()) else
rt ()) fun (z10 : Unit) =>
rec5 (x5 + 1)
def p_X3_work_L278  (rec43 : Int32 → am0 (Unit)) (x43 : Int32) : am0 (Unit) :=
if 288 ≤ x43 then (rt ()) else
bd (wI 76 1 x43 0) fun _ =>
rec43 (x43 + 1)
def p_X3_work_L300  (rec46 : Int32 → am0 (Unit)) (x46 : Int32) : am0 (Unit) :=
bd (gI 1 1 58) fun v48 =>
if v48 ≤ x46 then (rt ()) else
bd (rI 102 1 x46) fun v50 =>
bd (if v50 = 0 then (rt ()) else
bd (rI 105 1 x46) fun v53 =>
bd (rI 86 1 v53) fun v54 =>
bd (rI 105 1 x46) fun v55 =>
bd (rI 83 1 v55) fun v56 =>
bd (if v56 < v54 then (bd (rI 102 1 x46) fun v60 =>
bd (nz v54) fun _ =>
rt ((v60 * v56) / v54)) else
bd (rI 102 1 x46) fun v59 =>
rt v59) fun (z57 : Int32) =>
bd (wI 103 1 x46 z57) fun _ =>
bd (rI 104 1 x46) fun v62 =>
bd (rI 76 1 v62) fun v63 =>
bd (rI 103 1 x46) fun v64 =>
bd (wI 76 1 v62 (v63 + v64)) fun _ =>
bd (rI 104 1 x46) fun v65 =>
bd (rt (v65 / 24)) fun v66 =>
bd (rI 72 1 v66) fun v67 =>
bd (rI 103 1 x46) fun v68 =>
bd (wI 72 1 v66 (v67 + v68)) fun _ =>
rt ()) fun (z51 : Unit) =>
rec46 (x46 + 1)
def p_X3_work  : am0 Unit :=
bd (gM) fun _ =>
bd (alp (p_X3_work_L2) amFu 0) fun (y2 : Unit) =>
bd (alp (p_X3_work_L25) amFu 0) fun (y6 : Unit) =>
bd (alp (p_X3_work_L278) amFu 0) fun (y44 : Unit) =>
bd (alp (p_X3_work_L300) amFu 0) fun (y47 : Unit) =>
rt ()
def p_X3_beside_L4 (a1 : Int32) (a2 : Int32) (rec2 : Int32 → am0 (Int32)) (x2 : Int32) : am0 (Int32) :=
if x2 < 0 then (rt x2) else
bd (gI 1 1 31) fun v5 =>
if v5 ≤ x2 then (rt x2) else
bd (rI 62 1 x2) fun v7 =>
bd (rI 62 1 a1) fun v8 =>
if v7 = v8 then (rt x2) else
bd (rt (x2 + a2)) fun v10 =>
rec2 v10
def p_X3_beside (a1 : Int32) (a2 : Int32) : am0 Int32 :=
bd (gM) fun _ =>
bd (rt (a1 + a2)) fun v1 =>
bd (alp (p_X3_beside_L4 a1 a2) amFu v1) fun (y3 : Int32) =>
jn (fun (z11 : Unit) => rt (-1)) fun (k11 : Unit → am0 (Int32)) =>
if y3 < 0 then (k11 ()) else
bd (gI 1 1 31) fun v13 =>
if v13 ≤ y3 then (k11 ()) else
rt y3
def p_X3_fromBeside_L23 (a1 : Int32) (a2 : Int32) (a3 : Int32) (rec4 : (Int32 × Int32) → am0 (Int32)) (x4 : Int32 × Int32) : am0 (Int32) :=
bd (rI 65 1 a2) fun v6 =>
if v6 ≤ x4.2 then (rt x4.1) else
bd (rI 65 1 a2) fun v8 =>
bd (p_X3_burns a2 ((a3 * v8) + x4.2)) fun v9 =>
bd (if v9 = 0 then (rt 0) else
bd (rI 67 1 a1) fun v12 =>
bd (rI 67 1 a2) fun v13 =>
bd (rt ((1 + v12) + v13)) fun v14 =>
bd (nz v14) fun _ =>
rt (24 / v14)) fun (z10 : Int32) =>
bd (rt (x4.1 + z10)) fun v16 =>
rec4 (v16, (x4.2 + 1))
def p_X3_fromBeside (a1 : Int32) (a2 : Int32) (a3 : Int32) : am0 Int32 :=
bd (gM) fun _ =>
if a2 = (-1) then (rt 0) else
bd (rI 64 1 a2) fun v2 =>
if a3 < v2 then (bd (alp (p_X3_fromBeside_L23 a1 a2 a3) amFu (0, 0)) fun (y5 : Int32) =>
rt y5) else
rt 0
def p_X3_gain (a1 : Int32) (a2 : Int32) : am0 Int32 :=
bd (gM) fun _ =>
bd (rI 65 1 a1) fun v1 =>
bd (p_X3_floorOf a1 a2) fun v2 =>
bd (nz v1) fun _ =>
bd (rt (a2 - a2 / v1 * v1)) fun v4 =>
bd (p_X3_burns a1 a2) fun v5 =>
bd (if v5 = 0 then (rt (-10)) else
rt 50) fun (z6 : Int32) =>
bd (rI 73 1 a1) fun v8 =>
bd (if v8 = 0 then (rt 10) else
rt 30) fun (z9 : Int32) =>
bd (if v4 ≤ 0 then (rt z6) else
bd (p_X3_burns a1 (a2 - 1)) fun v13 =>
if v13 = 0 then (rt z6) else
bd (rt (z6 + z9)) fun v15 =>
rt v15) fun (z11 : Int32) =>
bd (if (v1 - 1) ≤ v4 then (rt z11) else
bd (p_X3_burns a1 (a2 + 1)) fun v18 =>
if v18 = 0 then (rt z11) else
bd (rt (z11 + z9)) fun v20 =>
rt v20) fun (z16 : Int32) =>
bd (if v2 ≤ 0 then (rt z16) else
bd (p_X3_burns a1 (a2 - v1)) fun v23 =>
if v23 = 0 then (rt z16) else
bd (rI 66 1 a1) fun v25 =>
bd (if v4 = v25 then (rt 60) else
rt 20) fun (z26 : Int32) =>
bd (rt (z16 + z26)) fun v28 =>
rt v28) fun (z21 : Int32) =>
bd (rI 64 1 a1) fun v29 =>
bd (if (v29 - 1) ≤ v2 then (rt z21) else
bd (p_X3_burns a1 (a2 + v1)) fun v32 =>
if v32 = 0 then (rt z21) else
rt (z21 + 5)) fun (z30 : Int32) =>
bd (p_X3_beside a1 (-1)) fun v34 =>
bd (p_X3_fromBeside a1 v34 v2) fun v35 =>
bd (p_X3_beside a1 1) fun v36 =>
bd (p_X3_fromBeside a1 v36 v2) fun v37 =>
bd (rt (z30 + (v35 + v37))) fun v38 =>
bd (rI 76 1 ((24 * a1) + a2)) fun v39 =>
rt (v38 - (v39 / 4))
def p_X3_falls_L15 (a1 : Int32) (a2 : Int32) (rec1 : Int32 → am0 (Unit)) (x1 : Int32) : am0 (Unit) :=
bd (rI 65 1 a1) fun v3 =>
if v3 ≤ x1 then (rt ()) else
bd (rI 65 1 a1) fun v5 =>
bd (rt (((24 * a1) + (a2 * v5)) + x1)) fun v6 =>
bd (rI 65 1 a1) fun v7 =>
bd (rt (v6 - v7)) fun v8 =>
bd (rI 75 1 v8) fun v9 =>
bd (rI 75 1 v6) fun v10 =>
bd (rt (if (v9 + v10) < 2000 then (v9 + v10) else 2000)) fun v11 =>
bd (wI 75 1 v8 v11) fun _ =>
bd (rI 82 1 (((6 * a1) + a2) - 1)) fun v12 =>
bd (if v12 = 0 then (bd (rI 74 1 v8) fun v15 =>
bd (rI 74 1 v6) fun v16 =>
bd (rt (if v15 < v16 then v16 else v15)) fun v17 =>
bd (wI 74 1 v8 v17) fun _ =>
rt ()) else
rt ()) fun (z13 : Unit) =>
bd (wI 74 1 v6 0) fun _ =>
bd (wI 75 1 v6 0) fun _ =>
rec1 (x1 + 1)
def p_X3_falls_L185 (a1 : Int32) (a2 : Int32) (rec21 : Int32 → am0 (Unit)) (x21 : Int32) : am0 (Unit) :=
bd (gI 1 1 58) fun v23 =>
if v23 ≤ x21 then (rt ()) else
bd (rI 94 1 x21) fun v25 =>
bd (if v25 = 2 then (bd (rI 98 1 x21) fun v28 =>
if v28 = a1 then (bd (rI 99 1 x21) fun v30 =>
if v30 = a2 then (bd (wI 94 1 x21 4) fun _ =>
bd (rI 88 1 x21) fun v32 =>
bd (wI 95 1 x21 v32) fun _ =>
bd (wI 96 1 x21 (-1)) fun _ =>
bd (wI 98 1 x21 (-1)) fun _ =>
bd (wI 99 1 x21 (-1)) fun _ =>
rt ()) else
rt ()) else
rt ()) else
rt ()) fun (z26 : Unit) =>
rec21 (x21 + 1)
def p_X3_falls (a1 : Int32) (a2 : Int32) (a3 : Int32) : am0 Unit :=
bd (gM) fun _ =>
bd (wI 82 1 ((6 * a1) + a2) 1) fun _ =>
bd (alp (p_X3_falls_L15 a1 a2) amFu 0) fun (y2 : Unit) =>
if a3 = 0 then (rt ()) else
bd (rI 71 1 a1) fun v19 =>
bd (rI 80 1 ((6 * a1) + a2)) fun v20 =>
bd (wI 71 1 a1 (v19 + v20)) fun _ =>
bd (wI 80 1 ((6 * a1) + a2) 0) fun _ =>
bd (alp (p_X3_falls_L185 a1 a2) amFu 0) fun (y22 : Unit) =>
rt ()
def p_X3_burn_L12 (x1 : Int32) (rec5 : Int32 → am0 (Unit)) (x5 : Int32) : am0 (Unit) :=
bd (rI 64 1 x1) fun v7 =>
bd (rI 65 1 x1) fun v8 =>
if (v7 * v8) ≤ x5 then (rt ()) else
bd (rt ((24 * x1) + x5)) fun v10 =>
bd (p_X3_floorOf x1 x5) fun v11 =>
bd (rI 82 1 ((6 * x1) + v11)) fun v12 =>
bd (if v12 = 0 then (bd (rI 74 1 v10) fun v15 =>
bd (p_X3_gain x1 x5) fun v16 =>
bd (rt (if (v15 + v16) < 1000 then (v15 + v16) else 1000)) fun v17 =>
bd (rt (if 0 < v17 then v17 else 0)) fun v18 =>
rt v18) else
rt 0) fun (z13 : Int32) =>
bd (wI 77 1 v10 z13) fun _ =>
bd (p_X3_burns x1 x5) fun v19 =>
bd (if v19 = 0 then (rt 0) else
bd (rI 75 1 v10) fun v22 =>
bd (rI 74 1 v10) fun v23 =>
bd (rt (if (1 + (v23 / 250)) < v22 then (1 + (v23 / 250)) else v22)) fun v24 =>
rt v24) fun (z20 : Int32) =>
bd (wI 78 1 v10 z20) fun _ =>
rec5 (x5 + 1)
def p_X3_burn_L2  (rec1 : Int32 → am0 (Unit)) (x1 : Int32) : am0 (Unit) :=
bd (gI 1 1 31) fun v3 =>
if v3 ≤ x1 then (rt ()) else
bd (alp (p_X3_burn_L12 x1) amFu 0) fun (y6 : Unit) =>
rec1 (x1 + 1)
def p_X3_burn_L158 (x25 : Int32) (rec29 : Int32 → am0 (Unit)) (x29 : Int32) : am0 (Unit) :=
bd (rI 64 1 x25) fun v31 =>
bd (rI 65 1 x25) fun v32 =>
if (v31 * v32) ≤ x29 then (rt ()) else
bd (rt ((24 * x25) + x29)) fun v34 =>
bd (rI 77 1 v34) fun v35 =>
bd (wI 74 1 v34 v35) fun _ =>
bd (rI 75 1 v34) fun v36 =>
bd (rI 78 1 v34) fun v37 =>
bd (wI 75 1 v34 (v36 - v37)) fun _ =>
bd (p_X3_floorOf x25 x29) fun v38 =>
bd (rt ((6 * x25) + v38)) fun v39 =>
bd (rI 79 1 v39) fun v40 =>
bd (rI 78 1 v34) fun v41 =>
bd (wI 79 1 v39 (v40 + v41)) fun _ =>
rec29 (x29 + 1)
def p_X3_burn_L148  (rec25 : Int32 → am0 (Unit)) (x25 : Int32) : am0 (Unit) :=
bd (gI 1 1 31) fun v27 =>
if v27 ≤ x25 then (rt ()) else
bd (alp (p_X3_burn_L158 x25) amFu 0) fun (y30 : Unit) =>
rec25 (x25 + 1)
def p_X3_burn_L271 (a1 : Int32) (x42 : Int32) (rec48 : Int32 → am0 (Unit)) (x48 : Int32) : am0 (Unit) :=
if x48 ≤ 0 then (rt ()) else
bd (rI 82 1 ((6 * x42) + x48)) fun v51 =>
bd (if v51 = 0 then (bd (p_X3_loadOf x42 x48) fun v54 =>
bd (p_X3_bears x42) fun v55 =>
if v54 < v55 then (rt ()) else
bd (p_X3_falls x42 x48 a1) fun _ =>
rt ()) else
rt ()) fun (z52 : Unit) =>
rec48 (x48 + (-1))
def p_X3_burn_L254 (a1 : Int32) (rec42 : Int32 → am0 (Unit)) (x42 : Int32) : am0 (Unit) :=
bd (gI 1 1 31) fun v44 =>
if v44 ≤ x42 then (rt ()) else
bd (rI 64 1 x42) fun v46 =>
bd (rt (v46 - 1)) fun v47 =>
bd (alp (p_X3_burn_L271 a1 x42) amFu v47) fun (y49 : Unit) =>
rec42 (x42 + 1)
def p_X3_burn_L338 (x57 : Int32) (rec62 : Int32 → am0 (Unit)) (x62 : Int32) : am0 (Unit) :=
bd (rI 64 1 x57) fun v64 =>
bd (rI 65 1 x57) fun v65 =>
if (v64 * v65) ≤ x62 then (rt ()) else
bd (p_X3_floorOf x57 x62) fun v67 =>
bd (rt ((6 * x57) + v67)) fun v68 =>
bd (p_X3_burns x57 x62) fun v69 =>
bd (if v69 = 0 then (rt ()) else
bd (rI 74 1 ((24 * x57) + x62)) fun v72 =>
if v72 < 600 then (rt ()) else
bd (rI 80 1 v68) fun v74 =>
if v74 = 0 then (rt ()) else
bd (rI 80 1 v68) fun v76 =>
bd (wI 80 1 v68 (v76 - 1)) fun _ =>
bd (rI 71 1 x57) fun v77 =>
bd (wI 71 1 x57 (v77 + 1)) fun _ =>
rt ()) fun (z70 : Unit) =>
rec62 (x62 + 1)
def p_X3_burn_L324 (a1 : Int32) (rec57 : Int32 → am0 (Unit)) (x57 : Int32) : am0 (Unit) :=
bd (gI 1 1 31) fun v59 =>
if v59 ≤ x57 then (rt ()) else
if a1 = 0 then (rt ()) else
bd (alp (p_X3_burn_L338 x57) amFu 0) fun (y63 : Unit) =>
rec57 (x57 + 1)
def p_X3_burn (a1 : Int32) : am0 Unit :=
bd (gM) fun _ =>
bd (alp (p_X3_burn_L2) amFu 0) fun (y2 : Unit) =>
bd (alp (p_X3_burn_L148) amFu 0) fun (y26 : Unit) =>
bd (alp (p_X3_burn_L254 a1) amFu 0) fun (y43 : Unit) =>
bd (alp (p_X3_burn_L324 a1) amFu 0) fun (y58 : Unit) =>
rt ()
def p_X3_minute_L12  (rec2 : Int32 → am0 (Unit)) (x2 : Int32) : am0 (Unit) :=
bd (gI 1 1 58) fun v4 =>
if v4 ≤ x2 then (rt ()) else
bd (rI 94 1 x2) fun v6 =>
bd (jn (fun (z8 : Unit) => bd (rI 96 1 x2) fun v12 =>
bd (gI 1 1 1) fun v13 =>
if v13 < v12 then (rt ()) else
bd (p_X3_arrives x2) fun _ =>
rt ()) fun (k8 : Unit → am0 ((Unit))) =>
if v6 = 1 then (k8 ()) else
bd (rI 94 1 x2) fun v10 =>
if v10 = 3 then (k8 ()) else
rt ()) fun (z7 : Unit) =>
rec2 (x2 + 1)
def p_X3_minute_L66  (rec15 : Int32 → am0 (Unit)) (x15 : Int32) : am0 (Unit) :=
bd (gI 1 1 58) fun v17 =>
if v17 ≤ x15 then (rt ()) else
bd (rI 94 1 x15) fun v19 =>
bd (if v19 = 2 then (bd (rI 98 1 x15) fun v22 =>
bd (p_X3_burning v22) fun v23 =>
if v23 ≤ 0 then (bd (rI 98 1 x15) fun v25 =>
bd (rI 62 1 v25) fun v26 =>
bd (p_X3_worstAt v26) fun v27 =>
if v27 = (-1) then (rt ()) else
bd (wI 98 1 x15 v27) fun _ =>
rt ()) else
rt ()) else
rt ()) fun (z20 : Unit) =>
rec15 (x15 + 1)
def p_X3_minute_L145  (rec29 : Int32 → am0 (Unit)) (x29 : Int32) : am0 (Unit) :=
if 288 ≤ x29 then (rt ()) else
bd (wI 76 1 x29 0) fun _ =>
rec29 (x29 + 1)
def p_X3_minute_L204 (x32 : Int32) (rec42 : (Int32 × Int32) → am0 (Int32)) (x42 : Int32 × Int32) : am0 (Int32) :=
bd (gI 1 1 58) fun v44 =>
if v44 ≤ x42.2 then (rt x42.1) else
bd (jn (fun (z47 : Unit) => rt 1) fun (k47 : Unit → am0 ((Int32))) =>
if x42.1 = 0 then (bd (rI 94 1 x42.2) fun v49 =>
jn (fun (z50 : Unit) => rt 0) fun (k50 : Unit → am0 ((Int32))) =>
if v49 = 2 then (bd (rI 95 1 x42.2) fun v52 =>
bd (rI 115 1 x32) fun v53 =>
if v52 = v53 then (k47 ()) else
k50 ()) else
k50 ()) else
k47 ()) fun (z46 : Int32) =>
rec42 (z46, (x42.2 + 1))
def p_X3_minute_L167  (rec32 : Int32 → am0 (Unit)) (x32 : Int32) : am0 (Unit) :=
bd (gI 1 1 92) fun v34 =>
if v34 ≤ x32 then (rt ()) else
bd (rI 117 1 x32) fun v36 =>
bd (if v36 = 0 then (bd (rI 115 1 x32) fun v39 =>
bd (p_X3_burnsAt v39) fun v40 =>
if v40 = 0 then (bd (alp (p_X3_minute_L204 x32) amFu (0, 0)) fun (y43 : Int32) =>
if y43 = 0 then (rt ()) else
bd (p_X3_close x32 0) fun _ =>
rt ()) else
rt ()) else
rt ()) fun (z37 : Unit) =>
rec32 (x32 + 1)
def p_X3_minute_L271  (rec56 : Int32 → am0 (Unit)) (x56 : Int32) : am0 (Unit) :=
bd (gI 1 1 58) fun v58 =>
if v58 ≤ x56 then (rt ()) else
bd (rI 94 1 x56) fun v60 =>
bd (if v60 = 2 then (bd (rI 95 1 x56) fun v63 =>
bd (p_X3_burnsAt v63) fun v64 =>
if v64 = 0 then (bd (rI 95 1 x56) fun v66 =>
bd (p_X3_turns x56 v66) fun _ =>
rt ()) else
rt ()) else
rt ()) fun (z61 : Unit) =>
rec56 (x56 + 1)
def p_X3_minute_L321  (rec67 : Int32 → am0 (Unit)) (x67 : Int32) : am0 (Unit) :=
bd (gI 1 1 58) fun v69 =>
if v69 ≤ x67 then (rt ()) else
bd (rI 94 1 x67) fun v71 =>
bd (if v71 = 0 then (rt (-1)) else
bd (rI 94 1 x67) fun v74 =>
if v74 = 2 then (rt 2) else
rt 1) fun (z72 : Int32) =>
bd (rI 94 1 x67) fun v76 =>
bd (if v76 = 4 then (rt 0) else
bd (rI 100 1 x67) fun v79 =>
bd (rt (if (v79 + z72) < 300 then (v79 + z72) else 300)) fun v80 =>
bd (rt (if 0 < v80 then v80 else 0)) fun v81 =>
rt v81) fun (z77 : Int32) =>
bd (wI 100 1 x67 z77) fun _ =>
rec67 (x67 + 1)
def p_X3_minute_L404  (rec82 : Int32 → am0 (Unit)) (x82 : Int32) : am0 (Unit) :=
bd (gI 1 1 92) fun v84 =>
if v84 ≤ x82 then (rt ()) else
bd (rI 117 1 x82) fun v86 =>
bd (if v86 = 0 then (bd (rI 115 1 x82) fun v89 =>
bd (p_X3_burnsAt v89) fun v90 =>
if v90 = 0 then (rt ()) else
bd (wI 123 1 x82 1) fun _ =>
rt ()) else
rt ()) fun (z87 : Unit) =>
rec82 (x82 + 1)
def p_X3_minute  : am0 Unit :=
bd (gM) fun _ =>
bd (gI 1 1 1) fun v1 =>
bd (pI 1 1 1 (v1 + 1)) fun _ =>
bd (alp (p_X3_minute_L12) amFu 0) fun (y3 : Unit) =>
bd (alp (p_X3_minute_L66) amFu 0) fun (y16 : Unit) =>
bd (p_X3_work) fun _ =>
bd (p_X3_burn 1) fun _ =>
bd (alp (p_X3_minute_L145) amFu 0) fun (y30 : Unit) =>
bd (alp (p_X3_minute_L167) amFu 0) fun (y33 : Unit) =>
bd (alp (p_X3_minute_L271) amFu 0) fun (y57 : Unit) =>
bd (alp (p_X3_minute_L321) amFu 0) fun (y68 : Unit) =>
bd (alp (p_X3_minute_L404) amFu 0) fun (y83 : Unit) =>
rt ()
def p_X3_tick_L32 (a1 : Int32) (rec5 : Int32 → am0 (Unit)) (x5 : Int32) : am0 (Unit) :=
if a1 ≤ x5 then (rt ()) else
bd (p_X3_minute) fun _ =>
rec5 (x5 + 1)
def p_X3_tick (a1 : Int32) : am0 Int32 :=
bd (pI 1 1 0 0) fun _ =>
bd (p_X3_isIn a1 0 300) fun v1 =>
if v1 = 0 then (rt (-1)) else
bd (gI 1 1 1) fun v3 =>
if (v3 + a1) ≤ 20000 then (bd (alp (p_X3_tick_L32 a1) amFu 0) fun (y6 : Unit) =>
bd (gI 1 1 1) fun v8 =>
rt v8) else
rt (-1)
def p_X3_actFor_L5 (a1 : Int32) (a2 : Int32) (rec1 : (Int32 × Int32) → am0 (Int32)) (x1 : Int32 × Int32) : am0 (Int32) :=
bd (gI 1 1 72) fun v3 =>
if v3 ≤ x1.2 then (rt x1.1) else
bd (rI 111 1 x1.2) fun v5 =>
bd (if a2 < v5 then (rt x1.1) else
bd (rI 110 1 x1.2) fun v8 =>
bd (rI 68 1 a1) fun v9 =>
if v9 < v8 then (rt x1.1) else
jn (fun (z11 : Unit) => rt x1.2) fun (k11 : Unit → am0 ((Int32))) =>
if x1.1 = (-1) then (k11 ()) else
bd (rI 110 1 x1.2) fun v13 =>
bd (rI 110 1 x1.1) fun v14 =>
if v13 < v14 then (rt x1.1) else
k11 ()) fun (z6 : Int32) =>
rec1 (z6, (x1.2 + 1))
def p_X3_actFor (a1 : Int32) (a2 : Int32) : am0 Int32 :=
bd (gM) fun _ =>
bd (alp (p_X3_actFor_L5 a1 a2) amFu ((-1), 0)) fun (y2 : Int32) =>
rt y2
def p_X3_force (a1 : Int32) (a2 : Int32) : am0 Int32 :=
bd (pI 1 1 0 0) fun _ =>
bd (p_X3_isHouse a1) fun v1 =>
jn (fun (z2 : Unit) => rt (-1)) fun (k2 : Unit → am0 (Int32)) =>
if v1 = 0 then (k2 ()) else
bd (gI 1 1 1) fun v4 =>
bd (p_X3_isIn a2 0 v4) fun v5 =>
if v5 = 0 then (k2 ()) else
bd (p_X3_actFor a1 a2) fun v7 =>
rt v7
def p_X3_use_L27 (a1 : Int32) (a2 : Int32) (rec5 : Int32 → am0 Int32) (x5 : Int32) : am0 Int32 :=
bd (gI 1 1 99) fun v6 =>
if v6 ≤ x5 then (bd (wI 69 1 a1 a2) fun _ =>
rt 1) else
bd (rI 125 1 x5) fun v8 =>
jn (fun (z9 : Unit) => rec5 (x5 + 1)) fun (k9 : Unit → am0 (Int32)) =>
if v8 = a1 then (bd (rI 126 1 x5) fun v11 =>
if v11 = (-1) then (k9 ()) else
rt 0) else
k9 ()
def p_X3_use (a1 : Int32) (a2 : Int32) : am0 Int32 :=
bd (gM) fun _ =>
bd (pI 1 1 0 0) fun _ =>
bd (p_X3_isHouse a1) fun v1 =>
if v1 = 0 then (rt 0) else
bd (p_X3_isIn a2 0 9) fun v3 =>
if v3 = 0 then (rt 0) else
alp (p_X3_use_L27 a1 a2) amFu 0
def p_X3_tell (a1 : Int32) (a2 : Int32) (a3 : Int32) : am0 Int32 :=
bd (gM) fun _ =>
bd (p_X3_isHouse a1) fun v1 =>
if v1 = 0 then (rt 0) else
bd (gI 1 1 99) fun v3 =>
if v3 = 100 then (rt 0) else
bd (gI 1 1 99) fun v5 =>
bd (wI 125 1 v5 a1) fun _ =>
bd (gI 1 1 99) fun v6 =>
bd (wI 126 1 v6 a2) fun _ =>
bd (gI 1 1 99) fun v7 =>
bd (wI 127 1 v7 a3) fun _ =>
bd (gI 1 1 99) fun v8 =>
bd (gI 1 1 1) fun v9 =>
bd (wI 128 1 v8 v9) fun _ =>
bd (gI 1 1 99) fun v10 =>
bd (pI 1 1 99 (v10 + 1)) fun _ =>
rt 1
def p_X3_change (a1 : Int32) (a2 : Int32) (a3 : Int32) : am0 Int32 :=
bd (pI 1 1 0 0) fun _ =>
bd (p_X3_isIn a2 0 9) fun v1 =>
jn (fun (z2 : Unit) => rt 0) fun (k2 : Unit → am0 (Int32)) =>
if v1 = 0 then (k2 ()) else
bd (gI 1 1 1) fun v4 =>
bd (p_X3_isIn a3 0 v4) fun v5 =>
if v5 = 0 then (k2 ()) else
bd (p_X3_tell a1 a2 a3) fun v7 =>
if v7 = 0 then (k2 ()) else
rt 1
def p_X3_look_2 (a1 : Int32) : am0 Int32 :=
bd (pI 1 1 0 0) fun _ =>
bd (gI 1 1 1) fun v1 =>
bd (p_X3_tell a1 (-1) v1) fun v2 =>
bd (zg v2) fun _ => rt v2
def p_X3_useOf_L5 (a1 : Int32) (a2 : Int32) (rec1 : (Int32 × Int32) → am0 (Int32)) (x1 : Int32 × Int32) : am0 (Int32) :=
bd (gI 1 1 99) fun v3 =>
if v3 ≤ x1.2 then (rt x1.1) else
bd (rI 125 1 x1.2) fun v5 =>
bd (if v5 = a1 then (bd (rI 126 1 x1.2) fun v8 =>
if v8 = (-1) then (rt x1.1) else
bd (rI 128 1 x1.2) fun v10 =>
if a2 < v10 then (rt x1.1) else
bd (rI 127 1 x1.2) fun v12 =>
if a2 < v12 then (rt x1.1) else
jn (fun (z14 : Unit) => rt x1.2) fun (k14 : Unit → am0 ((Int32))) =>
if x1.1 = (-1) then (k14 ()) else
bd (rI 127 1 x1.2) fun v16 =>
bd (rI 127 1 x1.1) fun v17 =>
if v16 < v17 then (rt x1.1) else
k14 ()) else
rt x1.1) fun (z6 : Int32) =>
rec1 (z6, (x1.2 + 1))
def p_X3_useOf (a1 : Int32) (a2 : Int32) : am0 Int32 :=
bd (gM) fun _ =>
bd (alp (p_X3_useOf_L5 a1 a2) amFu ((-1), 0)) fun (y2 : Int32) =>
if y2 = (-1) then (bd (rI 69 1 a1) fun v21 =>
rt v21) else
bd (rI 126 1 y2) fun v20 =>
rt v20
def p_X3_used (a1 : Int32) (a2 : Int32) : am0 Int32 :=
bd (pI 1 1 0 0) fun _ =>
bd (p_X3_isHouse a1) fun v1 =>
jn (fun (z2 : Unit) => rt (-1)) fun (k2 : Unit → am0 (Int32)) =>
if v1 = 0 then (k2 ()) else
bd (gI 1 1 1) fun v4 =>
bd (p_X3_isIn a2 0 v4) fun v5 =>
if v5 = 0 then (k2 ()) else
bd (p_X3_useOf a1 a2) fun v7 =>
rt v7
def p_X3_daysFrom_L5 (a1 : Int32) (a2 : Int32) (rec1 : (Int32 × Int32) → am0 (Int32)) (x1 : Int32 × Int32) : am0 (Int32) :=
bd (gI 1 1 99) fun v3 =>
if v3 ≤ x1.2 then (rt x1.1) else
bd (rI 125 1 x1.2) fun v5 =>
bd (if v5 = a1 then (bd (rI 126 1 x1.2) fun v8 =>
if v8 = (-1) then (bd (rI 128 1 x1.2) fun v10 =>
if a2 < v10 then (rt x1.1) else
bd (rI 128 1 x1.2) fun v12 =>
rt v12) else
rt x1.1) else
rt x1.1) fun (z6 : Int32) =>
rec1 (z6, (x1.2 + 1))
def p_X3_daysFrom (a1 : Int32) (a2 : Int32) : am0 Int32 :=
bd (gM) fun _ =>
bd (alp (p_X3_daysFrom_L5 a1 a2) amFu ((-1), 0)) fun (y2 : Int32) =>
if y2 = (-1) then (rt 999) else
rt ((a2 - y2) / 1440)
def p_X3_failsBy_L25 (a1 : Int32) (rec3 : (Int32 × Int32) → am0 (Int32)) (x3 : Int32 × Int32) : am0 (Int32) :=
bd (rI 64 1 a1) fun v5 =>
if v5 ≤ x3.2 then (rt x3.1) else
bd (rI 81 1 ((6 * a1) + x3.2)) fun v7 =>
bd (rt (if x3.1 < v7 then v7 else x3.1)) fun v8 =>
rec3 (v8, (x3.2 + 1))
def p_X3_failsBy (a1 : Int32) (a2 : Int32) : am0 Int32 :=
bd (gM) fun _ =>
bd (p_X3_actFor a1 a2) fun v1 =>
bd (pI 1 1 74 0) fun _ =>
if v1 = (-1) then (rt 0) else
bd (alp (p_X3_failsBy_L25 a1) amFu (0, 0)) fun (y4 : Int32) =>
bd (rI 64 1 a1) fun v9 =>
bd (wI 112 1 115 v9) fun _ =>
bd (rI 65 1 a1) fun v10 =>
bd (wI 112 1 114 v10) fun _ =>
bd (p_X3_useOf a1 a2) fun v11 =>
bd (wI 112 1 117 v11) fun _ =>
bd (rI 63 1 a1) fun v12 =>
bd (wI 112 1 107 v12) fun _ =>
bd (wI 112 1 103 y4) fun _ =>
bd (rI 66 1 a1) fun v13 =>
bd (if v13 = (-1) then (rt 0) else
rt 1) fun (z14 : Int32) =>
bd (wI 112 1 120 z14) fun _ =>
bd (rI 67 1 a1) fun v16 =>
bd (wI 112 1 119 v16) fun _ =>
bd (rI 68 1 a1) fun v17 =>
bd (wI 112 1 121 v17) fun _ =>
bd (rI 73 1 a1) fun v18 =>
bd (if v18 = 0 then (rt 0) else
rt 1) fun (z19 : Int32) =>
bd (wI 112 1 100 z19) fun _ =>
bd (p_X3_beside a1 (-1)) fun v21 =>
bd (if v21 = (-1) then (rt 0) else
rt 1) fun (z22 : Int32) =>
bd (p_X3_beside a1 1) fun v24 =>
bd (if v24 = (-1) then (rt 0) else
rt 1) fun (z25 : Int32) =>
bd (wI 112 1 110 (z22 + z25)) fun _ =>
bd (p_X3_daysFrom a1 a2) fun v27 =>
bd (wI 112 1 108 v27) fun _ =>
bd (rI 109 1 v1) fun v28 =>
bd (p_X3_goThrough 2 3 (200 * v1) v28) fun v29 =>
bd (gI 1 1 74) fun v30 =>
rt v30
def p_X3_fails (a1 : Int32) (a2 : Int32) : am0 Int32 :=
bd (pI 1 1 0 0) fun _ =>
bd (p_X3_isHouse a1) fun v1 =>
jn (fun (z2 : Unit) => rt (-1)) fun (k2 : Unit → am0 (Int32)) =>
if v1 = 0 then (k2 ()) else
bd (gI 1 1 1) fun v4 =>
bd (p_X3_isIn a2 0 v4) fun v5 =>
if v5 = 0 then (k2 ()) else
bd (p_X3_failsBy a1 a2) fun v7 =>
rt v7
def p_X3_code (a1 : Int32) (a2 : Int32) (a3 : Int32) : am0 Int32 :=
bd (gM) fun _ =>
bd (pI 1 1 0 0) fun _ =>
bd (p_X3_isHouse a1) fun v1 =>
if v1 = 0 then (rt (-1)) else
bd (gI 1 1 1) fun v3 =>
bd (p_X3_isIn a2 0 v3) fun v4 =>
if v4 = 0 then (rt (-1)) else
bd (p_X3_failsBy a1 a2) fun v6 =>
bd (p_X3_isIn a3 0 (v6 - 1)) fun v7 =>
if v7 = 0 then (rt (-1)) else
bd (rI 114 1 a3) fun v9 =>
rt v9
def p_X3_failing_L9  (rec1 : (Int32 × Int32) → am0 (Int32)) (x1 : Int32 × Int32) : am0 (Int32) :=
bd (gI 1 1 31) fun v3 =>
if v3 ≤ x1.2 then (rt x1.1) else
bd (gI 1 1 1) fun v5 =>
bd (p_X3_failsBy x1.2 v5) fun v6 =>
bd (if v6 ≤ 0 then (rt 0) else
rt ((1 : Int32) <<< (x1.2 &&& 31))) fun (z7 : Int32) =>
bd (rt (x1.1 ||| z7)) fun v9 =>
rec1 (v9, (x1.2 + 1))
def p_X3_failing  : am0 Int32 :=
bd (pI 1 1 0 0) fun _ =>
bd (alp (p_X3_failing_L9) amFu (0, 0)) fun (y2 : Int32) =>
rt y2
def p_X3_tours_L77 (a1 : Int32) (rec16 : Int32 → am0 (Unit)) (x16 : Int32) : am0 (Unit) :=
if a1 ≤ x16 then (rt ()) else
bd (rI 130 1 x16) fun v19 =>
bd (wI 131 1 x16 v19) fun _ =>
rec16 (x16 + 1)
def p_X3_tours_L106 (s_X3_tours : Int32 → Int32 → Int32 → Int32 → am0 Unit) (a1 : Int32) (a2 : Int32) (a3 : Int32) (a4 : Int32) (rec20 : Int32 → am0 (Unit)) (x20 : Int32) : am0 (Unit) :=
bd (gI 1 1 31) fun v22 =>
if v22 ≤ x20 then (rt ()) else
bd (rI 132 1 x20) fun v24 =>
bd (if v24 = 0 then (rt ()) else
bd (rI 62 1 x20) fun v27 =>
bd (p_X3_walkOf a2 v27) fun v28 =>
bd (rt ((a3 + v28) + 10)) fun v29 =>
bd (gI 1 1 105) fun v30 =>
if v29 ≤ v30 then (bd (wI 132 1 x20 0) fun _ =>
bd (wI 130 1 a1 x20) fun _ =>
bd (rI 62 1 x20) fun v32 =>
bd (rI 129 1 x20) fun v33 =>
bd (s_X3_tours (a1 + 1) v32 v29 (a4 + v33)) fun _ =>
bd (wI 132 1 x20 1) fun _ =>
rt ()) else
rt ()) fun (z25 : Unit) =>
rec20 (x20 + 1)
def b_X3_tours (s_X3_tours : Int32 → Int32 → Int32 → Int32 → am0 Unit) (a1 : Int32) (a2 : Int32) (a3 : Int32) (a4 : Int32) : am0 Unit :=
bd (gM) fun _ =>
bd (gI 1 1 104) fun v1 =>
bd (p_X3_walkOf a2 v1) fun v2 =>
bd (rt (a3 + v2)) fun v3 =>
bd (gI 1 1 105) fun v4 =>
bd (if v4 < v3 then (rt ()) else
bd (gI 1 1 108) fun v7 =>
jn (fun (z8 : Unit) => bd (pI 1 1 108 a1) fun _ =>
bd (pI 1 1 106 a4) fun _ =>
bd (pI 1 1 107 v3) fun _ =>
bd (alp (p_X3_tours_L77 a1) amFu 0) fun (y17 : Unit) =>
rt ()) fun (k8 : Unit → am0 ((Unit))) =>
if v7 = (-1) then (k8 ()) else
bd (gI 1 1 106) fun v10 =>
if v10 < a4 then (k8 ()) else
bd (gI 1 1 106) fun v12 =>
if a4 = v12 then (bd (gI 1 1 107) fun v14 =>
if v14 ≤ v3 then (rt ()) else
k8 ()) else
rt ()) fun (z5 : Unit) =>
bd (alp (p_X3_tours_L106 s_X3_tours a1 a2 a3 a4) amFu 0) fun (y21 : Unit) =>
rt ()
def gr_X3_tours : Nat → (Int32 → Int32 → Int32 → Int32 → am0 Unit)
  | 0 => (fun _ _ _ _ => fl0)
  | d + 1 => (b_X3_tours (gr_X3_tours d))
def p_X3_tours (d : Nat) : Int32 → Int32 → Int32 → Int32 → am0 Unit := (gr_X3_tours d)
def p_X3_findTour_L30 (a1 : Int32) (rec5 : (Int32 × Int32) → am0 (Unit)) (x5 : Int32 × Int32) : am0 (Unit) :=
bd (gI 1 1 31) fun v7 =>
if v7 ≤ x5.2 then (rt ()) else
bd (jn (fun (z10 : Unit) => rt 0) fun (k10 : Unit → am0 ((Int32))) =>
if 8 ≤ x5.1 then (k10 ()) else
bd (rI 62 1 x5.2) fun v12 =>
bd (p_X3_walkOf a1 v12) fun v13 =>
if 1000000 ≤ v13 then (k10 ()) else
rt 1) fun (z9 : Int32) =>
bd (zg z9) fun _ =>
bd (wI 132 1 x5.2 z9) fun _ =>
bd (rI 132 1 x5.2) fun v16 =>
bd (if v16 = 0 then (rt 0) else
rt 1) fun (z17 : Int32) =>
bd (rt (x5.1 + z17)) fun v19 =>
bd (rI 132 1 x5.2) fun v20 =>
bd (if v20 = 0 then (rt 0) else
bd (gI 1 1 1) fun v23 =>
bd (p_X3_failsBy x5.2 v23) fun v24 =>
bd (gI 1 1 1) fun v25 =>
bd (p_X3_daysFrom x5.2 v25) fun v26 =>
bd (rt (if v26 < 30 then v26 else 30)) fun v27 =>
rt ((10 * v24) + v27)) fun (z21 : Int32) =>
bd (wI 129 1 x5.2 z21) fun _ =>
rec5 (v19, (x5.2 + 1))
def p_X3_findTour (a1 : Int32) (a2 : Int32) : am0 Int32 :=
bd (gM) fun _ =>
bd (pI 1 1 0 0) fun _ =>
bd (p_X3_isCorner a1) fun v1 =>
if v1 = 0 then (rt 0) else
bd (p_X3_isIn a2 0 500) fun v3 =>
if v3 = 0 then (rt 0) else
bd (alp (p_X3_findTour_L30 a1) amFu (0, 0)) fun (y6 : Unit) =>
bd (pI 1 1 104 a1) fun _ =>
bd (pI 1 1 105 a2) fun _ =>
bd (pI 1 1 108 (-1)) fun _ =>
bd (p_X3_tours 16 0 a1 0 0) fun _ =>
rt 1
def p_X3_round (a1 : Int32) (a2 : Int32) (a3 : Int32) : am0 Int32 :=
bd (p_X3_findTour a1 a2) fun v1 =>
if v1 = 0 then (rt (-1)) else
bd (p_X3_isIn a3 0 2) fun v3 =>
if v3 = 0 then (rt (-1)) else
if a3 = 0 then (bd (gI 1 1 106) fun v6 =>
rt v6) else
if a3 = 1 then (bd (gI 1 1 107) fun v9 =>
rt v9) else
bd (gI 1 1 108) fun v8 =>
rt v8
def p_X3_rounded (a1 : Int32) (a2 : Int32) (a3 : Int32) : am0 Int32 :=
bd (gM) fun _ =>
bd (p_X3_findTour a1 a2) fun v1 =>
jn (fun (z2 : Unit) => rt (-1)) fun (k2 : Unit → am0 (Int32)) =>
if v1 = 0 then (k2 ()) else
bd (gI 1 1 108) fun v4 =>
bd (p_X3_isIn a3 0 (v4 - 1)) fun v5 =>
if v5 = 0 then (k2 ()) else
bd (rI 131 1 a3) fun v7 =>
rt v7
def p_X3_pointsOf_L6 (a1 : Int32) (a2 : Int32) (a3 : Int32) (rec1 : (Int32 × Int32) → am0 (Int32)) (x1 : Int32 × Int32) : am0 (Int32) :=
if 20 ≤ x1.2 then (rt x1.1) else
bd (jn (fun (z5 : Unit) => rt 0) fun (k5 : Unit → am0 ((Int32))) =>
if ((a2 >>> (x1.2 &&& 31)) &&& 1) = 1 then (bd (p_X3_walkOf x1.2 a1) fun v7 =>
if a3 < v7 then (k5 ()) else
rt 1) else
k5 ()) fun (z4 : Int32) =>
bd (rt (x1.1 + z4)) fun v9 =>
rec1 (v9, (x1.2 + 1))
def p_X3_pointsOf (a1 : Int32) (a2 : Int32) (a3 : Int32) : am0 Int32 :=
bd (alp (p_X3_pointsOf_L6 a1 a2 a3) amFu (0, 0)) fun (y2 : Int32) =>
if y2 = 0 then (rt 0) else
if y2 = 1 then (rt 2) else
rt 3
def p_X3_plans_L7 (s_X3_plans : Int32 → Int32 → Int32 → Int32 → am0 Unit) (a1 : Int32) (a3 : Int32) (a4 : Int32) (rec2 : Int32 → am0 (Unit)) (x2 : Int32) : am0 (Unit) :=
if 20 ≤ x2 then (rt ()) else
bd (s_X3_plans (a1 ||| ((1 : Int32) <<< (x2 &&& 31))) (x2 + 1) (a3 - 1) a4) fun _ =>
rec2 (x2 + 1)
def p_X3_plans_L46 (a1 : Int32) (a4 : Int32) (rec5 : (Int32 × Int32) → am0 (Int32)) (x5 : Int32 × Int32) : am0 (Int32) :=
if 20 ≤ x5.2 then (rt x5.1) else
bd (rI 133 1 x5.2) fun v8 =>
bd (if v8 = 0 then (rt 0) else
bd (rI 133 1 x5.2) fun v11 =>
bd (p_X3_pointsOf x5.2 a1 a4) fun v12 =>
rt (v11 * v12)) fun (z9 : Int32) =>
bd (rt (x5.1 + z9)) fun v13 =>
rec5 (v13, (x5.2 + 1))
def b_X3_plans (s_X3_plans : Int32 → Int32 → Int32 → Int32 → am0 Unit) (a1 : Int32) (a2 : Int32) (a3 : Int32) (a4 : Int32) : am0 Unit :=
bd (gM) fun _ =>
if a3 ≤ 0 then (bd (alp (p_X3_plans_L46 a1 a4) amFu (0, 0)) fun (y6 : Int32) =>
bd (gI 1 1 109) fun v14 =>
if v14 < y6 then (bd (pI 1 1 109 y6) fun _ =>
bd (pI 1 1 110 a1) fun _ =>
rt ()) else
rt ()) else
bd (alp (p_X3_plans_L7 s_X3_plans a1 a3 a4) amFu a2) fun (y3 : Unit) =>
rt ()
def gr_X3_plans : Nat → (Int32 → Int32 → Int32 → Int32 → am0 Unit)
  | 0 => (fun _ _ _ _ => fl0)
  | d + 1 => (b_X3_plans (gr_X3_plans d))
def p_X3_plans (d : Nat) : Int32 → Int32 → Int32 → Int32 → am0 Unit := (gr_X3_plans d)
def p_X3_findPlan_L28  (rec5 : Int32 → am0 (Unit)) (x5 : Int32) : am0 (Unit) :=
if 20 ≤ x5 then (rt ()) else
bd (wI 133 1 x5 0) fun _ =>
rec5 (x5 + 1)
def p_X3_findPlan_L49  (rec8 : Int32 → am0 (Unit)) (x8 : Int32) : am0 (Unit) :=
bd (gI 1 1 92) fun v10 =>
if v10 ≤ x8 then (rt ()) else
bd (rI 115 1 x8) fun v12 =>
bd (rI 133 1 v12) fun v13 =>
bd (wI 133 1 v12 (v13 + 1)) fun _ =>
rec8 (x8 + 1)
def p_X3_findPlan (a1 : Int32) (a2 : Int32) : am0 Int32 :=
bd (gM) fun _ =>
bd (pI 1 1 0 0) fun _ =>
bd (p_X3_isIn a1 1 4) fun v1 =>
if v1 = 0 then (rt 0) else
bd (p_X3_isIn a2 1 100) fun v3 =>
if v3 = 0 then (rt 0) else
bd (alp (p_X3_findPlan_L28) amFu 0) fun (y6 : Unit) =>
bd (alp (p_X3_findPlan_L49) amFu 0) fun (y9 : Unit) =>
bd (pI 1 1 109 (-1)) fun _ =>
bd (p_X3_plans 16 0 0 a1 a2) fun _ =>
rt 1
def p_X3_plan (a1 : Int32) (a2 : Int32) : am0 Int32 :=
bd (p_X3_findPlan a1 a2) fun v1 =>
if v1 = 0 then (rt (-1)) else
bd (gI 1 1 109) fun v3 =>
rt v3
def p_X3_planned_L21  (rec4 : (Int32 × Int32) → am0 Int32) (x4 : Int32 × Int32) : am0 Int32 :=
if 20 ≤ x4.2 then (rt (-1)) else
bd (gI 1 1 110) fun v6 =>
jn (fun (z7 : Int32) => rec4 (z7, (x4.2 + 1))) fun (k7 : Int32 → am0 (Int32)) =>
if ((v6 >>> (x4.2 &&& 31)) &&& 1) = 0 then (k7 x4.1) else
if x4.1 = 0 then (rt x4.2) else
k7 (x4.1 + (-1))
def p_X3_planned (a1 : Int32) (a2 : Int32) (a3 : Int32) : am0 Int32 :=
bd (p_X3_findPlan a1 a2) fun v1 =>
if v1 = 0 then (rt (-1)) else
if 0 ≤ a3 then (alp (p_X3_planned_L21) amFu (a3, 0)) else
rt (-1)
def p_X3_row (a1 : Int32) : am0 Int32 :=
bd (gM) fun _ =>
bd (pI 1 1 0 0) fun _ =>
bd (gI 1 1 116) fun v1 =>
if v1 = 6 then (rt (-1)) else
bd (p_X3_isIn a1 0 3) fun v3 =>
if v3 = 0 then (rt (-1)) else
bd (gI 1 1 116) fun v5 =>
bd (wI 136 1 v5 a1) fun _ =>
bd (gI 1 1 116) fun v6 =>
bd (pI 1 1 116 (v6 + 1)) fun _ =>
bd (gI 1 1 116) fun v7 =>
rt (v7 - 1)
def p_X3_isRow (a1 : Int32) : am0 Int32 :=
jn (fun (z1 : Unit) => rt 0) fun (k1 : Unit → am0 (Int32)) =>
if a1 < 0 then (k1 ()) else
bd (gI 1 1 116) fun v3 =>
if v3 ≤ a1 then (k1 ()) else
rt 1
def p_X3_put (a1 : Int32) (a2 : Int32) (a3 : Int32) : am0 Int32 :=
bd (gM) fun _ =>
bd (pI 1 1 0 0) fun _ =>
bd (p_X3_isRow a1) fun v1 =>
if v1 = 0 then (rt 0) else
bd (p_X3_isCorner a2) fun v3 =>
if v3 = 0 then (rt 0) else
bd (p_X3_isIn a3 (-1000000) 1000000) fun v5 =>
if v5 = 0 then (rt 0) else
bd (rI 137 1 a1) fun v7 =>
if v7 = 0 then (bd (rt ((20 * a1) + a2)) fun v9 =>
bd (rI 136 1 a1) fun v10 =>
if v10 = 0 then (bd (wD 134 1 v9 (FP.i2d a3.toInt8.toInt32)) fun _ =>
rt 1) else
if v10 = 1 then (bd (wD 134 1 v9 (FP.i2d a3.toInt16.toInt32)) fun _ =>
rt 1) else
if v10 = 2 then (bd (wD 134 1 v9 (FP.i2d a3)) fun _ =>
rt 1) else
bd (if a3 = (-1000000) then (rt 9221120237041090560) else
bd (g32 (FP.fdiv (FP.i2f a3) 1090519040)) fun _ =>
bd (g64 (FP.f2d (FP.fdiv (FP.i2f a3) 1090519040))) fun _ =>
rt (FP.f2d (FP.fdiv (FP.i2f a3) 1090519040))) fun (z14 : UInt64) =>
bd (wD 134 1 v9 z14) fun _ =>
rt 1) else
rt 0
def p_X3_lose (a1 : Int32) : am0 Int32 :=
bd (gM) fun _ =>
bd (pI 1 1 0 0) fun _ =>
bd (p_X3_isRow a1) fun v1 =>
if v1 = 0 then (rt 0) else
bd (rI 137 1 a1) fun v3 =>
if v3 = 0 then (bd (wI 137 1 a1 1) fun _ =>
rt 1) else
rt 0
def p_X3_isWithin (a1 : Int32) (a2 : Int32) : am0 Int32 :=
jn (fun (z1 : Unit) => rt 0) fun (k1 : Unit → am0 (Int32)) =>
if a1 < 0 then (k1 ()) else
if a2 < 0 then (k1 ()) else
if 20 < a1 then (k1 ()) else
if (20 - a1) < a2 then (k1 ()) else
rt 1
def p_X3_copy_L84 (a1 : Int32) (a2 : Int32) (a5 : Int32) (rec16 : Int32 → am0 (Unit)) (x16 : Int32) : am0 (Unit) :=
if a5 ≤ x16 then (rt ()) else
bd (rD 134 1 (((20 * a1) + a2) + x16)) fun v19 =>
bd (wD 135 1 x16 v19) fun _ =>
rec16 (x16 + 1)
def p_X3_copy_L121 (a3 : Int32) (a4 : Int32) (a5 : Int32) (rec20 : Int32 → am0 (Unit)) (x20 : Int32) : am0 (Unit) :=
if a5 ≤ x20 then (rt ()) else
bd (rD 135 1 x20) fun v23 =>
bd (wD 134 1 (((20 * a3) + a4) + x20) v23) fun _ =>
rec20 (x20 + 1)
def p_X3_copy (a1 : Int32) (a2 : Int32) (a3 : Int32) (a4 : Int32) (a5 : Int32) : am0 Int32 :=
bd (gM) fun _ =>
bd (pI 1 1 0 0) fun _ =>
bd (p_X3_isRow a1) fun v1 =>
if v1 = 0 then (rt 1) else
bd (p_X3_isRow a3) fun v3 =>
if v3 = 0 then (rt 1) else
bd (rI 137 1 a1) fun v5 =>
if v5 = 0 then (bd (rI 137 1 a3) fun v7 =>
if v7 = 0 then (bd (rI 136 1 a1) fun v9 =>
bd (rI 136 1 a3) fun v10 =>
if v9 = v10 then (bd (p_X3_isWithin a2 a5) fun v12 =>
if v12 = 0 then (rt 4) else
bd (p_X3_isWithin a4 a5) fun v14 =>
if v14 = 0 then (rt 4) else
bd (alp (p_X3_copy_L84 a1 a2 a5) amFu 0) fun (y17 : Unit) =>
bd (alp (p_X3_copy_L121 a3 a4 a5) amFu 0) fun (y21 : Unit) =>
rt 0) else
rt 3) else
rt 2) else
rt 2
def p_X3_canJudge (a1 : Int32) (a2 : Int32) (a3 : Int32) : am0 Int32 :=
bd (gM) fun _ =>
bd (pI 1 1 0 0) fun _ =>
bd (p_X3_isRow a1) fun v1 =>
jn (fun (z2 : Unit) => rt 0) fun (k2 : Unit → am0 (Int32)) =>
if v1 = 0 then (k2 ()) else
bd (rI 137 1 a1) fun v4 =>
if v4 = 0 then (bd (p_X3_isIn a2 0 1048575) fun v6 =>
if v6 = 0 then (k2 ()) else
bd (p_X3_isIn a3 0 100) fun v8 =>
if v8 = 0 then (k2 ()) else
rt 1) else
k2 ()
def p_J13_isNaN (a1 : UInt64) : am0 Int32 :=
if (Op.cmpValue (FP.dcmp a1 a1) .l) = 0 then (rt 0) else
rt 1
def p_X3_judged_L6 (a1 : Int32) (a2 : Int32) (a3 : Int32) (rec1 : (UInt64 × Int32) → am0 (UInt64)) (x1 : UInt64 × Int32) : am0 (UInt64) :=
if 20 ≤ x1.2 then (rt x1.1) else
bd (rD 134 1 ((20 * a1) + x1.2)) fun v4 =>
bd (p_J13_isNaN v4) fun v5 =>
bd (if v5 = 0 then (rt v4) else
rt 4652007308841189376) fun (z6 : UInt64) =>
bd (p_X3_pointsOf x1.2 a2 a3) fun v8 =>
bd (g64 (FP.dmul z6 (FP.i2d v8))) fun _ =>
bd (g64 (FP.dadd x1.1 (FP.dmul z6 (FP.i2d v8)))) fun _ =>
bd (rt (FP.dadd x1.1 (FP.dmul z6 (FP.i2d v8)))) fun v11 =>
rec1 (v11, (x1.2 + 1))
def p_X3_judged (a1 : Int32) (a2 : Int32) (a3 : Int32) : am0 UInt64 :=
bd (gM) fun _ =>
bd (alp (p_X3_judged_L6 a1 a2 a3) amFu (FP.dconst0, 0)) fun (y2 : UInt64) =>
rt y2
def p_X3_judge (a1 : Int32) (a2 : Int32) (a3 : Int32) : am0 UInt64 :=
bd (p_X3_canJudge a1 a2 a3) fun v1 =>
if v1 = 0 then (rt 9221120237041090560) else
bd (p_X3_judged a1 a2 a3) fun v3 =>
rt v3
def p_X3_loss (a1 : Int32) (a2 : Int32) (a3 : Int32) (a4 : Int32) : am0 UInt64 :=
bd (p_X3_canJudge a1 a2 a3) fun v1 =>
jn (fun (z2 : Unit) => rt 9221120237041090560) fun (k2 : Unit → am0 (UInt64)) =>
if v1 = 0 then (k2 ()) else
bd (p_X3_isCorner a4) fun v4 =>
if v4 = 0 then (k2 ()) else
if ((a2 >>> (a4 &&& 31)) &&& 1) = 0 then (k2 ()) else
bd (p_X3_judged a1 a2 a3) fun v7 =>
bd (p_X3_judged a1 (a2 &&& (((1 : Int32) <<< (a4 &&& 31)) ^^^ (-1))) a3) fun v8 =>
bd (g64 (FP.dsub v7 v8)) fun _ =>
rt (FP.dsub v7 v8)
def p_X3_what_L42  (rec7 : Int32 → am0 (Unit)) (x7 : Int32) : am0 (Unit) :=
if 288 ≤ x7 then (rt ()) else
bd (rI 74 1 x7) fun v10 =>
bd (wI 138 1 x7 v10) fun _ =>
bd (rI 75 1 x7) fun v11 =>
bd (wI 139 1 x7 v11) fun _ =>
rec7 (x7 + 1)
def p_X3_what_L87  (rec12 : Int32 → am0 (Unit)) (x12 : Int32) : am0 (Unit) :=
if 72 ≤ x12 then (rt ()) else
bd (rI 79 1 x12) fun v15 =>
bd (wI 140 1 x12 v15) fun _ =>
bd (rI 82 1 x12) fun v16 =>
bd (zg v16) fun _ =>
bd (wI 141 1 x12 v16) fun _ =>
rec12 (x12 + 1)
def p_X3_what_L150 (a4 : Int32) (rec19 : Int32 → am0 (Unit)) (x19 : Int32) : am0 (Unit) :=
if a4 ≤ x19 then (rt ()) else
bd (p_X3_burn 0) fun _ =>
rec19 (x19 + 1)
def p_X3_what_L193  (rec24 : Int32 → am0 (Unit)) (x24 : Int32) : am0 (Unit) :=
if 288 ≤ x24 then (rt ()) else
bd (rI 138 1 x24) fun v27 =>
bd (wI 74 1 x24 v27) fun _ =>
bd (rI 139 1 x24) fun v28 =>
bd (wI 75 1 x24 v28) fun _ =>
rec24 (x24 + 1)
def p_X3_what_L238  (rec29 : Int32 → am0 (Unit)) (x29 : Int32) : am0 (Unit) :=
if 72 ≤ x29 then (rt ()) else
bd (rI 140 1 x29) fun v32 =>
bd (wI 79 1 x29 v32) fun _ =>
bd (rI 141 1 x29) fun v33 =>
bd (zg v33) fun _ =>
bd (wI 82 1 x29 v33) fun _ =>
rec29 (x29 + 1)
def p_X3_what (a1 : Int32) (a2 : Int32) (a3 : Int32) (a4 : Int32) : am0 Int32 :=
bd (gM) fun _ =>
bd (pI 1 1 0 0) fun _ =>
bd (p_X3_isRoom a1 a2) fun v1 =>
if v1 = 0 then (rt (-1)) else
bd (p_X3_isIn a3 0 500) fun v3 =>
if v3 = 0 then (rt (-1)) else
bd (p_X3_isIn a4 1 200) fun v5 =>
if v5 = 0 then (rt (-1)) else
bd (alp (p_X3_what_L42) amFu 0) fun (y8 : Unit) =>
bd (alp (p_X3_what_L87) amFu 0) fun (y13 : Unit) =>
bd (p_X3_burntOf a1) fun v18 =>
bd (wI 76 1 ((24 * a1) + a2) a3) fun _ =>
bd (alp (p_X3_what_L150 a4) amFu 0) fun (y20 : Unit) =>
bd (wI 76 1 ((24 * a1) + a2) 0) fun _ =>
bd (p_X3_burntOf a1) fun v22 =>
bd (rt (v22 - v18)) fun v23 =>
bd (alp (p_X3_what_L193) amFu 0) fun (y25 : Unit) =>
bd (alp (p_X3_what_L238) amFu 0) fun (y30 : Unit) =>
rt v23
def p_X3_count_L119 (a1 : Int32) (rec12 : (Int32 × Int32) → am0 (Int32)) (x12 : Int32 × Int32) : am0 (Int32) :=
bd (gI 1 1 92) fun v14 =>
if v14 ≤ x12.2 then (rt x12.1) else
bd (rI 117 1 x12.2) fun v16 =>
bd (if a1 = 5 then (rt 0) else
rt 2) fun (z17 : Int32) =>
bd (if v16 = z17 then (rt 1) else
rt 0) fun (z19 : Int32) =>
bd (rt (x12.1 + z19)) fun v21 =>
rec12 (v21, (x12.2 + 1))
def p_X3_count_L119_23 (a1 : Int32) (rec23 : (Int32 × Int32) → am0 (Int32)) (x23 : Int32 × Int32) : am0 (Int32) :=
bd (gI 1 1 92) fun v25 =>
if v25 ≤ x23.2 then (rt x23.1) else
bd (rI 117 1 x23.2) fun v27 =>
bd (if a1 = 5 then (rt 0) else
rt 2) fun (z28 : Int32) =>
bd (if v27 = z28 then (rt 1) else
rt 0) fun (z30 : Int32) =>
bd (rt (x23.1 + z30)) fun v32 =>
rec23 (v32, (x23.2 + 1))
def p_X3_count_L164  (rec34 : (Int32 × Int32) → am0 (Int32)) (x34 : Int32 × Int32) : am0 (Int32) :=
bd (gI 1 1 92) fun v36 =>
if v36 ≤ x34.2 then (rt x34.1) else
bd (rI 121 1 x34.2) fun v38 =>
bd (rt (x34.1 + v38)) fun v39 =>
rec34 (v39, (x34.2 + 1))
def p_X3_count_L191  (rec41 : (Int32 × Int32) → am0 (Int32)) (x41 : Int32 × Int32) : am0 (Int32) :=
bd (gI 1 1 31) fun v43 =>
if v43 ≤ x41.2 then (rt x41.1) else
bd (rI 70 1 x41.2) fun v45 =>
bd (rt (x41.1 + v45)) fun v46 =>
rec41 (v46, (x41.2 + 1))
def p_X3_count_L218  (rec48 : (Int32 × Int32) → am0 (Int32)) (x48 : Int32 × Int32) : am0 (Int32) :=
bd (gI 1 1 31) fun v50 =>
if v50 ≤ x48.2 then (rt x48.1) else
bd (rI 71 1 x48.2) fun v52 =>
bd (rt (x48.1 + v52)) fun v53 =>
rec48 (v53, (x48.2 + 1))
def p_X3_count_L245  (rec55 : (Int32 × Int32) → am0 (Int32)) (x55 : Int32 × Int32) : am0 (Int32) :=
bd (gI 1 1 58) fun v57 =>
if v57 ≤ x55.2 then (rt x55.1) else
bd (rI 94 1 x55.2) fun v59 =>
bd (if v59 = 4 then (rt 1) else
rt 0) fun (z60 : Int32) =>
bd (rt (x55.1 + z60)) fun v62 =>
rec55 (v62, (x55.2 + 1))
def p_X3_count (a1 : Int32) : am0 Int32 :=
bd (gM) fun _ =>
bd (pI 1 1 0 0) fun _ =>
if a1 = 0 then (bd (gI 1 1 1) fun v2 =>
rt v2) else
if a1 = 1 then (bd (gI 1 1 9) fun v4 =>
rt v4) else
if a1 = 2 then (bd (gI 1 1 31) fun v6 =>
rt v6) else
if a1 = 3 then (bd (gI 1 1 58) fun v8 =>
rt v8) else
if a1 = 4 then (bd (gI 1 1 92) fun v10 =>
rt v10) else
if a1 = 5 then (bd (alp (p_X3_count_L119 a1) amFu (0, 0)) fun (y13 : Int32) =>
rt y13) else
if a1 = 6 then (bd (alp (p_X3_count_L119_23 a1) amFu (0, 0)) fun (y24 : Int32) =>
rt y24) else
if a1 = 7 then (bd (alp (p_X3_count_L164) amFu (0, 0)) fun (y35 : Int32) =>
rt y35) else
if a1 = 8 then (bd (alp (p_X3_count_L191) amFu (0, 0)) fun (y42 : Int32) =>
rt y42) else
if a1 = 9 then (bd (alp (p_X3_count_L218) amFu (0, 0)) fun (y49 : Int32) =>
rt y49) else
if a1 = 10 then (bd (alp (p_X3_count_L245) amFu (0, 0)) fun (y56 : Int32) =>
rt y56) else
if a1 = 11 then (bd (gI 1 1 72) fun v64 =>
rt v64) else
if a1 = 12 then (bd (gI 1 1 71) fun v66 =>
rt v66) else
if a1 = 13 then (bd (gI 1 1 70) fun v68 =>
rt v68) else
if a1 = 14 then (bd (gI 1 1 56) fun v70 =>
rt v70) else
if a1 = 15 then (bd (gI 1 1 57) fun v72 =>
rt v72) else
if a1 = 16 then (bd (gI 1 1 116) fun v74 =>
rt v74) else
rt (-1)
