theorem q210 : (Jvm.Cond.arrayOver (Jvm.ClassFile.FieldType.object "CityBrigade$Street")) ∈ lw_tbl := lw_at lw_m1 52 rfl
set_option maxRecDepth 100000
theorem q212 : (Jvm.Cond.arrayOver (Jvm.ClassFile.FieldType.array Jvm.ClassFile.FieldType.boolean)) ∈ lw_tbl := lw_at lw_m1 54 rfl
theorem q214 : (Jvm.Cond.arrayOver (Jvm.ClassFile.FieldType.object "CityBrigade$House")) ∈ lw_tbl := lw_at lw_m1 56 rfl
theorem q216 : (Jvm.Cond.arrayOver (Jvm.ClassFile.FieldType.object "CityBrigade$Head")) ∈ lw_tbl := lw_at lw_m1 58 rfl
theorem q218 : (Jvm.Cond.arrayOver (Jvm.ClassFile.FieldType.object "CityBrigade$Crew")) ∈ lw_tbl := lw_at lw_m1 60 rfl
theorem q278 : (Jvm.Cond.arrayClass Jvm.ClassFile.FieldType.boolean) ∈ lw_all := lw_g (lw_at lw_m1 120 rfl) rfl
theorem q279 : (Jvm.Cond.arrayClass Jvm.ClassFile.FieldType.int) ∈ lw_all := lw_g (lw_at lw_m1 121 rfl) rfl
theorem q281 : (Jvm.Cond.arrayOver (Jvm.ClassFile.FieldType.object "CityBrigade$Clause")) ∈ lw_tbl := lw_at lw_m1 123 rfl
theorem q283 : (Jvm.Cond.arrayOver (Jvm.ClassFile.FieldType.object "CityBrigade$Call")) ∈ lw_tbl := lw_at lw_m1 125 rfl
theorem q285 : (Jvm.Cond.arrayOver (Jvm.ClassFile.FieldType.array Jvm.ClassFile.FieldType.int)) ∈ lw_tbl := lw_at lw_m1 127 rfl
theorem q287 : (Jvm.Cond.arrayOver (Jvm.ClassFile.FieldType.object "CityBrigade$Row")) ∈ lw_tbl := lw_at lw_m1 129 rfl
theorem q463 : (Jvm.Cond.arrayClass Jvm.ClassFile.FieldType.byte) ∈ lw_all := lw_g (lw_at lw_m2 65 rfl) rfl
theorem q1740 : (Jvm.Cond.arrayClass Jvm.ClassFile.FieldType.short) ∈ lw_all := lw_g (lw_at lw_m7 142 rfl) rfl
theorem q1761 : (Jvm.Cond.arrayClass Jvm.ClassFile.FieldType.float) ∈ lw_all := lw_g (lw_at lw_m7 163 rfl) rfl
theorem q2305 : (Jvm.Cond.arrayClass Jvm.ClassFile.FieldType.double) ∈ lw_all := lw_g (lw_at lw_m9 227 rfl) rfl
theorem q2842 : (Jvm.Cond.arrayClass Jvm.ClassFile.FieldType.long) ∈ lw_all := lw_g (lw_at lw_m12 44 rfl) rfl
theorem q1026 : (Jvm.Cond.interfaceMethod "CityBrigade$Gives" "CityBrigade$Gives" "hose" "()I") ∈ lw_tbl := lw_at lw_m4 148 rfl
set_option maxRecDepth 100000
theorem q1027 : (Jvm.Cond.declares ({ cls := "CityBrigade$Gives", name := "hose", desc := "()I" } : Jvm.MethodName)) ∈ lw_tbl := lw_at lw_m4 149 rfl
theorem q1519 : (Jvm.Cond.interfaceMethod "CityBrigade$Gives" "CityBrigade$Gives" "asks" "(I)I") ∈ lw_tbl := lw_at lw_m6 161 rfl
theorem q1520 : (Jvm.Cond.declares ({ cls := "CityBrigade$Gives", name := "asks", desc := "(I)I" } : Jvm.MethodName)) ∈ lw_tbl := lw_at lw_m6 162 rfl
theorem q192 : (Jvm.Cond.initialized "java/lang/System") ∈ lw_all := lw_g (lw_at lw_m1 34 rfl) rfl
set_option maxRecDepth 100000
theorem q1683 : (Jvm.Cond.static ({ cls := "java/lang/System", name := "arraycopy", desc := "(Ljava/lang/Object;ILjava/lang/Object;II)V" } : Jvm.MethodName)) ∈ lw_all := lw_g (lw_at lw_m7 85 rfl) rfl
theorem q1684 : (Jvm.Cond.native ({ cls := "java/lang/System", name := "arraycopy", desc := "(Ljava/lang/Object;ILjava/lang/Object;II)V" } : Jvm.MethodName)) ∈ lw_all := lw_g (lw_at lw_m7 86 rfl) rfl
