/-! CityBrigade -/
set_option maxRecDepth 100000
def RX1 : String := "CityBrigade"
def TX1 : u_T := fun k => match k with
  | 0 => ("CityBrigade", "now", "I", false)
  | 1 => ("CityBrigade", "streets", "[LCityBrigade$Street;", true)
  | 2 => ("CityBrigade", "streetMany", "I", false)
  | 3 => ("CityBrigade", "there", "[[Z", true)
  | 4 => ("CityBrigade", "walk", "[I", true)
  | 5 => ("CityBrigade", "houses", "[LCityBrigade$House;", true)
  | 6 => ("CityBrigade", "houseMany", "I", false)
  | 7 => ("CityBrigade", "gives", "[I", true)
  | 8 => ("CityBrigade", "asked", "[I", true)
  | 9 => ("CityBrigade", "heads", "[LCityBrigade$Head;", true)
  | 10 => ("CityBrigade", "mainMany", "I", false)
  | 11 => ("CityBrigade", "headMany", "I", false)
  | 12 => ("CityBrigade", "crews", "[LCityBrigade$Crew;", true)
  | 13 => ("CityBrigade", "crewMany", "I", false)
  | 14 => ("CityBrigade", "letters", "[I", true)
  | 15 => ("CityBrigade", "fault", "LCityBrigade$Fault;", true)
  | 16 => ("CityBrigade", "tape", "[B", true)
  | 17 => ("CityBrigade", "taped", "I", false)
  | 18 => ("CityBrigade", "at", "I", false)
  | 19 => ("CityBrigade", "deep", "I", false)
  | 20 => ("CityBrigade", "kind", "I", false)
  | 21 => ("CityBrigade", "orders", "[LCityBrigade$Clause;", true)
  | 22 => ("CityBrigade", "leaving", "LCityBrigade$Test;", false)
  | 23 => ("CityBrigade", "orderMany", "I", false)
  | 24 => ("CityBrigade", "calls", "[LCityBrigade$Call;", true)
  | 25 => ("CityBrigade", "callMany", "I", false)
  | 26 => ("CityBrigade", "wanted", "[I", true)
  | 27 => ("CityBrigade", "whyBits", "I", false)
  | 28 => ("CityBrigade", "soonest", "I", false)
  | 29 => ("CityBrigade", "mainFor", "[I", true)
  | 30 => ("CityBrigade", "acts", "[LCityBrigade$Clause;", true)
  | 31 => ("CityBrigade", "actFrom", "[I", true)
  | 32 => ("CityBrigade", "actTold", "[I", true)
  | 33 => ("CityBrigade", "noteHouse", "[I", true)
  | 34 => ("CityBrigade", "noteUse", "[I", true)
  | 35 => ("CityBrigade", "noteFrom", "[I", true)
  | 36 => ("CityBrigade", "noteTold", "[I", true)
  | 37 => ("CityBrigade", "actMany", "I", false)
  | 38 => ("CityBrigade", "notes", "I", false)
  | 39 => ("CityBrigade", "codeFound", "I", false)
  | 40 => ("CityBrigade", "stops", "[I", true)
  | 41 => ("CityBrigade", "worths", "[I", true)
  | 42 => ("CityBrigade", "way", "[I", true)
  | 43 => ("CityBrigade", "bestWay", "[I", true)
  | 44 => ("CityBrigade", "walks", "[[I", true)
  | 45 => ("CityBrigade", "stopMany", "I", false)
  | 46 => ("CityBrigade", "wayMany", "I", false)
  | 47 => ("CityBrigade", "bestMany", "I", false)
  | 48 => ("CityBrigade", "bestWorth", "I", false)
  | 49 => ("CityBrigade", "bestMinutes", "I", false)
  | 50 => ("CityBrigade", "allWalks", "[[I", true)
  | 51 => ("CityBrigade", "weights", "[I", true)
  | 52 => ("CityBrigade", "picks", "[I", true)
  | 53 => ("CityBrigade", "bestPicks", "[I", true)
  | 54 => ("CityBrigade", "bestPoints", "I", false)
  | 55 => ("CityBrigade", "rows", "[LCityBrigade$Row;", true)
  | 56 => ("CityBrigade", "rowKinds", "[I", true)
  | _ => ("CityBrigade", "rowMany", "I", false)
def tyX1 : Nat → FieldType := fun k => match k with
  | 0 => .int
  | 1 => .array (.object "CityBrigade$Street")
  | 2 => .int
  | 3 => .array (.array .boolean)
  | 4 => .array .int
  | 5 => .array (.object "CityBrigade$House")
  | 6 => .int
  | 7 => .array .int
  | 8 => .array .int
  | 9 => .array (.object "CityBrigade$Head")
  | 10 => .int
  | 11 => .int
  | 12 => .array (.object "CityBrigade$Crew")
  | 13 => .int
  | 14 => .array .int
  | 15 => .object "CityBrigade$Fault"
  | 16 => .array .byte
  | 17 => .int
  | 18 => .int
  | 19 => .int
  | 20 => .int
  | 21 => .array (.object "CityBrigade$Clause")
  | 22 => .object "CityBrigade$Test"
  | 23 => .int
  | 24 => .array (.object "CityBrigade$Call")
  | 25 => .int
  | 26 => .array .int
  | 27 => .int
  | 28 => .int
  | 29 => .array .int
  | 30 => .array (.object "CityBrigade$Clause")
  | 31 => .array .int
  | 32 => .array .int
  | 33 => .array .int
  | 34 => .array .int
  | 35 => .array .int
  | 36 => .array .int
  | 37 => .int
  | 38 => .int
  | 39 => .int
  | 40 => .array .int
  | 41 => .array .int
  | 42 => .array .int
  | 43 => .array .int
  | 44 => .array (.array .int)
  | 45 => .int
  | 46 => .int
  | 47 => .int
  | 48 => .int
  | 49 => .int
  | 50 => .array (.array .int)
  | 51 => .array .int
  | 52 => .array .int
  | 53 => .array .int
  | 54 => .int
  | 55 => .array (.object "CityBrigade$Row")
  | 56 => .array .int
  | _ => .int
abbrev wsX10 : List Cond := u_ws RX1 TX1 58
set_option maxRecDepth 100000 in
theorem nmX1 : ∀ a, a < 58 → ∀ b, b < 58 → a ≠ b → (TX1 a).2.1 ≠ (TX1 b).2.1 := by decide +kernel
set_option maxRecDepth 100000 in
theorem tyX1_ok : ∀ k, k < 58 → parseFieldDescriptor (TX1 k).2.2.1 = some (tyX1 k) := by decide +kernel
abbrev cX1_init : ByteArray := prog_1_method_4_code
def yX1_init : MethodName := ⟨RX1, "<init>", "()V"⟩
def dkwX1_init_12 : List UInt8 := [181, 0, 136, 42, 16, 6, 188, 10, 181, 0, 140, 177]
abbrev dktX1_init_12 : List UInt8 := dkwX1_init_12 ++ []
def dkwX1_init_11 : List UInt8 := [181, 0, 125, 42, 7, 188, 10, 181, 0, 128, 42, 7, 188, 10, 181, 0, 131, 42, 16, 6, 189, 0, 134]
abbrev dktX1_init_11 : List UInt8 := dkwX1_init_11 ++ dktX1_init_12
def dkwX1_init_10 : List UInt8 := [197, 0, 117, 2, 181, 0, 119, 42, 16, 20, 16, 20, 197, 0, 117, 2, 181, 0, 122, 42, 16, 20, 188, 10]
abbrev dktX1_init_10 : List UInt8 := dkwX1_init_10 ++ dktX1_init_11
def dkwX1_init_9 : List UInt8 := [181, 0, 108, 42, 16, 8, 188, 10, 181, 0, 111, 42, 16, 8, 188, 10, 181, 0, 114, 42, 16, 9, 16, 9]
abbrev dktX1_init_9 : List UInt8 := dkwX1_init_9 ++ dktX1_init_10
def dkwX1_init_8 : List UInt8 := [181, 0, 99, 42, 16, 100, 188, 10, 181, 0, 102, 42, 16, 8, 188, 10, 181, 0, 105, 42, 16, 8, 188, 10]
abbrev dktX1_init_8 : List UInt8 := dkwX1_init_8 ++ dktX1_init_9
def dkwX1_init_7 : List UInt8 := [181, 0, 90, 42, 16, 100, 188, 10, 181, 0, 93, 42, 16, 100, 188, 10, 181, 0, 96, 42, 16, 100, 188, 10]
abbrev dktX1_init_7 : List UInt8 := dkwX1_init_7 ++ dktX1_init_8
def dkwX1_init_6 : List UInt8 := [42, 16, 12, 189, 0, 66, 181, 0, 84, 42, 16, 12, 188, 10, 181, 0, 87, 42, 16, 12, 188, 10]
abbrev dktX1_init_6 : List UInt8 := dkwX1_init_6 ++ dktX1_init_7
def dkwX1_init_5 : List UInt8 := [42, 16, 60, 189, 0, 72, 181, 0, 74, 42, 8, 188, 10, 181, 0, 78, 42, 16, 16, 188, 10, 181, 0, 81]
abbrev dktX1_init_5 : List UInt8 := dkwX1_init_5 ++ dktX1_init_6
def dkwX1_init_4 : List UInt8 := [183, 0, 57, 181, 0, 58, 42, 17, 0, 200, 188, 8, 181, 0, 62, 42, 16, 20, 189, 0, 66, 181, 0, 68]
abbrev dktX1_init_4 : List UInt8 := dkwX1_init_4 ++ dktX1_init_5
def dkwX1_init_3 : List UInt8 := [16, 16, 189, 0, 46, 181, 0, 48, 42, 17, 0, 128, 188, 10, 181, 0, 52, 42, 187, 0, 55, 89]
abbrev dktX1_init_3 : List UInt8 := dkwX1_init_3 ++ dktX1_init_4
def dkwX1_init_2 : List UInt8 := [188, 10, 181, 0, 34, 42, 16, 6, 188, 10, 181, 0, 37, 42, 16, 20, 189, 0, 40, 181, 0, 42, 42]
abbrev dktX1_init_2 : List UInt8 := dkwX1_init_2 ++ dktX1_init_3
def dkwX1_init_1 : List UInt8 := [181, 0, 21, 42, 16, 20, 188, 10, 181, 0, 24, 42, 16, 12, 189, 0, 28, 181, 0, 30, 42, 16, 6]
abbrev dktX1_init_1 : List UInt8 := dkwX1_init_1 ++ dktX1_init_2
def dkwX1_init_0 : List UInt8 := [42, 183, 0, 7, 42, 16, 40, 189, 0, 13, 181, 0, 15, 42, 17, 2, 89, 16, 20, 197, 0, 19, 2]
abbrev dktX1_init_0 : List UInt8 := dkwX1_init_0 ++ dktX1_init_1
theorem dksX1_init_0 : cX1_init.data.toList.drop 0 = dktX1_init_0 := by decide +kernel
theorem dksX1_init_1 : cX1_init.data.toList.drop 23 = dktX1_init_1 := dk_seg dksX1_init_0 23 rfl rfl
theorem dksX1_init_2 : cX1_init.data.toList.drop 46 = dktX1_init_2 := dk_seg dksX1_init_1 23 rfl rfl
theorem dksX1_init_3 : cX1_init.data.toList.drop 69 = dktX1_init_3 := dk_seg dksX1_init_2 23 rfl rfl
theorem dksX1_init_4 : cX1_init.data.toList.drop 91 = dktX1_init_4 := dk_seg dksX1_init_3 22 rfl rfl
theorem dksX1_init_5 : cX1_init.data.toList.drop 115 = dktX1_init_5 := dk_seg dksX1_init_4 24 rfl rfl
theorem dksX1_init_6 : cX1_init.data.toList.drop 139 = dktX1_init_6 := dk_seg dksX1_init_5 24 rfl rfl
theorem dksX1_init_7 : cX1_init.data.toList.drop 161 = dktX1_init_7 := dk_seg dksX1_init_6 22 rfl rfl
theorem dksX1_init_8 : cX1_init.data.toList.drop 185 = dktX1_init_8 := dk_seg dksX1_init_7 24 rfl rfl
theorem dksX1_init_9 : cX1_init.data.toList.drop 209 = dktX1_init_9 := dk_seg dksX1_init_8 24 rfl rfl
theorem dksX1_init_10 : cX1_init.data.toList.drop 233 = dktX1_init_10 := dk_seg dksX1_init_9 24 rfl rfl
theorem dksX1_init_11 : cX1_init.data.toList.drop 257 = dktX1_init_11 := dk_seg dksX1_init_10 24 rfl rfl
theorem dksX1_init_12 : cX1_init.data.toList.drop 280 = dktX1_init_12 := dk_seg dksX1_init_11 23 rfl rfl
theorem dX1_init_0 : decode cX1_init 0 = .ok (.aload_n 0, 1) := dk_42 (dk_at dksX1_init_0 0 rfl rfl)
theorem dX1_init_1 : decode cX1_init 1 = .ok (.invokespecial 7, 3) := dk_183 0 7 (dk_at dksX1_init_0 1 rfl rfl)
theorem dX1_init_4 : decode cX1_init 4 = .ok (.aload_n 0, 1) := dk_42 (dk_at dksX1_init_0 4 rfl rfl)
theorem dX1_init_5 : decode cX1_init 5 = .ok (.bipush 40, 2) := dk_16 40 (dk_at dksX1_init_0 5 rfl rfl)
theorem dX1_init_7 : decode cX1_init 7 = .ok (.anewarray 13, 3) := dk_189 0 13 (dk_at dksX1_init_0 7 rfl rfl)
theorem dX1_init_10 : decode cX1_init 10 = .ok (.putfield 15, 3) := dk_181 0 15 (dk_at dksX1_init_0 10 rfl rfl)
theorem dX1_init_13 : decode cX1_init 13 = .ok (.aload_n 0, 1) := dk_42 (dk_at dksX1_init_0 13 rfl rfl)
theorem dX1_init_14 : decode cX1_init 14 = .ok (.sipush 601, 3) := dk_17 2 89 (dk_at dksX1_init_0 14 rfl rfl)
theorem dX1_init_17 : decode cX1_init 17 = .ok (.bipush 20, 2) := dk_16 20 (dk_at dksX1_init_0 17 rfl rfl)
theorem dX1_init_19 : decode cX1_init 19 = .ok (.multianewarray 19 2, 4) := by decide +kernel
theorem dX1_init_23 : decode cX1_init 23 = .ok (.putfield 21, 3) := dk_181 0 21 (dk_at dksX1_init_1 0 rfl rfl)
theorem dX1_init_26 : decode cX1_init 26 = .ok (.aload_n 0, 1) := dk_42 (dk_at dksX1_init_1 3 rfl rfl)
theorem dX1_init_27 : decode cX1_init 27 = .ok (.bipush 20, 2) := dk_16 20 (dk_at dksX1_init_1 4 rfl rfl)
theorem dX1_init_29 : decode cX1_init 29 = .ok (.newarray .int, 2) := dk_188_10 (dk_at dksX1_init_1 6 rfl rfl)
theorem dX1_init_31 : decode cX1_init 31 = .ok (.putfield 24, 3) := dk_181 0 24 (dk_at dksX1_init_1 8 rfl rfl)
theorem dX1_init_34 : decode cX1_init 34 = .ok (.aload_n 0, 1) := dk_42 (dk_at dksX1_init_1 11 rfl rfl)
theorem dX1_init_35 : decode cX1_init 35 = .ok (.bipush 12, 2) := dk_16 12 (dk_at dksX1_init_1 12 rfl rfl)
theorem dX1_init_37 : decode cX1_init 37 = .ok (.anewarray 28, 3) := dk_189 0 28 (dk_at dksX1_init_1 14 rfl rfl)
theorem dX1_init_40 : decode cX1_init 40 = .ok (.putfield 30, 3) := dk_181 0 30 (dk_at dksX1_init_1 17 rfl rfl)
theorem dX1_init_43 : decode cX1_init 43 = .ok (.aload_n 0, 1) := dk_42 (dk_at dksX1_init_1 20 rfl rfl)
theorem dX1_init_44 : decode cX1_init 44 = .ok (.bipush 6, 2) := dk_16 6 (dk_at dksX1_init_1 21 rfl rfl)
theorem dX1_init_46 : decode cX1_init 46 = .ok (.newarray .int, 2) := dk_188_10 (dk_at dksX1_init_2 0 rfl rfl)
theorem dX1_init_48 : decode cX1_init 48 = .ok (.putfield 34, 3) := dk_181 0 34 (dk_at dksX1_init_2 2 rfl rfl)
theorem dX1_init_51 : decode cX1_init 51 = .ok (.aload_n 0, 1) := dk_42 (dk_at dksX1_init_2 5 rfl rfl)
theorem dX1_init_52 : decode cX1_init 52 = .ok (.bipush 6, 2) := dk_16 6 (dk_at dksX1_init_2 6 rfl rfl)
theorem dX1_init_54 : decode cX1_init 54 = .ok (.newarray .int, 2) := dk_188_10 (dk_at dksX1_init_2 8 rfl rfl)
theorem dX1_init_56 : decode cX1_init 56 = .ok (.putfield 37, 3) := dk_181 0 37 (dk_at dksX1_init_2 10 rfl rfl)
theorem dX1_init_59 : decode cX1_init 59 = .ok (.aload_n 0, 1) := dk_42 (dk_at dksX1_init_2 13 rfl rfl)
theorem dX1_init_60 : decode cX1_init 60 = .ok (.bipush 20, 2) := dk_16 20 (dk_at dksX1_init_2 14 rfl rfl)
theorem dX1_init_62 : decode cX1_init 62 = .ok (.anewarray 40, 3) := dk_189 0 40 (dk_at dksX1_init_2 16 rfl rfl)
theorem dX1_init_65 : decode cX1_init 65 = .ok (.putfield 42, 3) := dk_181 0 42 (dk_at dksX1_init_2 19 rfl rfl)
theorem dX1_init_68 : decode cX1_init 68 = .ok (.aload_n 0, 1) := dk_42 (dk_at dksX1_init_2 22 rfl rfl)
theorem dX1_init_69 : decode cX1_init 69 = .ok (.bipush 16, 2) := dk_16 16 (dk_at dksX1_init_3 0 rfl rfl)
theorem dX1_init_71 : decode cX1_init 71 = .ok (.anewarray 46, 3) := dk_189 0 46 (dk_at dksX1_init_3 2 rfl rfl)
theorem dX1_init_74 : decode cX1_init 74 = .ok (.putfield 48, 3) := dk_181 0 48 (dk_at dksX1_init_3 5 rfl rfl)
theorem dX1_init_77 : decode cX1_init 77 = .ok (.aload_n 0, 1) := dk_42 (dk_at dksX1_init_3 8 rfl rfl)
theorem dX1_init_78 : decode cX1_init 78 = .ok (.sipush 128, 3) := dk_17 0 128 (dk_at dksX1_init_3 9 rfl rfl)
theorem dX1_init_81 : decode cX1_init 81 = .ok (.newarray .int, 2) := dk_188_10 (dk_at dksX1_init_3 12 rfl rfl)
theorem dX1_init_83 : decode cX1_init 83 = .ok (.putfield 52, 3) := dk_181 0 52 (dk_at dksX1_init_3 14 rfl rfl)
theorem dX1_init_86 : decode cX1_init 86 = .ok (.aload_n 0, 1) := dk_42 (dk_at dksX1_init_3 17 rfl rfl)
theorem dX1_init_87 : decode cX1_init 87 = .ok (.new 55, 3) := dk_187 0 55 (dk_at dksX1_init_3 18 rfl rfl)
theorem dX1_init_90 : decode cX1_init 90 = .ok (.dup, 1) := dk_89 (dk_at dksX1_init_3 21 rfl rfl)
theorem dX1_init_91 : decode cX1_init 91 = .ok (.invokespecial 57, 3) := dk_183 0 57 (dk_at dksX1_init_4 0 rfl rfl)
theorem dX1_init_94 : decode cX1_init 94 = .ok (.putfield 58, 3) := dk_181 0 58 (dk_at dksX1_init_4 3 rfl rfl)
theorem dX1_init_97 : decode cX1_init 97 = .ok (.aload_n 0, 1) := dk_42 (dk_at dksX1_init_4 6 rfl rfl)
theorem dX1_init_98 : decode cX1_init 98 = .ok (.sipush 200, 3) := dk_17 0 200 (dk_at dksX1_init_4 7 rfl rfl)
theorem dX1_init_101 : decode cX1_init 101 = .ok (.newarray .byte, 2) := dk_188_8 (dk_at dksX1_init_4 10 rfl rfl)
theorem dX1_init_103 : decode cX1_init 103 = .ok (.putfield 62, 3) := dk_181 0 62 (dk_at dksX1_init_4 12 rfl rfl)
theorem dX1_init_106 : decode cX1_init 106 = .ok (.aload_n 0, 1) := dk_42 (dk_at dksX1_init_4 15 rfl rfl)
theorem dX1_init_107 : decode cX1_init 107 = .ok (.bipush 20, 2) := dk_16 20 (dk_at dksX1_init_4 16 rfl rfl)
theorem dX1_init_109 : decode cX1_init 109 = .ok (.anewarray 66, 3) := dk_189 0 66 (dk_at dksX1_init_4 18 rfl rfl)
theorem dX1_init_112 : decode cX1_init 112 = .ok (.putfield 68, 3) := dk_181 0 68 (dk_at dksX1_init_4 21 rfl rfl)
theorem dX1_init_115 : decode cX1_init 115 = .ok (.aload_n 0, 1) := dk_42 (dk_at dksX1_init_5 0 rfl rfl)
theorem dX1_init_116 : decode cX1_init 116 = .ok (.bipush 60, 2) := dk_16 60 (dk_at dksX1_init_5 1 rfl rfl)
theorem dX1_init_118 : decode cX1_init 118 = .ok (.anewarray 72, 3) := dk_189 0 72 (dk_at dksX1_init_5 3 rfl rfl)
theorem dX1_init_121 : decode cX1_init 121 = .ok (.putfield 74, 3) := dk_181 0 74 (dk_at dksX1_init_5 6 rfl rfl)
theorem dX1_init_124 : decode cX1_init 124 = .ok (.aload_n 0, 1) := dk_42 (dk_at dksX1_init_5 9 rfl rfl)
theorem dX1_init_125 : decode cX1_init 125 = .ok (.iconst 5, 1) := dk_8 (dk_at dksX1_init_5 10 rfl rfl)
theorem dX1_init_126 : decode cX1_init 126 = .ok (.newarray .int, 2) := dk_188_10 (dk_at dksX1_init_5 11 rfl rfl)
theorem dX1_init_128 : decode cX1_init 128 = .ok (.putfield 78, 3) := dk_181 0 78 (dk_at dksX1_init_5 13 rfl rfl)
theorem dX1_init_131 : decode cX1_init 131 = .ok (.aload_n 0, 1) := dk_42 (dk_at dksX1_init_5 16 rfl rfl)
theorem dX1_init_132 : decode cX1_init 132 = .ok (.bipush 16, 2) := dk_16 16 (dk_at dksX1_init_5 17 rfl rfl)
theorem dX1_init_134 : decode cX1_init 134 = .ok (.newarray .int, 2) := dk_188_10 (dk_at dksX1_init_5 19 rfl rfl)
theorem dX1_init_136 : decode cX1_init 136 = .ok (.putfield 81, 3) := dk_181 0 81 (dk_at dksX1_init_5 21 rfl rfl)
theorem dX1_init_139 : decode cX1_init 139 = .ok (.aload_n 0, 1) := dk_42 (dk_at dksX1_init_6 0 rfl rfl)
theorem dX1_init_140 : decode cX1_init 140 = .ok (.bipush 12, 2) := dk_16 12 (dk_at dksX1_init_6 1 rfl rfl)
theorem dX1_init_142 : decode cX1_init 142 = .ok (.anewarray 66, 3) := dk_189 0 66 (dk_at dksX1_init_6 3 rfl rfl)
theorem dX1_init_145 : decode cX1_init 145 = .ok (.putfield 84, 3) := dk_181 0 84 (dk_at dksX1_init_6 6 rfl rfl)
theorem dX1_init_148 : decode cX1_init 148 = .ok (.aload_n 0, 1) := dk_42 (dk_at dksX1_init_6 9 rfl rfl)
theorem dX1_init_149 : decode cX1_init 149 = .ok (.bipush 12, 2) := dk_16 12 (dk_at dksX1_init_6 10 rfl rfl)
theorem dX1_init_151 : decode cX1_init 151 = .ok (.newarray .int, 2) := dk_188_10 (dk_at dksX1_init_6 12 rfl rfl)
theorem dX1_init_153 : decode cX1_init 153 = .ok (.putfield 87, 3) := dk_181 0 87 (dk_at dksX1_init_6 14 rfl rfl)
theorem dX1_init_156 : decode cX1_init 156 = .ok (.aload_n 0, 1) := dk_42 (dk_at dksX1_init_6 17 rfl rfl)
theorem dX1_init_157 : decode cX1_init 157 = .ok (.bipush 12, 2) := dk_16 12 (dk_at dksX1_init_6 18 rfl rfl)
theorem dX1_init_159 : decode cX1_init 159 = .ok (.newarray .int, 2) := dk_188_10 (dk_at dksX1_init_6 20 rfl rfl)
theorem dX1_init_161 : decode cX1_init 161 = .ok (.putfield 90, 3) := dk_181 0 90 (dk_at dksX1_init_7 0 rfl rfl)
theorem dX1_init_164 : decode cX1_init 164 = .ok (.aload_n 0, 1) := dk_42 (dk_at dksX1_init_7 3 rfl rfl)
theorem dX1_init_165 : decode cX1_init 165 = .ok (.bipush 100, 2) := dk_16 100 (dk_at dksX1_init_7 4 rfl rfl)
theorem dX1_init_167 : decode cX1_init 167 = .ok (.newarray .int, 2) := dk_188_10 (dk_at dksX1_init_7 6 rfl rfl)
theorem dX1_init_169 : decode cX1_init 169 = .ok (.putfield 93, 3) := dk_181 0 93 (dk_at dksX1_init_7 8 rfl rfl)
theorem dX1_init_172 : decode cX1_init 172 = .ok (.aload_n 0, 1) := dk_42 (dk_at dksX1_init_7 11 rfl rfl)
theorem dX1_init_173 : decode cX1_init 173 = .ok (.bipush 100, 2) := dk_16 100 (dk_at dksX1_init_7 12 rfl rfl)
theorem dX1_init_175 : decode cX1_init 175 = .ok (.newarray .int, 2) := dk_188_10 (dk_at dksX1_init_7 14 rfl rfl)
theorem dX1_init_177 : decode cX1_init 177 = .ok (.putfield 96, 3) := dk_181 0 96 (dk_at dksX1_init_7 16 rfl rfl)
theorem dX1_init_180 : decode cX1_init 180 = .ok (.aload_n 0, 1) := dk_42 (dk_at dksX1_init_7 19 rfl rfl)
theorem dX1_init_181 : decode cX1_init 181 = .ok (.bipush 100, 2) := dk_16 100 (dk_at dksX1_init_7 20 rfl rfl)
theorem dX1_init_183 : decode cX1_init 183 = .ok (.newarray .int, 2) := dk_188_10 (dk_at dksX1_init_7 22 rfl rfl)
theorem dX1_init_185 : decode cX1_init 185 = .ok (.putfield 99, 3) := dk_181 0 99 (dk_at dksX1_init_8 0 rfl rfl)
theorem dX1_init_188 : decode cX1_init 188 = .ok (.aload_n 0, 1) := dk_42 (dk_at dksX1_init_8 3 rfl rfl)
theorem dX1_init_189 : decode cX1_init 189 = .ok (.bipush 100, 2) := dk_16 100 (dk_at dksX1_init_8 4 rfl rfl)
theorem dX1_init_191 : decode cX1_init 191 = .ok (.newarray .int, 2) := dk_188_10 (dk_at dksX1_init_8 6 rfl rfl)
theorem dX1_init_193 : decode cX1_init 193 = .ok (.putfield 102, 3) := dk_181 0 102 (dk_at dksX1_init_8 8 rfl rfl)
theorem dX1_init_196 : decode cX1_init 196 = .ok (.aload_n 0, 1) := dk_42 (dk_at dksX1_init_8 11 rfl rfl)
theorem dX1_init_197 : decode cX1_init 197 = .ok (.bipush 8, 2) := dk_16 8 (dk_at dksX1_init_8 12 rfl rfl)
theorem dX1_init_199 : decode cX1_init 199 = .ok (.newarray .int, 2) := dk_188_10 (dk_at dksX1_init_8 14 rfl rfl)
theorem dX1_init_201 : decode cX1_init 201 = .ok (.putfield 105, 3) := dk_181 0 105 (dk_at dksX1_init_8 16 rfl rfl)
theorem dX1_init_204 : decode cX1_init 204 = .ok (.aload_n 0, 1) := dk_42 (dk_at dksX1_init_8 19 rfl rfl)
theorem dX1_init_205 : decode cX1_init 205 = .ok (.bipush 8, 2) := dk_16 8 (dk_at dksX1_init_8 20 rfl rfl)
theorem dX1_init_207 : decode cX1_init 207 = .ok (.newarray .int, 2) := dk_188_10 (dk_at dksX1_init_8 22 rfl rfl)
theorem dX1_init_209 : decode cX1_init 209 = .ok (.putfield 108, 3) := dk_181 0 108 (dk_at dksX1_init_9 0 rfl rfl)
theorem dX1_init_212 : decode cX1_init 212 = .ok (.aload_n 0, 1) := dk_42 (dk_at dksX1_init_9 3 rfl rfl)
theorem dX1_init_213 : decode cX1_init 213 = .ok (.bipush 8, 2) := dk_16 8 (dk_at dksX1_init_9 4 rfl rfl)
theorem dX1_init_215 : decode cX1_init 215 = .ok (.newarray .int, 2) := dk_188_10 (dk_at dksX1_init_9 6 rfl rfl)
theorem dX1_init_217 : decode cX1_init 217 = .ok (.putfield 111, 3) := dk_181 0 111 (dk_at dksX1_init_9 8 rfl rfl)
theorem dX1_init_220 : decode cX1_init 220 = .ok (.aload_n 0, 1) := dk_42 (dk_at dksX1_init_9 11 rfl rfl)
theorem dX1_init_221 : decode cX1_init 221 = .ok (.bipush 8, 2) := dk_16 8 (dk_at dksX1_init_9 12 rfl rfl)
theorem dX1_init_223 : decode cX1_init 223 = .ok (.newarray .int, 2) := dk_188_10 (dk_at dksX1_init_9 14 rfl rfl)
theorem dX1_init_225 : decode cX1_init 225 = .ok (.putfield 114, 3) := dk_181 0 114 (dk_at dksX1_init_9 16 rfl rfl)
theorem dX1_init_228 : decode cX1_init 228 = .ok (.aload_n 0, 1) := dk_42 (dk_at dksX1_init_9 19 rfl rfl)
theorem dX1_init_229 : decode cX1_init 229 = .ok (.bipush 9, 2) := dk_16 9 (dk_at dksX1_init_9 20 rfl rfl)
theorem dX1_init_231 : decode cX1_init 231 = .ok (.bipush 9, 2) := dk_16 9 (dk_at dksX1_init_9 22 rfl rfl)
theorem dX1_init_233 : decode cX1_init 233 = .ok (.multianewarray 117 2, 4) := by decide +kernel
theorem dX1_init_237 : decode cX1_init 237 = .ok (.putfield 119, 3) := dk_181 0 119 (dk_at dksX1_init_10 4 rfl rfl)
theorem dX1_init_240 : decode cX1_init 240 = .ok (.aload_n 0, 1) := dk_42 (dk_at dksX1_init_10 7 rfl rfl)
theorem dX1_init_241 : decode cX1_init 241 = .ok (.bipush 20, 2) := dk_16 20 (dk_at dksX1_init_10 8 rfl rfl)
theorem dX1_init_243 : decode cX1_init 243 = .ok (.bipush 20, 2) := dk_16 20 (dk_at dksX1_init_10 10 rfl rfl)
theorem dX1_init_245 : decode cX1_init 245 = .ok (.multianewarray 117 2, 4) := by decide +kernel
theorem dX1_init_249 : decode cX1_init 249 = .ok (.putfield 122, 3) := dk_181 0 122 (dk_at dksX1_init_10 16 rfl rfl)
theorem dX1_init_252 : decode cX1_init 252 = .ok (.aload_n 0, 1) := dk_42 (dk_at dksX1_init_10 19 rfl rfl)
theorem dX1_init_253 : decode cX1_init 253 = .ok (.bipush 20, 2) := dk_16 20 (dk_at dksX1_init_10 20 rfl rfl)
theorem dX1_init_255 : decode cX1_init 255 = .ok (.newarray .int, 2) := dk_188_10 (dk_at dksX1_init_10 22 rfl rfl)
theorem dX1_init_257 : decode cX1_init 257 = .ok (.putfield 125, 3) := dk_181 0 125 (dk_at dksX1_init_11 0 rfl rfl)
theorem dX1_init_260 : decode cX1_init 260 = .ok (.aload_n 0, 1) := dk_42 (dk_at dksX1_init_11 3 rfl rfl)
theorem dX1_init_261 : decode cX1_init 261 = .ok (.iconst 4, 1) := dk_7 (dk_at dksX1_init_11 4 rfl rfl)
theorem dX1_init_262 : decode cX1_init 262 = .ok (.newarray .int, 2) := dk_188_10 (dk_at dksX1_init_11 5 rfl rfl)
theorem dX1_init_264 : decode cX1_init 264 = .ok (.putfield 128, 3) := dk_181 0 128 (dk_at dksX1_init_11 7 rfl rfl)
theorem dX1_init_267 : decode cX1_init 267 = .ok (.aload_n 0, 1) := dk_42 (dk_at dksX1_init_11 10 rfl rfl)
theorem dX1_init_268 : decode cX1_init 268 = .ok (.iconst 4, 1) := dk_7 (dk_at dksX1_init_11 11 rfl rfl)
theorem dX1_init_269 : decode cX1_init 269 = .ok (.newarray .int, 2) := dk_188_10 (dk_at dksX1_init_11 12 rfl rfl)
theorem dX1_init_271 : decode cX1_init 271 = .ok (.putfield 131, 3) := dk_181 0 131 (dk_at dksX1_init_11 14 rfl rfl)
theorem dX1_init_274 : decode cX1_init 274 = .ok (.aload_n 0, 1) := dk_42 (dk_at dksX1_init_11 17 rfl rfl)
theorem dX1_init_275 : decode cX1_init 275 = .ok (.bipush 6, 2) := dk_16 6 (dk_at dksX1_init_11 18 rfl rfl)
theorem dX1_init_277 : decode cX1_init 277 = .ok (.anewarray 134, 3) := dk_189 0 134 (dk_at dksX1_init_11 20 rfl rfl)
theorem dX1_init_280 : decode cX1_init 280 = .ok (.putfield 136, 3) := dk_181 0 136 (dk_at dksX1_init_12 0 rfl rfl)
theorem dX1_init_283 : decode cX1_init 283 = .ok (.aload_n 0, 1) := dk_42 (dk_at dksX1_init_12 3 rfl rfl)
theorem dX1_init_284 : decode cX1_init 284 = .ok (.bipush 6, 2) := dk_16 6 (dk_at dksX1_init_12 4 rfl rfl)
theorem dX1_init_286 : decode cX1_init 286 = .ok (.newarray .int, 2) := dk_188_10 (dk_at dksX1_init_12 6 rfl rfl)
theorem dX1_init_288 : decode cX1_init 288 = .ok (.putfield 140, 3) := dk_181 0 140 (dk_at dksX1_init_12 8 rfl rfl)
theorem dX1_init_291 : decode cX1_init 291 = .ok (.return_, 1) := dk_177 (dk_at dksX1_init_12 11 rfl rfl)
abbrev cX1_street : ByteArray := prog_1_method_5_code
def yX1_street : MethodName := ⟨RX1, "street", "(III)I"⟩
def dkwX1_street_3 : List UInt8 := [42, 180, 0, 147, 4, 100, 172]
abbrev dktX1_street_3 : List UInt8 := dkwX1_street_3 ++ []
def dkwX1_street_2 : List UInt8 := [180, 0, 147, 187, 0, 13, 89, 27, 28, 29, 183, 0, 151, 83, 42, 89, 180, 0, 147, 4, 96, 181, 0, 147]
abbrev dktX1_street_2 : List UInt8 := dkwX1_street_2 ++ dktX1_street_3
def dkwX1_street_1 : List UInt8 := [184, 0, 3, 153, 0, 12, 42, 180, 0, 147, 16, 40, 160, 0, 5, 2, 172, 42, 180, 0, 15, 42]
abbrev dktX1_street_1 : List UInt8 := dkwX1_street_1 ++ dktX1_street_2
def dkwX1_street_0 : List UInt8 := [27, 184, 0, 143, 153, 0, 34, 28, 184, 0, 143, 153, 0, 27, 27, 28, 159, 0, 22, 29, 4, 16, 20]
abbrev dktX1_street_0 : List UInt8 := dkwX1_street_0 ++ dktX1_street_1
theorem dksX1_street_0 : cX1_street.data.toList.drop 0 = dktX1_street_0 := by decide +kernel
theorem dksX1_street_1 : cX1_street.data.toList.drop 23 = dktX1_street_1 := dk_seg dksX1_street_0 23 rfl rfl
theorem dksX1_street_2 : cX1_street.data.toList.drop 45 = dktX1_street_2 := dk_seg dksX1_street_1 22 rfl rfl
theorem dksX1_street_3 : cX1_street.data.toList.drop 69 = dktX1_street_3 := dk_seg dksX1_street_2 24 rfl rfl
theorem dX1_street_0 : decode cX1_street 0 = .ok (.iload_n 1, 1) := dk_27 (dk_at dksX1_street_0 0 rfl rfl)
theorem dX1_street_1 : decode cX1_street 1 = .ok (.invokestatic 143, 3) := dk_184 0 143 (dk_at dksX1_street_0 1 rfl rfl)
theorem dX1_street_4 : decode cX1_street 4 = .ok (.ifCond .eq 34, 3) := dk_153 0 34 (dk_at dksX1_street_0 4 rfl rfl)
theorem dX1_street_7 : decode cX1_street 7 = .ok (.iload_n 2, 1) := dk_28 (dk_at dksX1_street_0 7 rfl rfl)
theorem dX1_street_8 : decode cX1_street 8 = .ok (.invokestatic 143, 3) := dk_184 0 143 (dk_at dksX1_street_0 8 rfl rfl)
theorem dX1_street_11 : decode cX1_street 11 = .ok (.ifCond .eq 27, 3) := dk_153 0 27 (dk_at dksX1_street_0 11 rfl rfl)
theorem dX1_street_14 : decode cX1_street 14 = .ok (.iload_n 1, 1) := dk_27 (dk_at dksX1_street_0 14 rfl rfl)
theorem dX1_street_15 : decode cX1_street 15 = .ok (.iload_n 2, 1) := dk_28 (dk_at dksX1_street_0 15 rfl rfl)
theorem dX1_street_16 : decode cX1_street 16 = .ok (.if_icmp .eq 22, 3) := dk_159 0 22 (dk_at dksX1_street_0 16 rfl rfl)
theorem dX1_street_19 : decode cX1_street 19 = .ok (.iload_n 3, 1) := dk_29 (dk_at dksX1_street_0 19 rfl rfl)
theorem dX1_street_20 : decode cX1_street 20 = .ok (.iconst 1, 1) := dk_4 (dk_at dksX1_street_0 20 rfl rfl)
theorem dX1_street_21 : decode cX1_street 21 = .ok (.bipush 20, 2) := dk_16 20 (dk_at dksX1_street_0 21 rfl rfl)
theorem dX1_street_23 : decode cX1_street 23 = .ok (.invokestatic 3, 3) := dk_184 0 3 (dk_at dksX1_street_1 0 rfl rfl)
theorem dX1_street_26 : decode cX1_street 26 = .ok (.ifCond .eq 12, 3) := dk_153 0 12 (dk_at dksX1_street_1 3 rfl rfl)
theorem dX1_street_29 : decode cX1_street 29 = .ok (.aload_n 0, 1) := dk_42 (dk_at dksX1_street_1 6 rfl rfl)
theorem dX1_street_30 : decode cX1_street 30 = .ok (.getfield 147, 3) := dk_180 0 147 (dk_at dksX1_street_1 7 rfl rfl)
theorem dX1_street_33 : decode cX1_street 33 = .ok (.bipush 40, 2) := dk_16 40 (dk_at dksX1_street_1 10 rfl rfl)
theorem dX1_street_35 : decode cX1_street 35 = .ok (.if_icmp .ne 5, 3) := dk_160 0 5 (dk_at dksX1_street_1 12 rfl rfl)
theorem dX1_street_38 : decode cX1_street 38 = .ok (.iconst (-1), 1) := dk_2 (dk_at dksX1_street_1 15 rfl rfl)
theorem dX1_street_39 : decode cX1_street 39 = .ok (.ireturn, 1) := dk_172 (dk_at dksX1_street_1 16 rfl rfl)
theorem dX1_street_40 : decode cX1_street 40 = .ok (.aload_n 0, 1) := dk_42 (dk_at dksX1_street_1 17 rfl rfl)
theorem dX1_street_41 : decode cX1_street 41 = .ok (.getfield 15, 3) := dk_180 0 15 (dk_at dksX1_street_1 18 rfl rfl)
theorem dX1_street_44 : decode cX1_street 44 = .ok (.aload_n 0, 1) := dk_42 (dk_at dksX1_street_1 21 rfl rfl)
theorem dX1_street_45 : decode cX1_street 45 = .ok (.getfield 147, 3) := dk_180 0 147 (dk_at dksX1_street_2 0 rfl rfl)
theorem dX1_street_48 : decode cX1_street 48 = .ok (.new 13, 3) := dk_187 0 13 (dk_at dksX1_street_2 3 rfl rfl)
theorem dX1_street_51 : decode cX1_street 51 = .ok (.dup, 1) := dk_89 (dk_at dksX1_street_2 6 rfl rfl)
theorem dX1_street_52 : decode cX1_street 52 = .ok (.iload_n 1, 1) := dk_27 (dk_at dksX1_street_2 7 rfl rfl)
theorem dX1_street_53 : decode cX1_street 53 = .ok (.iload_n 2, 1) := dk_28 (dk_at dksX1_street_2 8 rfl rfl)
theorem dX1_street_54 : decode cX1_street 54 = .ok (.iload_n 3, 1) := dk_29 (dk_at dksX1_street_2 9 rfl rfl)
theorem dX1_street_55 : decode cX1_street 55 = .ok (.invokespecial 151, 3) := dk_183 0 151 (dk_at dksX1_street_2 10 rfl rfl)
theorem dX1_street_58 : decode cX1_street 58 = .ok (.aastore, 1) := dk_83 (dk_at dksX1_street_2 13 rfl rfl)
theorem dX1_street_59 : decode cX1_street 59 = .ok (.aload_n 0, 1) := dk_42 (dk_at dksX1_street_2 14 rfl rfl)
theorem dX1_street_60 : decode cX1_street 60 = .ok (.dup, 1) := dk_89 (dk_at dksX1_street_2 15 rfl rfl)
theorem dX1_street_61 : decode cX1_street 61 = .ok (.getfield 147, 3) := dk_180 0 147 (dk_at dksX1_street_2 16 rfl rfl)
theorem dX1_street_64 : decode cX1_street 64 = .ok (.iconst 1, 1) := dk_4 (dk_at dksX1_street_2 19 rfl rfl)
theorem dX1_street_65 : decode cX1_street 65 = .ok (.iadd, 1) := dk_96 (dk_at dksX1_street_2 20 rfl rfl)
theorem dX1_street_66 : decode cX1_street 66 = .ok (.putfield 147, 3) := dk_181 0 147 (dk_at dksX1_street_2 21 rfl rfl)
theorem dX1_street_69 : decode cX1_street 69 = .ok (.aload_n 0, 1) := dk_42 (dk_at dksX1_street_3 0 rfl rfl)
theorem dX1_street_70 : decode cX1_street 70 = .ok (.getfield 147, 3) := dk_180 0 147 (dk_at dksX1_street_3 1 rfl rfl)
theorem dX1_street_73 : decode cX1_street 73 = .ok (.iconst 1, 1) := dk_4 (dk_at dksX1_street_3 4 rfl rfl)
theorem dX1_street_74 : decode cX1_street 74 = .ok (.isub, 1) := dk_100 (dk_at dksX1_street_3 5 rfl rfl)
theorem dX1_street_75 : decode cX1_street 75 = .ok (.ireturn, 1) := dk_172 (dk_at dksX1_street_3 6 rfl rfl)
abbrev cX1_isCorner : ByteArray := prog_1_method_2_code
def yX1_isCorner : MethodName := ⟨RX1, "isCorner", "(I)Z"⟩
def dkwX1_isCorner_0 : List UInt8 := [26, 3, 16, 19, 184, 0, 3, 172]
abbrev dktX1_isCorner_0 : List UInt8 := dkwX1_isCorner_0 ++ []
theorem dksX1_isCorner_0 : cX1_isCorner.data.toList.drop 0 = dktX1_isCorner_0 := by decide +kernel
theorem dX1_isCorner_0 : decode cX1_isCorner 0 = .ok (.iload_n 0, 1) := dk_26 (dk_at dksX1_isCorner_0 0 rfl rfl)
theorem dX1_isCorner_1 : decode cX1_isCorner 1 = .ok (.iconst 0, 1) := dk_3 (dk_at dksX1_isCorner_0 1 rfl rfl)
theorem dX1_isCorner_2 : decode cX1_isCorner 2 = .ok (.bipush 19, 2) := dk_16 19 (dk_at dksX1_isCorner_0 2 rfl rfl)
theorem dX1_isCorner_4 : decode cX1_isCorner 4 = .ok (.invokestatic 3, 3) := dk_184 0 3 (dk_at dksX1_isCorner_0 4 rfl rfl)
theorem dX1_isCorner_7 : decode cX1_isCorner 7 = .ok (.ireturn, 1) := dk_172 (dk_at dksX1_isCorner_0 7 rfl rfl)
abbrev cX1_in : ByteArray := prog_1_method_1_code
def yX1_in : MethodName := ⟨RX1, "in", "(III)Z"⟩
def dkwX1_in_0 : List UInt8 := [26, 27, 161, 0, 12, 26, 28, 163, 0, 7, 4, 167, 0, 4, 3, 172]
abbrev dktX1_in_0 : List UInt8 := dkwX1_in_0 ++ []
theorem dksX1_in_0 : cX1_in.data.toList.drop 0 = dktX1_in_0 := by decide +kernel
theorem dX1_in_0 : decode cX1_in 0 = .ok (.iload_n 0, 1) := dk_26 (dk_at dksX1_in_0 0 rfl rfl)
theorem dX1_in_1 : decode cX1_in 1 = .ok (.iload_n 1, 1) := dk_27 (dk_at dksX1_in_0 1 rfl rfl)
theorem dX1_in_2 : decode cX1_in 2 = .ok (.if_icmp .lt 12, 3) := dk_161 0 12 (dk_at dksX1_in_0 2 rfl rfl)
theorem dX1_in_5 : decode cX1_in 5 = .ok (.iload_n 0, 1) := dk_26 (dk_at dksX1_in_0 5 rfl rfl)
theorem dX1_in_6 : decode cX1_in 6 = .ok (.iload_n 2, 1) := dk_28 (dk_at dksX1_in_0 6 rfl rfl)
theorem dX1_in_7 : decode cX1_in 7 = .ok (.if_icmp .gt 7, 3) := dk_163 0 7 (dk_at dksX1_in_0 7 rfl rfl)
theorem dX1_in_10 : decode cX1_in 10 = .ok (.iconst 1, 1) := dk_4 (dk_at dksX1_in_0 10 rfl rfl)
theorem dX1_in_11 : decode cX1_in 11 = .ok (.goto 4, 3) := dk_167 0 4 (dk_at dksX1_in_0 11 rfl rfl)
theorem dX1_in_14 : decode cX1_in 14 = .ok (.iconst 0, 1) := dk_3 (dk_at dksX1_in_0 14 rfl rfl)
theorem dX1_in_15 : decode cX1_in 15 = .ok (.ireturn, 1) := dk_172 (dk_at dksX1_in_0 15 rfl rfl)
abbrev cX1_jam : ByteArray := prog_1_method_7_code
def yX1_jam : MethodName := ⟨RX1, "jam", "(III)Z"⟩
def dkwX1_jam_1 : List UInt8 := [184, 0, 3, 154, 0, 5, 3, 172, 42, 180, 0, 15, 27, 50, 180, 0, 157, 28, 29, 79, 4, 172]
abbrev dktX1_jam_1 : List UInt8 := dkwX1_jam_1 ++ []
def dkwX1_jam_0 : List UInt8 := [42, 27, 182, 0, 154, 153, 0, 24, 28, 3, 6, 184, 0, 3, 153, 0, 15, 29, 16, 100, 17, 1, 144]
abbrev dktX1_jam_0 : List UInt8 := dkwX1_jam_0 ++ dktX1_jam_1
theorem dksX1_jam_0 : cX1_jam.data.toList.drop 0 = dktX1_jam_0 := by decide +kernel
theorem dksX1_jam_1 : cX1_jam.data.toList.drop 23 = dktX1_jam_1 := dk_seg dksX1_jam_0 23 rfl rfl
theorem dX1_jam_0 : decode cX1_jam 0 = .ok (.aload_n 0, 1) := dk_42 (dk_at dksX1_jam_0 0 rfl rfl)
theorem dX1_jam_1 : decode cX1_jam 1 = .ok (.iload_n 1, 1) := dk_27 (dk_at dksX1_jam_0 1 rfl rfl)
theorem dX1_jam_2 : decode cX1_jam 2 = .ok (.invokevirtual 154, 3) := dk_182 0 154 (dk_at dksX1_jam_0 2 rfl rfl)
theorem dX1_jam_5 : decode cX1_jam 5 = .ok (.ifCond .eq 24, 3) := dk_153 0 24 (dk_at dksX1_jam_0 5 rfl rfl)
theorem dX1_jam_8 : decode cX1_jam 8 = .ok (.iload_n 2, 1) := dk_28 (dk_at dksX1_jam_0 8 rfl rfl)
theorem dX1_jam_9 : decode cX1_jam 9 = .ok (.iconst 0, 1) := dk_3 (dk_at dksX1_jam_0 9 rfl rfl)
theorem dX1_jam_10 : decode cX1_jam 10 = .ok (.iconst 3, 1) := dk_6 (dk_at dksX1_jam_0 10 rfl rfl)
theorem dX1_jam_11 : decode cX1_jam 11 = .ok (.invokestatic 3, 3) := dk_184 0 3 (dk_at dksX1_jam_0 11 rfl rfl)
theorem dX1_jam_14 : decode cX1_jam 14 = .ok (.ifCond .eq 15, 3) := dk_153 0 15 (dk_at dksX1_jam_0 14 rfl rfl)
theorem dX1_jam_17 : decode cX1_jam 17 = .ok (.iload_n 3, 1) := dk_29 (dk_at dksX1_jam_0 17 rfl rfl)
theorem dX1_jam_18 : decode cX1_jam 18 = .ok (.bipush 100, 2) := dk_16 100 (dk_at dksX1_jam_0 18 rfl rfl)
theorem dX1_jam_20 : decode cX1_jam 20 = .ok (.sipush 400, 3) := dk_17 1 144 (dk_at dksX1_jam_0 20 rfl rfl)
theorem dX1_jam_23 : decode cX1_jam 23 = .ok (.invokestatic 3, 3) := dk_184 0 3 (dk_at dksX1_jam_1 0 rfl rfl)
theorem dX1_jam_26 : decode cX1_jam 26 = .ok (.ifCond .ne 5, 3) := dk_154 0 5 (dk_at dksX1_jam_1 3 rfl rfl)
theorem dX1_jam_29 : decode cX1_jam 29 = .ok (.iconst 0, 1) := dk_3 (dk_at dksX1_jam_1 6 rfl rfl)
theorem dX1_jam_30 : decode cX1_jam 30 = .ok (.ireturn, 1) := dk_172 (dk_at dksX1_jam_1 7 rfl rfl)
theorem dX1_jam_31 : decode cX1_jam 31 = .ok (.aload_n 0, 1) := dk_42 (dk_at dksX1_jam_1 8 rfl rfl)
theorem dX1_jam_32 : decode cX1_jam 32 = .ok (.getfield 15, 3) := dk_180 0 15 (dk_at dksX1_jam_1 9 rfl rfl)
theorem dX1_jam_35 : decode cX1_jam 35 = .ok (.iload_n 1, 1) := dk_27 (dk_at dksX1_jam_1 12 rfl rfl)
theorem dX1_jam_36 : decode cX1_jam 36 = .ok (.aaload, 1) := dk_50 (dk_at dksX1_jam_1 13 rfl rfl)
theorem dX1_jam_37 : decode cX1_jam 37 = .ok (.getfield 157, 3) := dk_180 0 157 (dk_at dksX1_jam_1 14 rfl rfl)
theorem dX1_jam_40 : decode cX1_jam 40 = .ok (.iload_n 2, 1) := dk_28 (dk_at dksX1_jam_1 17 rfl rfl)
theorem dX1_jam_41 : decode cX1_jam 41 = .ok (.iload_n 3, 1) := dk_29 (dk_at dksX1_jam_1 18 rfl rfl)
theorem dX1_jam_42 : decode cX1_jam 42 = .ok (.iastore, 1) := dk_79 (dk_at dksX1_jam_1 19 rfl rfl)
theorem dX1_jam_43 : decode cX1_jam 43 = .ok (.iconst 1, 1) := dk_4 (dk_at dksX1_jam_1 20 rfl rfl)
theorem dX1_jam_44 : decode cX1_jam 44 = .ok (.ireturn, 1) := dk_172 (dk_at dksX1_jam_1 21 rfl rfl)
abbrev cX1_isStreet : ByteArray := prog_1_method_6_code
def yX1_isStreet : MethodName := ⟨RX1, "isStreet", "(I)Z"⟩
def dkwX1_isStreet_0 : List UInt8 := [27, 3, 42, 180, 0, 147, 4, 100, 184, 0, 3, 172]
abbrev dktX1_isStreet_0 : List UInt8 := dkwX1_isStreet_0 ++ []
theorem dksX1_isStreet_0 : cX1_isStreet.data.toList.drop 0 = dktX1_isStreet_0 := by decide +kernel
theorem dX1_isStreet_0 : decode cX1_isStreet 0 = .ok (.iload_n 1, 1) := dk_27 (dk_at dksX1_isStreet_0 0 rfl rfl)
theorem dX1_isStreet_1 : decode cX1_isStreet 1 = .ok (.iconst 0, 1) := dk_3 (dk_at dksX1_isStreet_0 1 rfl rfl)
theorem dX1_isStreet_2 : decode cX1_isStreet 2 = .ok (.aload_n 0, 1) := dk_42 (dk_at dksX1_isStreet_0 2 rfl rfl)
theorem dX1_isStreet_3 : decode cX1_isStreet 3 = .ok (.getfield 147, 3) := dk_180 0 147 (dk_at dksX1_isStreet_0 3 rfl rfl)
theorem dX1_isStreet_6 : decode cX1_isStreet 6 = .ok (.iconst 1, 1) := dk_4 (dk_at dksX1_isStreet_0 6 rfl rfl)
theorem dX1_isStreet_7 : decode cX1_isStreet 7 = .ok (.isub, 1) := dk_100 (dk_at dksX1_isStreet_0 7 rfl rfl)
theorem dX1_isStreet_8 : decode cX1_isStreet 8 = .ok (.invokestatic 3, 3) := dk_184 0 3 (dk_at dksX1_isStreet_0 8 rfl rfl)
theorem dX1_isStreet_11 : decode cX1_isStreet 11 = .ok (.ireturn, 1) := dk_172 (dk_at dksX1_isStreet_0 11 rfl rfl)
abbrev cX1_closed : ByteArray := prog_1_method_8_code
def yX1_closed : MethodName := ⟨RX1, "closed", "(IZ)Z"⟩
def dkwX1_closed_1 : List UInt8 := [180, 0, 15, 27, 50, 28, 181, 0, 160, 4, 172]
abbrev dktX1_closed_1 : List UInt8 := dkwX1_closed_1 ++ []
def dkwX1_closed_0 : List UInt8 := [42, 27, 182, 0, 154, 153, 0, 16, 42, 180, 0, 15, 27, 50, 180, 0, 160, 28, 160, 0, 5, 3, 172, 42]
abbrev dktX1_closed_0 : List UInt8 := dkwX1_closed_0 ++ dktX1_closed_1
theorem dksX1_closed_0 : cX1_closed.data.toList.drop 0 = dktX1_closed_0 := by decide +kernel
theorem dksX1_closed_1 : cX1_closed.data.toList.drop 24 = dktX1_closed_1 := dk_seg dksX1_closed_0 24 rfl rfl
theorem dX1_closed_0 : decode cX1_closed 0 = .ok (.aload_n 0, 1) := dk_42 (dk_at dksX1_closed_0 0 rfl rfl)
theorem dX1_closed_1 : decode cX1_closed 1 = .ok (.iload_n 1, 1) := dk_27 (dk_at dksX1_closed_0 1 rfl rfl)
theorem dX1_closed_2 : decode cX1_closed 2 = .ok (.invokevirtual 154, 3) := dk_182 0 154 (dk_at dksX1_closed_0 2 rfl rfl)
theorem dX1_closed_5 : decode cX1_closed 5 = .ok (.ifCond .eq 16, 3) := dk_153 0 16 (dk_at dksX1_closed_0 5 rfl rfl)
theorem dX1_closed_8 : decode cX1_closed 8 = .ok (.aload_n 0, 1) := dk_42 (dk_at dksX1_closed_0 8 rfl rfl)
theorem dX1_closed_9 : decode cX1_closed 9 = .ok (.getfield 15, 3) := dk_180 0 15 (dk_at dksX1_closed_0 9 rfl rfl)
theorem dX1_closed_12 : decode cX1_closed 12 = .ok (.iload_n 1, 1) := dk_27 (dk_at dksX1_closed_0 12 rfl rfl)
theorem dX1_closed_13 : decode cX1_closed 13 = .ok (.aaload, 1) := dk_50 (dk_at dksX1_closed_0 13 rfl rfl)
theorem dX1_closed_14 : decode cX1_closed 14 = .ok (.getfield 160, 3) := dk_180 0 160 (dk_at dksX1_closed_0 14 rfl rfl)
theorem dX1_closed_17 : decode cX1_closed 17 = .ok (.iload_n 2, 1) := dk_28 (dk_at dksX1_closed_0 17 rfl rfl)
theorem dX1_closed_18 : decode cX1_closed 18 = .ok (.if_icmp .ne 5, 3) := dk_160 0 5 (dk_at dksX1_closed_0 18 rfl rfl)
theorem dX1_closed_21 : decode cX1_closed 21 = .ok (.iconst 0, 1) := dk_3 (dk_at dksX1_closed_0 21 rfl rfl)
theorem dX1_closed_22 : decode cX1_closed 22 = .ok (.ireturn, 1) := dk_172 (dk_at dksX1_closed_0 22 rfl rfl)
theorem dX1_closed_23 : decode cX1_closed 23 = .ok (.aload_n 0, 1) := dk_42 (dk_at dksX1_closed_0 23 rfl rfl)
theorem dX1_closed_24 : decode cX1_closed 24 = .ok (.getfield 15, 3) := dk_180 0 15 (dk_at dksX1_closed_1 0 rfl rfl)
theorem dX1_closed_27 : decode cX1_closed 27 = .ok (.iload_n 1, 1) := dk_27 (dk_at dksX1_closed_1 3 rfl rfl)
theorem dX1_closed_28 : decode cX1_closed 28 = .ok (.aaload, 1) := dk_50 (dk_at dksX1_closed_1 4 rfl rfl)
theorem dX1_closed_29 : decode cX1_closed 29 = .ok (.iload_n 2, 1) := dk_28 (dk_at dksX1_closed_1 5 rfl rfl)
theorem dX1_closed_30 : decode cX1_closed 30 = .ok (.putfield 160, 3) := dk_181 0 160 (dk_at dksX1_closed_1 6 rfl rfl)
theorem dX1_closed_33 : decode cX1_closed 33 = .ok (.iconst 1, 1) := dk_4 (dk_at dksX1_closed_1 9 rfl rfl)
theorem dX1_closed_34 : decode cX1_closed 34 = .ok (.ireturn, 1) := dk_172 (dk_at dksX1_closed_1 10 rfl rfl)
abbrev cX1_come : ByteArray := prog_1_method_11_code
def yX1_come : MethodName := ⟨RX1, "come", "(IIII)I"⟩
def dkwX1_come_2 : List UInt8 := [182, 0, 184, 167, 0, 4, 2, 172]
abbrev dktX1_come_2 : List UInt8 := dkwX1_come_2 ++ []
def dkwX1_come_1 : List UInt8 := [153, 0, 28, 21, 4, 16, 50, 17, 1, 44, 184, 0, 3, 153, 0, 15, 42, 27, 28, 29, 21, 4]
abbrev dktX1_come_1 : List UInt8 := dkwX1_come_1 ++ dktX1_come_2
def dkwX1_come_0 : List UInt8 := [27, 184, 0, 143, 153, 0, 46, 28, 184, 0, 143, 153, 0, 39, 29, 3, 17, 117, 48, 184, 0, 3]
abbrev dktX1_come_0 : List UInt8 := dkwX1_come_0 ++ dktX1_come_1
theorem dksX1_come_0 : cX1_come.data.toList.drop 0 = dktX1_come_0 := by decide +kernel
theorem dksX1_come_1 : cX1_come.data.toList.drop 22 = dktX1_come_1 := dk_seg dksX1_come_0 22 rfl rfl
theorem dksX1_come_2 : cX1_come.data.toList.drop 44 = dktX1_come_2 := dk_seg dksX1_come_1 22 rfl rfl
theorem dX1_come_0 : decode cX1_come 0 = .ok (.iload_n 1, 1) := dk_27 (dk_at dksX1_come_0 0 rfl rfl)
theorem dX1_come_1 : decode cX1_come 1 = .ok (.invokestatic 143, 3) := dk_184 0 143 (dk_at dksX1_come_0 1 rfl rfl)
theorem dX1_come_4 : decode cX1_come 4 = .ok (.ifCond .eq 46, 3) := dk_153 0 46 (dk_at dksX1_come_0 4 rfl rfl)
theorem dX1_come_7 : decode cX1_come 7 = .ok (.iload_n 2, 1) := dk_28 (dk_at dksX1_come_0 7 rfl rfl)
theorem dX1_come_8 : decode cX1_come 8 = .ok (.invokestatic 143, 3) := dk_184 0 143 (dk_at dksX1_come_0 8 rfl rfl)
theorem dX1_come_11 : decode cX1_come 11 = .ok (.ifCond .eq 39, 3) := dk_153 0 39 (dk_at dksX1_come_0 11 rfl rfl)
theorem dX1_come_14 : decode cX1_come 14 = .ok (.iload_n 3, 1) := dk_29 (dk_at dksX1_come_0 14 rfl rfl)
theorem dX1_come_15 : decode cX1_come 15 = .ok (.iconst 0, 1) := dk_3 (dk_at dksX1_come_0 15 rfl rfl)
theorem dX1_come_16 : decode cX1_come 16 = .ok (.sipush 30000, 3) := dk_17 117 48 (dk_at dksX1_come_0 16 rfl rfl)
theorem dX1_come_19 : decode cX1_come 19 = .ok (.invokestatic 3, 3) := dk_184 0 3 (dk_at dksX1_come_0 19 rfl rfl)
theorem dX1_come_22 : decode cX1_come 22 = .ok (.ifCond .eq 28, 3) := dk_153 0 28 (dk_at dksX1_come_1 0 rfl rfl)
theorem dX1_come_25 : decode cX1_come 25 = .ok (.iload 4, 2) := dk_21 4 (dk_at dksX1_come_1 3 rfl rfl)
theorem dX1_come_27 : decode cX1_come 27 = .ok (.bipush 50, 2) := dk_16 50 (dk_at dksX1_come_1 5 rfl rfl)
theorem dX1_come_29 : decode cX1_come 29 = .ok (.sipush 300, 3) := dk_17 1 44 (dk_at dksX1_come_1 7 rfl rfl)
theorem dX1_come_32 : decode cX1_come 32 = .ok (.invokestatic 3, 3) := dk_184 0 3 (dk_at dksX1_come_1 10 rfl rfl)
theorem dX1_come_35 : decode cX1_come 35 = .ok (.ifCond .eq 15, 3) := dk_153 0 15 (dk_at dksX1_come_1 13 rfl rfl)
theorem dX1_come_38 : decode cX1_come 38 = .ok (.aload_n 0, 1) := dk_42 (dk_at dksX1_come_1 16 rfl rfl)
theorem dX1_come_39 : decode cX1_come 39 = .ok (.iload_n 1, 1) := dk_27 (dk_at dksX1_come_1 17 rfl rfl)
theorem dX1_come_40 : decode cX1_come 40 = .ok (.iload_n 2, 1) := dk_28 (dk_at dksX1_come_1 18 rfl rfl)
theorem dX1_come_41 : decode cX1_come 41 = .ok (.iload_n 3, 1) := dk_29 (dk_at dksX1_come_1 19 rfl rfl)
theorem dX1_come_42 : decode cX1_come 42 = .ok (.iload 4, 2) := dk_21 4 (dk_at dksX1_come_1 20 rfl rfl)
theorem dX1_come_44 : decode cX1_come 44 = .ok (.invokevirtual 184, 3) := dk_182 0 184 (dk_at dksX1_come_2 0 rfl rfl)
theorem dX1_come_47 : decode cX1_come 47 = .ok (.goto 4, 3) := dk_167 0 4 (dk_at dksX1_come_2 3 rfl rfl)
theorem dX1_come_50 : decode cX1_come 50 = .ok (.iconst (-1), 1) := dk_2 (dk_at dksX1_come_2 6 rfl rfl)
theorem dX1_come_51 : decode cX1_come 51 = .ok (.ireturn, 1) := dk_172 (dk_at dksX1_come_2 7 rfl rfl)
abbrev cX1_comeOn : ByteArray := prog_1_method_9_code
def yX1_comeOn : MethodName := ⟨RX1, "comeOn", "(IIII)I"⟩
def dkwX1_comeOn_5 : List UInt8 := [182, 0, 170, 132, 6, 1, 167, 255, 215, 132, 5, 1, 167, 255, 181, 2, 172]
abbrev dktX1_comeOn_5 : List UInt8 := dkwX1_comeOn_5 ++ []
def dkwX1_comeOn_4 : List UInt8 := [21, 6, 50, 180, 0, 160, 154, 0, 19, 42, 42, 180, 0, 15, 21, 6, 50, 21, 5, 29, 21, 4]
abbrev dktX1_comeOn_4 : List UInt8 := dkwX1_comeOn_4 ++ dktX1_comeOn_5
def dkwX1_comeOn_3 : List UInt8 := [153, 0, 8, 29, 21, 5, 96, 172, 3, 54, 6, 21, 6, 42, 180, 0, 147, 162, 0, 38, 42, 180, 0, 15]
abbrev dktX1_comeOn_3 : List UInt8 := dkwX1_comeOn_3 ++ dktX1_comeOn_4
def dkwX1_comeOn_2 : List UInt8 := [4, 84, 3, 54, 5, 21, 5, 17, 2, 88, 163, 0, 73, 42, 180, 0, 21, 21, 5, 50, 28, 51]
abbrev dktX1_comeOn_2 : List UInt8 := dkwX1_comeOn_2 ++ dktX1_comeOn_3
def dkwX1_comeOn_1 : List UInt8 := [21, 7, 50, 58, 8, 25, 8, 3, 184, 0, 164, 132, 7, 1, 167, 255, 233, 42, 180, 0, 21, 3, 50, 27]
abbrev dktX1_comeOn_1 : List UInt8 := dkwX1_comeOn_1 ++ dktX1_comeOn_2
def dkwX1_comeOn_0 : List UInt8 := [42, 180, 0, 21, 58, 5, 25, 5, 190, 54, 6, 3, 54, 7, 21, 7, 21, 6, 162, 0, 22, 25, 5]
abbrev dktX1_comeOn_0 : List UInt8 := dkwX1_comeOn_0 ++ dktX1_comeOn_1
theorem dksX1_comeOn_0 : cX1_comeOn.data.toList.drop 0 = dktX1_comeOn_0 := by decide +kernel
theorem dksX1_comeOn_1 : cX1_comeOn.data.toList.drop 23 = dktX1_comeOn_1 := dk_seg dksX1_comeOn_0 23 rfl rfl
theorem dksX1_comeOn_2 : cX1_comeOn.data.toList.drop 47 = dktX1_comeOn_2 := dk_seg dksX1_comeOn_1 24 rfl rfl
theorem dksX1_comeOn_3 : cX1_comeOn.data.toList.drop 69 = dktX1_comeOn_3 := dk_seg dksX1_comeOn_2 22 rfl rfl
theorem dksX1_comeOn_4 : cX1_comeOn.data.toList.drop 93 = dktX1_comeOn_4 := dk_seg dksX1_comeOn_3 24 rfl rfl
theorem dksX1_comeOn_5 : cX1_comeOn.data.toList.drop 115 = dktX1_comeOn_5 := dk_seg dksX1_comeOn_4 22 rfl rfl
theorem dX1_comeOn_0 : decode cX1_comeOn 0 = .ok (.aload_n 0, 1) := dk_42 (dk_at dksX1_comeOn_0 0 rfl rfl)
theorem dX1_comeOn_1 : decode cX1_comeOn 1 = .ok (.getfield 21, 3) := dk_180 0 21 (dk_at dksX1_comeOn_0 1 rfl rfl)
theorem dX1_comeOn_4 : decode cX1_comeOn 4 = .ok (.astore 5, 2) := dk_58 5 (dk_at dksX1_comeOn_0 4 rfl rfl)
theorem dX1_comeOn_6 : decode cX1_comeOn 6 = .ok (.aload 5, 2) := dk_25 5 (dk_at dksX1_comeOn_0 6 rfl rfl)
theorem dX1_comeOn_8 : decode cX1_comeOn 8 = .ok (.arraylength, 1) := dk_190 (dk_at dksX1_comeOn_0 8 rfl rfl)
theorem dX1_comeOn_9 : decode cX1_comeOn 9 = .ok (.istore 6, 2) := dk_54 6 (dk_at dksX1_comeOn_0 9 rfl rfl)
theorem dX1_comeOn_11 : decode cX1_comeOn 11 = .ok (.iconst 0, 1) := dk_3 (dk_at dksX1_comeOn_0 11 rfl rfl)
theorem dX1_comeOn_12 : decode cX1_comeOn 12 = .ok (.istore 7, 2) := dk_54 7 (dk_at dksX1_comeOn_0 12 rfl rfl)
theorem dX1_comeOn_14 : decode cX1_comeOn 14 = .ok (.iload 7, 2) := dk_21 7 (dk_at dksX1_comeOn_0 14 rfl rfl)
theorem dX1_comeOn_16 : decode cX1_comeOn 16 = .ok (.iload 6, 2) := dk_21 6 (dk_at dksX1_comeOn_0 16 rfl rfl)
theorem dX1_comeOn_18 : decode cX1_comeOn 18 = .ok (.if_icmp .ge 22, 3) := dk_162 0 22 (dk_at dksX1_comeOn_0 18 rfl rfl)
theorem dX1_comeOn_21 : decode cX1_comeOn 21 = .ok (.aload 5, 2) := dk_25 5 (dk_at dksX1_comeOn_0 21 rfl rfl)
theorem dX1_comeOn_23 : decode cX1_comeOn 23 = .ok (.iload 7, 2) := dk_21 7 (dk_at dksX1_comeOn_1 0 rfl rfl)
theorem dX1_comeOn_25 : decode cX1_comeOn 25 = .ok (.aaload, 1) := dk_50 (dk_at dksX1_comeOn_1 2 rfl rfl)
theorem dX1_comeOn_26 : decode cX1_comeOn 26 = .ok (.astore 8, 2) := dk_58 8 (dk_at dksX1_comeOn_1 3 rfl rfl)
theorem dX1_comeOn_28 : decode cX1_comeOn 28 = .ok (.aload 8, 2) := dk_25 8 (dk_at dksX1_comeOn_1 5 rfl rfl)
theorem dX1_comeOn_30 : decode cX1_comeOn 30 = .ok (.iconst 0, 1) := dk_3 (dk_at dksX1_comeOn_1 7 rfl rfl)
theorem dX1_comeOn_31 : decode cX1_comeOn 31 = .ok (.invokestatic 164, 3) := dk_184 0 164 (dk_at dksX1_comeOn_1 8 rfl rfl)
theorem dX1_comeOn_34 : decode cX1_comeOn 34 = .ok (.iinc 7 1, 3) := dk_132 7 1 (dk_at dksX1_comeOn_1 11 rfl rfl)
theorem dX1_comeOn_37 : decode cX1_comeOn 37 = .ok (.goto (-23), 3) := dk_167 255 233 (dk_at dksX1_comeOn_1 14 rfl rfl)
theorem dX1_comeOn_40 : decode cX1_comeOn 40 = .ok (.aload_n 0, 1) := dk_42 (dk_at dksX1_comeOn_1 17 rfl rfl)
theorem dX1_comeOn_41 : decode cX1_comeOn 41 = .ok (.getfield 21, 3) := dk_180 0 21 (dk_at dksX1_comeOn_1 18 rfl rfl)
theorem dX1_comeOn_44 : decode cX1_comeOn 44 = .ok (.iconst 0, 1) := dk_3 (dk_at dksX1_comeOn_1 21 rfl rfl)
theorem dX1_comeOn_45 : decode cX1_comeOn 45 = .ok (.aaload, 1) := dk_50 (dk_at dksX1_comeOn_1 22 rfl rfl)
theorem dX1_comeOn_46 : decode cX1_comeOn 46 = .ok (.iload_n 1, 1) := dk_27 (dk_at dksX1_comeOn_1 23 rfl rfl)
theorem dX1_comeOn_47 : decode cX1_comeOn 47 = .ok (.iconst 1, 1) := dk_4 (dk_at dksX1_comeOn_2 0 rfl rfl)
theorem dX1_comeOn_48 : decode cX1_comeOn 48 = .ok (.bastore, 1) := dk_84 (dk_at dksX1_comeOn_2 1 rfl rfl)
theorem dX1_comeOn_49 : decode cX1_comeOn 49 = .ok (.iconst 0, 1) := dk_3 (dk_at dksX1_comeOn_2 2 rfl rfl)
theorem dX1_comeOn_50 : decode cX1_comeOn 50 = .ok (.istore 5, 2) := dk_54 5 (dk_at dksX1_comeOn_2 3 rfl rfl)
theorem dX1_comeOn_52 : decode cX1_comeOn 52 = .ok (.iload 5, 2) := dk_21 5 (dk_at dksX1_comeOn_2 5 rfl rfl)
theorem dX1_comeOn_54 : decode cX1_comeOn 54 = .ok (.sipush 600, 3) := dk_17 2 88 (dk_at dksX1_comeOn_2 7 rfl rfl)
theorem dX1_comeOn_57 : decode cX1_comeOn 57 = .ok (.if_icmp .gt 73, 3) := dk_163 0 73 (dk_at dksX1_comeOn_2 10 rfl rfl)
theorem dX1_comeOn_60 : decode cX1_comeOn 60 = .ok (.aload_n 0, 1) := dk_42 (dk_at dksX1_comeOn_2 13 rfl rfl)
theorem dX1_comeOn_61 : decode cX1_comeOn 61 = .ok (.getfield 21, 3) := dk_180 0 21 (dk_at dksX1_comeOn_2 14 rfl rfl)
theorem dX1_comeOn_64 : decode cX1_comeOn 64 = .ok (.iload 5, 2) := dk_21 5 (dk_at dksX1_comeOn_2 17 rfl rfl)
theorem dX1_comeOn_66 : decode cX1_comeOn 66 = .ok (.aaload, 1) := dk_50 (dk_at dksX1_comeOn_2 19 rfl rfl)
theorem dX1_comeOn_67 : decode cX1_comeOn 67 = .ok (.iload_n 2, 1) := dk_28 (dk_at dksX1_comeOn_2 20 rfl rfl)
theorem dX1_comeOn_68 : decode cX1_comeOn 68 = .ok (.baload, 1) := dk_51 (dk_at dksX1_comeOn_2 21 rfl rfl)
theorem dX1_comeOn_69 : decode cX1_comeOn 69 = .ok (.ifCond .eq 8, 3) := dk_153 0 8 (dk_at dksX1_comeOn_3 0 rfl rfl)
theorem dX1_comeOn_72 : decode cX1_comeOn 72 = .ok (.iload_n 3, 1) := dk_29 (dk_at dksX1_comeOn_3 3 rfl rfl)
theorem dX1_comeOn_73 : decode cX1_comeOn 73 = .ok (.iload 5, 2) := dk_21 5 (dk_at dksX1_comeOn_3 4 rfl rfl)
theorem dX1_comeOn_75 : decode cX1_comeOn 75 = .ok (.iadd, 1) := dk_96 (dk_at dksX1_comeOn_3 6 rfl rfl)
theorem dX1_comeOn_76 : decode cX1_comeOn 76 = .ok (.ireturn, 1) := dk_172 (dk_at dksX1_comeOn_3 7 rfl rfl)
theorem dX1_comeOn_77 : decode cX1_comeOn 77 = .ok (.iconst 0, 1) := dk_3 (dk_at dksX1_comeOn_3 8 rfl rfl)
theorem dX1_comeOn_78 : decode cX1_comeOn 78 = .ok (.istore 6, 2) := dk_54 6 (dk_at dksX1_comeOn_3 9 rfl rfl)
theorem dX1_comeOn_80 : decode cX1_comeOn 80 = .ok (.iload 6, 2) := dk_21 6 (dk_at dksX1_comeOn_3 11 rfl rfl)
theorem dX1_comeOn_82 : decode cX1_comeOn 82 = .ok (.aload_n 0, 1) := dk_42 (dk_at dksX1_comeOn_3 13 rfl rfl)
theorem dX1_comeOn_83 : decode cX1_comeOn 83 = .ok (.getfield 147, 3) := dk_180 0 147 (dk_at dksX1_comeOn_3 14 rfl rfl)
theorem dX1_comeOn_86 : decode cX1_comeOn 86 = .ok (.if_icmp .ge 38, 3) := dk_162 0 38 (dk_at dksX1_comeOn_3 17 rfl rfl)
theorem dX1_comeOn_89 : decode cX1_comeOn 89 = .ok (.aload_n 0, 1) := dk_42 (dk_at dksX1_comeOn_3 20 rfl rfl)
theorem dX1_comeOn_90 : decode cX1_comeOn 90 = .ok (.getfield 15, 3) := dk_180 0 15 (dk_at dksX1_comeOn_3 21 rfl rfl)
theorem dX1_comeOn_93 : decode cX1_comeOn 93 = .ok (.iload 6, 2) := dk_21 6 (dk_at dksX1_comeOn_4 0 rfl rfl)
theorem dX1_comeOn_95 : decode cX1_comeOn 95 = .ok (.aaload, 1) := dk_50 (dk_at dksX1_comeOn_4 2 rfl rfl)
theorem dX1_comeOn_96 : decode cX1_comeOn 96 = .ok (.getfield 160, 3) := dk_180 0 160 (dk_at dksX1_comeOn_4 3 rfl rfl)
theorem dX1_comeOn_99 : decode cX1_comeOn 99 = .ok (.ifCond .ne 19, 3) := dk_154 0 19 (dk_at dksX1_comeOn_4 6 rfl rfl)
theorem dX1_comeOn_102 : decode cX1_comeOn 102 = .ok (.aload_n 0, 1) := dk_42 (dk_at dksX1_comeOn_4 9 rfl rfl)
theorem dX1_comeOn_103 : decode cX1_comeOn 103 = .ok (.aload_n 0, 1) := dk_42 (dk_at dksX1_comeOn_4 10 rfl rfl)
theorem dX1_comeOn_104 : decode cX1_comeOn 104 = .ok (.getfield 15, 3) := dk_180 0 15 (dk_at dksX1_comeOn_4 11 rfl rfl)
theorem dX1_comeOn_107 : decode cX1_comeOn 107 = .ok (.iload 6, 2) := dk_21 6 (dk_at dksX1_comeOn_4 14 rfl rfl)
theorem dX1_comeOn_109 : decode cX1_comeOn 109 = .ok (.aaload, 1) := dk_50 (dk_at dksX1_comeOn_4 16 rfl rfl)
theorem dX1_comeOn_110 : decode cX1_comeOn 110 = .ok (.iload 5, 2) := dk_21 5 (dk_at dksX1_comeOn_4 17 rfl rfl)
theorem dX1_comeOn_112 : decode cX1_comeOn 112 = .ok (.iload_n 3, 1) := dk_29 (dk_at dksX1_comeOn_4 19 rfl rfl)
theorem dX1_comeOn_113 : decode cX1_comeOn 113 = .ok (.iload 4, 2) := dk_21 4 (dk_at dksX1_comeOn_4 20 rfl rfl)
theorem dX1_comeOn_115 : decode cX1_comeOn 115 = .ok (.invokevirtual 170, 3) := dk_182 0 170 (dk_at dksX1_comeOn_5 0 rfl rfl)
theorem dX1_comeOn_118 : decode cX1_comeOn 118 = .ok (.iinc 6 1, 3) := dk_132 6 1 (dk_at dksX1_comeOn_5 3 rfl rfl)
theorem dX1_comeOn_121 : decode cX1_comeOn 121 = .ok (.goto (-41), 3) := dk_167 255 215 (dk_at dksX1_comeOn_5 6 rfl rfl)
theorem dX1_comeOn_124 : decode cX1_comeOn 124 = .ok (.iinc 5 1, 3) := dk_132 5 1 (dk_at dksX1_comeOn_5 9 rfl rfl)
theorem dX1_comeOn_127 : decode cX1_comeOn 127 = .ok (.goto (-75), 3) := dk_167 255 181 (dk_at dksX1_comeOn_5 12 rfl rfl)
theorem dX1_comeOn_130 : decode cX1_comeOn 130 = .ok (.iconst (-1), 1) := dk_2 (dk_at dksX1_comeOn_5 15 rfl rfl)
theorem dX1_comeOn_131 : decode cX1_comeOn 131 = .ok (.ireturn, 1) := dk_172 (dk_at dksX1_comeOn_5 16 rfl rfl)
abbrev cX1_pass : ByteArray := prog_1_method_10_code
def yX1_pass : MethodName := ⟨RX1, "pass", "(LCityBrigade$Street;III)V"⟩
def dkwX1_pass_4 : List UInt8 := [180, 0, 21, 21, 5, 50, 43, 180, 0, 174, 4, 84, 177]
abbrev dktX1_pass_4 : List UInt8 := dkwX1_pass_4 ++ []
def dkwX1_pass_3 : List UInt8 := [50, 43, 180, 0, 177, 4, 84, 42, 180, 0, 21, 28, 50, 43, 180, 0, 177, 51, 153, 0, 16, 42]
abbrev dktX1_pass_3 : List UInt8 := dkwX1_pass_3 ++ dktX1_pass_4
def dkwX1_pass_2 : List UInt8 := [164, 0, 4, 177, 42, 180, 0, 21, 28, 50, 43, 180, 0, 174, 51, 153, 0, 16, 42, 180, 0, 21, 21, 5]
abbrev dktX1_pass_2 : List UInt8 := dkwX1_pass_2 ++ dktX1_pass_3
def dkwX1_pass_1 : List UInt8 := [51, 154, 0, 4, 177, 28, 43, 29, 28, 96, 21, 4, 182, 0, 180, 96, 54, 5, 21, 5, 17, 2, 88]
abbrev dktX1_pass_1 : List UInt8 := dkwX1_pass_1 ++ dktX1_pass_2
def dkwX1_pass_0 : List UInt8 := [42, 180, 0, 21, 28, 50, 43, 180, 0, 174, 51, 154, 0, 18, 42, 180, 0, 21, 28, 50, 43, 180, 0, 177]
abbrev dktX1_pass_0 : List UInt8 := dkwX1_pass_0 ++ dktX1_pass_1
theorem dksX1_pass_0 : cX1_pass.data.toList.drop 0 = dktX1_pass_0 := by decide +kernel
theorem dksX1_pass_1 : cX1_pass.data.toList.drop 24 = dktX1_pass_1 := dk_seg dksX1_pass_0 24 rfl rfl
theorem dksX1_pass_2 : cX1_pass.data.toList.drop 47 = dktX1_pass_2 := dk_seg dksX1_pass_1 23 rfl rfl
theorem dksX1_pass_3 : cX1_pass.data.toList.drop 71 = dktX1_pass_3 := dk_seg dksX1_pass_2 24 rfl rfl
theorem dksX1_pass_4 : cX1_pass.data.toList.drop 93 = dktX1_pass_4 := dk_seg dksX1_pass_3 22 rfl rfl
theorem dX1_pass_0 : decode cX1_pass 0 = .ok (.aload_n 0, 1) := dk_42 (dk_at dksX1_pass_0 0 rfl rfl)
theorem dX1_pass_1 : decode cX1_pass 1 = .ok (.getfield 21, 3) := dk_180 0 21 (dk_at dksX1_pass_0 1 rfl rfl)
theorem dX1_pass_4 : decode cX1_pass 4 = .ok (.iload_n 2, 1) := dk_28 (dk_at dksX1_pass_0 4 rfl rfl)
theorem dX1_pass_5 : decode cX1_pass 5 = .ok (.aaload, 1) := dk_50 (dk_at dksX1_pass_0 5 rfl rfl)
theorem dX1_pass_6 : decode cX1_pass 6 = .ok (.aload_n 1, 1) := dk_43 (dk_at dksX1_pass_0 6 rfl rfl)
theorem dX1_pass_7 : decode cX1_pass 7 = .ok (.getfield 174, 3) := dk_180 0 174 (dk_at dksX1_pass_0 7 rfl rfl)
theorem dX1_pass_10 : decode cX1_pass 10 = .ok (.baload, 1) := dk_51 (dk_at dksX1_pass_0 10 rfl rfl)
theorem dX1_pass_11 : decode cX1_pass 11 = .ok (.ifCond .ne 18, 3) := dk_154 0 18 (dk_at dksX1_pass_0 11 rfl rfl)
theorem dX1_pass_14 : decode cX1_pass 14 = .ok (.aload_n 0, 1) := dk_42 (dk_at dksX1_pass_0 14 rfl rfl)
theorem dX1_pass_15 : decode cX1_pass 15 = .ok (.getfield 21, 3) := dk_180 0 21 (dk_at dksX1_pass_0 15 rfl rfl)
theorem dX1_pass_18 : decode cX1_pass 18 = .ok (.iload_n 2, 1) := dk_28 (dk_at dksX1_pass_0 18 rfl rfl)
theorem dX1_pass_19 : decode cX1_pass 19 = .ok (.aaload, 1) := dk_50 (dk_at dksX1_pass_0 19 rfl rfl)
theorem dX1_pass_20 : decode cX1_pass 20 = .ok (.aload_n 1, 1) := dk_43 (dk_at dksX1_pass_0 20 rfl rfl)
theorem dX1_pass_21 : decode cX1_pass 21 = .ok (.getfield 177, 3) := dk_180 0 177 (dk_at dksX1_pass_0 21 rfl rfl)
theorem dX1_pass_24 : decode cX1_pass 24 = .ok (.baload, 1) := dk_51 (dk_at dksX1_pass_1 0 rfl rfl)
theorem dX1_pass_25 : decode cX1_pass 25 = .ok (.ifCond .ne 4, 3) := dk_154 0 4 (dk_at dksX1_pass_1 1 rfl rfl)
theorem dX1_pass_28 : decode cX1_pass 28 = .ok (.return_, 1) := dk_177 (dk_at dksX1_pass_1 4 rfl rfl)
theorem dX1_pass_29 : decode cX1_pass 29 = .ok (.iload_n 2, 1) := dk_28 (dk_at dksX1_pass_1 5 rfl rfl)
theorem dX1_pass_30 : decode cX1_pass 30 = .ok (.aload_n 1, 1) := dk_43 (dk_at dksX1_pass_1 6 rfl rfl)
theorem dX1_pass_31 : decode cX1_pass 31 = .ok (.iload_n 3, 1) := dk_29 (dk_at dksX1_pass_1 7 rfl rfl)
theorem dX1_pass_32 : decode cX1_pass 32 = .ok (.iload_n 2, 1) := dk_28 (dk_at dksX1_pass_1 8 rfl rfl)
theorem dX1_pass_33 : decode cX1_pass 33 = .ok (.iadd, 1) := dk_96 (dk_at dksX1_pass_1 9 rfl rfl)
theorem dX1_pass_34 : decode cX1_pass 34 = .ok (.iload 4, 2) := dk_21 4 (dk_at dksX1_pass_1 10 rfl rfl)
theorem dX1_pass_36 : decode cX1_pass 36 = .ok (.invokevirtual 180, 3) := dk_182 0 180 (dk_at dksX1_pass_1 12 rfl rfl)
theorem dX1_pass_39 : decode cX1_pass 39 = .ok (.iadd, 1) := dk_96 (dk_at dksX1_pass_1 15 rfl rfl)
theorem dX1_pass_40 : decode cX1_pass 40 = .ok (.istore 5, 2) := dk_54 5 (dk_at dksX1_pass_1 16 rfl rfl)
theorem dX1_pass_42 : decode cX1_pass 42 = .ok (.iload 5, 2) := dk_21 5 (dk_at dksX1_pass_1 18 rfl rfl)
theorem dX1_pass_44 : decode cX1_pass 44 = .ok (.sipush 600, 3) := dk_17 2 88 (dk_at dksX1_pass_1 20 rfl rfl)
theorem dX1_pass_47 : decode cX1_pass 47 = .ok (.if_icmp .le 4, 3) := dk_164 0 4 (dk_at dksX1_pass_2 0 rfl rfl)
theorem dX1_pass_50 : decode cX1_pass 50 = .ok (.return_, 1) := dk_177 (dk_at dksX1_pass_2 3 rfl rfl)
theorem dX1_pass_51 : decode cX1_pass 51 = .ok (.aload_n 0, 1) := dk_42 (dk_at dksX1_pass_2 4 rfl rfl)
theorem dX1_pass_52 : decode cX1_pass 52 = .ok (.getfield 21, 3) := dk_180 0 21 (dk_at dksX1_pass_2 5 rfl rfl)
theorem dX1_pass_55 : decode cX1_pass 55 = .ok (.iload_n 2, 1) := dk_28 (dk_at dksX1_pass_2 8 rfl rfl)
theorem dX1_pass_56 : decode cX1_pass 56 = .ok (.aaload, 1) := dk_50 (dk_at dksX1_pass_2 9 rfl rfl)
theorem dX1_pass_57 : decode cX1_pass 57 = .ok (.aload_n 1, 1) := dk_43 (dk_at dksX1_pass_2 10 rfl rfl)
theorem dX1_pass_58 : decode cX1_pass 58 = .ok (.getfield 174, 3) := dk_180 0 174 (dk_at dksX1_pass_2 11 rfl rfl)
theorem dX1_pass_61 : decode cX1_pass 61 = .ok (.baload, 1) := dk_51 (dk_at dksX1_pass_2 14 rfl rfl)
theorem dX1_pass_62 : decode cX1_pass 62 = .ok (.ifCond .eq 16, 3) := dk_153 0 16 (dk_at dksX1_pass_2 15 rfl rfl)
theorem dX1_pass_65 : decode cX1_pass 65 = .ok (.aload_n 0, 1) := dk_42 (dk_at dksX1_pass_2 18 rfl rfl)
theorem dX1_pass_66 : decode cX1_pass 66 = .ok (.getfield 21, 3) := dk_180 0 21 (dk_at dksX1_pass_2 19 rfl rfl)
theorem dX1_pass_69 : decode cX1_pass 69 = .ok (.iload 5, 2) := dk_21 5 (dk_at dksX1_pass_2 22 rfl rfl)
theorem dX1_pass_71 : decode cX1_pass 71 = .ok (.aaload, 1) := dk_50 (dk_at dksX1_pass_3 0 rfl rfl)
theorem dX1_pass_72 : decode cX1_pass 72 = .ok (.aload_n 1, 1) := dk_43 (dk_at dksX1_pass_3 1 rfl rfl)
theorem dX1_pass_73 : decode cX1_pass 73 = .ok (.getfield 177, 3) := dk_180 0 177 (dk_at dksX1_pass_3 2 rfl rfl)
theorem dX1_pass_76 : decode cX1_pass 76 = .ok (.iconst 1, 1) := dk_4 (dk_at dksX1_pass_3 5 rfl rfl)
theorem dX1_pass_77 : decode cX1_pass 77 = .ok (.bastore, 1) := dk_84 (dk_at dksX1_pass_3 6 rfl rfl)
theorem dX1_pass_78 : decode cX1_pass 78 = .ok (.aload_n 0, 1) := dk_42 (dk_at dksX1_pass_3 7 rfl rfl)
theorem dX1_pass_79 : decode cX1_pass 79 = .ok (.getfield 21, 3) := dk_180 0 21 (dk_at dksX1_pass_3 8 rfl rfl)
theorem dX1_pass_82 : decode cX1_pass 82 = .ok (.iload_n 2, 1) := dk_28 (dk_at dksX1_pass_3 11 rfl rfl)
theorem dX1_pass_83 : decode cX1_pass 83 = .ok (.aaload, 1) := dk_50 (dk_at dksX1_pass_3 12 rfl rfl)
theorem dX1_pass_84 : decode cX1_pass 84 = .ok (.aload_n 1, 1) := dk_43 (dk_at dksX1_pass_3 13 rfl rfl)
theorem dX1_pass_85 : decode cX1_pass 85 = .ok (.getfield 177, 3) := dk_180 0 177 (dk_at dksX1_pass_3 14 rfl rfl)
theorem dX1_pass_88 : decode cX1_pass 88 = .ok (.baload, 1) := dk_51 (dk_at dksX1_pass_3 17 rfl rfl)
theorem dX1_pass_89 : decode cX1_pass 89 = .ok (.ifCond .eq 16, 3) := dk_153 0 16 (dk_at dksX1_pass_3 18 rfl rfl)
theorem dX1_pass_92 : decode cX1_pass 92 = .ok (.aload_n 0, 1) := dk_42 (dk_at dksX1_pass_3 21 rfl rfl)
theorem dX1_pass_93 : decode cX1_pass 93 = .ok (.getfield 21, 3) := dk_180 0 21 (dk_at dksX1_pass_4 0 rfl rfl)
theorem dX1_pass_96 : decode cX1_pass 96 = .ok (.iload 5, 2) := dk_21 5 (dk_at dksX1_pass_4 3 rfl rfl)
theorem dX1_pass_98 : decode cX1_pass 98 = .ok (.aaload, 1) := dk_50 (dk_at dksX1_pass_4 5 rfl rfl)
theorem dX1_pass_99 : decode cX1_pass 99 = .ok (.aload_n 1, 1) := dk_43 (dk_at dksX1_pass_4 6 rfl rfl)
theorem dX1_pass_100 : decode cX1_pass 100 = .ok (.getfield 174, 3) := dk_180 0 174 (dk_at dksX1_pass_4 7 rfl rfl)
theorem dX1_pass_103 : decode cX1_pass 103 = .ok (.iconst 1, 1) := dk_4 (dk_at dksX1_pass_4 10 rfl rfl)
theorem dX1_pass_104 : decode cX1_pass 104 = .ok (.bastore, 1) := dk_84 (dk_at dksX1_pass_4 11 rfl rfl)
theorem dX1_pass_105 : decode cX1_pass 105 = .ok (.return_, 1) := dk_177 (dk_at dksX1_pass_4 12 rfl rfl)
abbrev cX1_partOf : ByteArray := prog_1_method_3_code
def yX1_partOf : MethodName := ⟨RX1, "partOf", "(I)I"⟩
def dkwX1_partOf_0 : List UInt8 := [26, 17, 1, 104, 108, 7, 112, 172]
abbrev dktX1_partOf_0 : List UInt8 := dkwX1_partOf_0 ++ []
theorem dksX1_partOf_0 : cX1_partOf.data.toList.drop 0 = dktX1_partOf_0 := by decide +kernel
theorem dX1_partOf_0 : decode cX1_partOf 0 = .ok (.iload_n 0, 1) := dk_26 (dk_at dksX1_partOf_0 0 rfl rfl)
theorem dX1_partOf_1 : decode cX1_partOf 1 = .ok (.sipush 360, 3) := dk_17 1 104 (dk_at dksX1_partOf_0 1 rfl rfl)
theorem dX1_partOf_4 : decode cX1_partOf 4 = .ok (.idiv, 1) := dk_108 (dk_at dksX1_partOf_0 4 rfl rfl)
theorem dX1_partOf_5 : decode cX1_partOf 5 = .ok (.iconst 4, 1) := dk_7 (dk_at dksX1_partOf_0 5 rfl rfl)
theorem dX1_partOf_6 : decode cX1_partOf 6 = .ok (.irem, 1) := dk_112 (dk_at dksX1_partOf_0 6 rfl rfl)
theorem dX1_partOf_7 : decode cX1_partOf 7 = .ok (.ireturn, 1) := dk_172 (dk_at dksX1_partOf_0 7 rfl rfl)
abbrev cX1_feet : ByteArray := prog_1_method_14_code
def yX1_feet : MethodName := ⟨RX1, "feet", "(II)I"⟩
def dkwX1_feet_1 : List UInt8 := [18, 188, 160, 0, 7, 2, 167, 0, 7, 16, 100, 29, 104, 172]
abbrev dktX1_feet_1 : List UInt8 := dkwX1_feet_1 ++ []
def dkwX1_feet_0 : List UInt8 := [27, 184, 0, 143, 153, 0, 10, 28, 184, 0, 143, 154, 0, 5, 2, 172, 42, 27, 28, 182, 0, 196, 62, 29]
abbrev dktX1_feet_0 : List UInt8 := dkwX1_feet_0 ++ dktX1_feet_1
theorem dksX1_feet_0 : cX1_feet.data.toList.drop 0 = dktX1_feet_0 := by decide +kernel
theorem dksX1_feet_1 : cX1_feet.data.toList.drop 24 = dktX1_feet_1 := dk_seg dksX1_feet_0 24 rfl rfl
theorem dX1_feet_0 : decode cX1_feet 0 = .ok (.iload_n 1, 1) := dk_27 (dk_at dksX1_feet_0 0 rfl rfl)
theorem dX1_feet_1 : decode cX1_feet 1 = .ok (.invokestatic 143, 3) := dk_184 0 143 (dk_at dksX1_feet_0 1 rfl rfl)
theorem dX1_feet_4 : decode cX1_feet 4 = .ok (.ifCond .eq 10, 3) := dk_153 0 10 (dk_at dksX1_feet_0 4 rfl rfl)
theorem dX1_feet_7 : decode cX1_feet 7 = .ok (.iload_n 2, 1) := dk_28 (dk_at dksX1_feet_0 7 rfl rfl)
theorem dX1_feet_8 : decode cX1_feet 8 = .ok (.invokestatic 143, 3) := dk_184 0 143 (dk_at dksX1_feet_0 8 rfl rfl)
theorem dX1_feet_11 : decode cX1_feet 11 = .ok (.ifCond .ne 5, 3) := dk_154 0 5 (dk_at dksX1_feet_0 11 rfl rfl)
theorem dX1_feet_14 : decode cX1_feet 14 = .ok (.iconst (-1), 1) := dk_2 (dk_at dksX1_feet_0 14 rfl rfl)
theorem dX1_feet_15 : decode cX1_feet 15 = .ok (.ireturn, 1) := dk_172 (dk_at dksX1_feet_0 15 rfl rfl)
theorem dX1_feet_16 : decode cX1_feet 16 = .ok (.aload_n 0, 1) := dk_42 (dk_at dksX1_feet_0 16 rfl rfl)
theorem dX1_feet_17 : decode cX1_feet 17 = .ok (.iload_n 1, 1) := dk_27 (dk_at dksX1_feet_0 17 rfl rfl)
theorem dX1_feet_18 : decode cX1_feet 18 = .ok (.iload_n 2, 1) := dk_28 (dk_at dksX1_feet_0 18 rfl rfl)
theorem dX1_feet_19 : decode cX1_feet 19 = .ok (.invokevirtual 196, 3) := dk_182 0 196 (dk_at dksX1_feet_0 19 rfl rfl)
theorem dX1_feet_22 : decode cX1_feet 22 = .ok (.istore_n 3, 1) := dk_62 (dk_at dksX1_feet_0 22 rfl rfl)
theorem dX1_feet_23 : decode cX1_feet 23 = .ok (.iload_n 3, 1) := dk_29 (dk_at dksX1_feet_0 23 rfl rfl)
theorem dX1_feet_24 : decode cX1_feet 24 = .ok (.ldc 188, 2) := dk_18 188 (dk_at dksX1_feet_1 0 rfl rfl)
theorem dX1_feet_26 : decode cX1_feet 26 = .ok (.if_icmp .ne 7, 3) := dk_160 0 7 (dk_at dksX1_feet_1 2 rfl rfl)
theorem dX1_feet_29 : decode cX1_feet 29 = .ok (.iconst (-1), 1) := dk_2 (dk_at dksX1_feet_1 5 rfl rfl)
theorem dX1_feet_30 : decode cX1_feet 30 = .ok (.goto 7, 3) := dk_167 0 7 (dk_at dksX1_feet_1 6 rfl rfl)
theorem dX1_feet_33 : decode cX1_feet 33 = .ok (.bipush 100, 2) := dk_16 100 (dk_at dksX1_feet_1 9 rfl rfl)
theorem dX1_feet_35 : decode cX1_feet 35 = .ok (.iload_n 3, 1) := dk_29 (dk_at dksX1_feet_1 11 rfl rfl)
theorem dX1_feet_36 : decode cX1_feet 36 = .ok (.imul, 1) := dk_104 (dk_at dksX1_feet_1 12 rfl rfl)
theorem dX1_feet_37 : decode cX1_feet 37 = .ok (.ireturn, 1) := dk_172 (dk_at dksX1_feet_1 13 rfl rfl)
abbrev cX1_walkOf : ByteArray := prog_1_method_13_code
def yX1_walkOf : MethodName := ⟨RX1, "walkOf", "(II)I"⟩
def dkwX1_walkOf_0 : List UInt8 := [42, 27, 182, 0, 192, 42, 180, 0, 24, 28, 46, 172]
abbrev dktX1_walkOf_0 : List UInt8 := dkwX1_walkOf_0 ++ []
theorem dksX1_walkOf_0 : cX1_walkOf.data.toList.drop 0 = dktX1_walkOf_0 := by decide +kernel
theorem dX1_walkOf_0 : decode cX1_walkOf 0 = .ok (.aload_n 0, 1) := dk_42 (dk_at dksX1_walkOf_0 0 rfl rfl)
theorem dX1_walkOf_1 : decode cX1_walkOf 1 = .ok (.iload_n 1, 1) := dk_27 (dk_at dksX1_walkOf_0 1 rfl rfl)
theorem dX1_walkOf_2 : decode cX1_walkOf 2 = .ok (.invokevirtual 192, 3) := dk_182 0 192 (dk_at dksX1_walkOf_0 2 rfl rfl)
theorem dX1_walkOf_5 : decode cX1_walkOf 5 = .ok (.aload_n 0, 1) := dk_42 (dk_at dksX1_walkOf_0 5 rfl rfl)
theorem dX1_walkOf_6 : decode cX1_walkOf 6 = .ok (.getfield 24, 3) := dk_180 0 24 (dk_at dksX1_walkOf_0 6 rfl rfl)
theorem dX1_walkOf_9 : decode cX1_walkOf 9 = .ok (.iload_n 2, 1) := dk_28 (dk_at dksX1_walkOf_0 9 rfl rfl)
theorem dX1_walkOf_10 : decode cX1_walkOf 10 = .ok (.iaload, 1) := dk_46 (dk_at dksX1_walkOf_0 10 rfl rfl)
theorem dX1_walkOf_11 : decode cX1_walkOf 11 = .ok (.ireturn, 1) := dk_172 (dk_at dksX1_walkOf_0 11 rfl rfl)
abbrev cX1_stroll : ByteArray := prog_1_method_12_code
def yX1_stroll : MethodName := ⟨RX1, "stroll", "(I)V"⟩
def dkwX1_stroll_7 : List UInt8 := [25, 4, 180, 0, 189, 96, 79, 4, 61, 132, 3, 1, 167, 255, 123, 167, 255, 112, 177]
abbrev dktX1_stroll_7 : List UInt8 := dkwX1_stroll_7 ++ []
def dkwX1_stroll_6 : List UInt8 := [46, 162, 0, 31, 42, 180, 0, 24, 25, 4, 180, 0, 174, 42, 180, 0, 24, 25, 4, 180, 0, 177, 46]
abbrev dktX1_stroll_6 : List UInt8 := dkwX1_stroll_6 ++ dktX1_stroll_7
def dkwX1_stroll_5 : List UInt8 := [180, 0, 24, 25, 4, 180, 0, 177, 46, 25, 4, 180, 0, 189, 96, 42, 180, 0, 24, 25, 4, 180, 0, 174]
abbrev dktX1_stroll_5 : List UInt8 := dkwX1_stroll_5 ++ dktX1_stroll_6
def dkwX1_stroll_4 : List UInt8 := [180, 0, 177, 42, 180, 0, 24, 25, 4, 180, 0, 174, 46, 25, 4, 180, 0, 189, 96, 79, 4, 61, 42]
abbrev dktX1_stroll_4 : List UInt8 := dkwX1_stroll_4 ++ dktX1_stroll_5
def dkwX1_stroll_3 : List UInt8 := [180, 0, 189, 96, 42, 180, 0, 24, 25, 4, 180, 0, 177, 46, 162, 0, 31, 42, 180, 0, 24, 25, 4]
abbrev dktX1_stroll_3 : List UInt8 := dkwX1_stroll_3 ++ dktX1_stroll_4
def dkwX1_stroll_2 : List UInt8 := [162, 0, 131, 42, 180, 0, 15, 29, 50, 58, 4, 42, 180, 0, 24, 25, 4, 180, 0, 174, 46, 25, 4]
abbrev dktX1_stroll_2 : List UInt8 := dkwX1_stroll_2 ++ dktX1_stroll_3
def dkwX1_stroll_1 : List UInt8 := [79, 132, 2, 1, 167, 255, 230, 4, 61, 28, 153, 0, 146, 3, 61, 3, 62, 29, 42, 180, 0, 147]
abbrev dktX1_stroll_1 : List UInt8 := dkwX1_stroll_1 ++ dktX1_stroll_2
def dkwX1_stroll_0 : List UInt8 := [3, 61, 28, 16, 20, 162, 0, 26, 42, 180, 0, 24, 28, 28, 27, 160, 0, 7, 3, 167, 0, 5, 18, 188]
abbrev dktX1_stroll_0 : List UInt8 := dkwX1_stroll_0 ++ dktX1_stroll_1
theorem dksX1_stroll_0 : cX1_stroll.data.toList.drop 0 = dktX1_stroll_0 := by decide +kernel
theorem dksX1_stroll_1 : cX1_stroll.data.toList.drop 24 = dktX1_stroll_1 := dk_seg dksX1_stroll_0 24 rfl rfl
theorem dksX1_stroll_2 : cX1_stroll.data.toList.drop 46 = dktX1_stroll_2 := dk_seg dksX1_stroll_1 22 rfl rfl
theorem dksX1_stroll_3 : cX1_stroll.data.toList.drop 69 = dktX1_stroll_3 := dk_seg dksX1_stroll_2 23 rfl rfl
theorem dksX1_stroll_4 : cX1_stroll.data.toList.drop 92 = dktX1_stroll_4 := dk_seg dksX1_stroll_3 23 rfl rfl
theorem dksX1_stroll_5 : cX1_stroll.data.toList.drop 115 = dktX1_stroll_5 := dk_seg dksX1_stroll_4 23 rfl rfl
theorem dksX1_stroll_6 : cX1_stroll.data.toList.drop 139 = dktX1_stroll_6 := dk_seg dksX1_stroll_5 24 rfl rfl
theorem dksX1_stroll_7 : cX1_stroll.data.toList.drop 162 = dktX1_stroll_7 := dk_seg dksX1_stroll_6 23 rfl rfl
theorem dX1_stroll_0 : decode cX1_stroll 0 = .ok (.iconst 0, 1) := dk_3 (dk_at dksX1_stroll_0 0 rfl rfl)
theorem dX1_stroll_1 : decode cX1_stroll 1 = .ok (.istore_n 2, 1) := dk_61 (dk_at dksX1_stroll_0 1 rfl rfl)
theorem dX1_stroll_2 : decode cX1_stroll 2 = .ok (.iload_n 2, 1) := dk_28 (dk_at dksX1_stroll_0 2 rfl rfl)
theorem dX1_stroll_3 : decode cX1_stroll 3 = .ok (.bipush 20, 2) := dk_16 20 (dk_at dksX1_stroll_0 3 rfl rfl)
theorem dX1_stroll_5 : decode cX1_stroll 5 = .ok (.if_icmp .ge 26, 3) := dk_162 0 26 (dk_at dksX1_stroll_0 5 rfl rfl)
theorem dX1_stroll_8 : decode cX1_stroll 8 = .ok (.aload_n 0, 1) := dk_42 (dk_at dksX1_stroll_0 8 rfl rfl)
theorem dX1_stroll_9 : decode cX1_stroll 9 = .ok (.getfield 24, 3) := dk_180 0 24 (dk_at dksX1_stroll_0 9 rfl rfl)
theorem dX1_stroll_12 : decode cX1_stroll 12 = .ok (.iload_n 2, 1) := dk_28 (dk_at dksX1_stroll_0 12 rfl rfl)
theorem dX1_stroll_13 : decode cX1_stroll 13 = .ok (.iload_n 2, 1) := dk_28 (dk_at dksX1_stroll_0 13 rfl rfl)
theorem dX1_stroll_14 : decode cX1_stroll 14 = .ok (.iload_n 1, 1) := dk_27 (dk_at dksX1_stroll_0 14 rfl rfl)
theorem dX1_stroll_15 : decode cX1_stroll 15 = .ok (.if_icmp .ne 7, 3) := dk_160 0 7 (dk_at dksX1_stroll_0 15 rfl rfl)
theorem dX1_stroll_18 : decode cX1_stroll 18 = .ok (.iconst 0, 1) := dk_3 (dk_at dksX1_stroll_0 18 rfl rfl)
theorem dX1_stroll_19 : decode cX1_stroll 19 = .ok (.goto 5, 3) := dk_167 0 5 (dk_at dksX1_stroll_0 19 rfl rfl)
theorem dX1_stroll_22 : decode cX1_stroll 22 = .ok (.ldc 188, 2) := dk_18 188 (dk_at dksX1_stroll_0 22 rfl rfl)
theorem dX1_stroll_24 : decode cX1_stroll 24 = .ok (.iastore, 1) := dk_79 (dk_at dksX1_stroll_1 0 rfl rfl)
theorem dX1_stroll_25 : decode cX1_stroll 25 = .ok (.iinc 2 1, 3) := dk_132 2 1 (dk_at dksX1_stroll_1 1 rfl rfl)
theorem dX1_stroll_28 : decode cX1_stroll 28 = .ok (.goto (-26), 3) := dk_167 255 230 (dk_at dksX1_stroll_1 4 rfl rfl)
theorem dX1_stroll_31 : decode cX1_stroll 31 = .ok (.iconst 1, 1) := dk_4 (dk_at dksX1_stroll_1 7 rfl rfl)
theorem dX1_stroll_32 : decode cX1_stroll 32 = .ok (.istore_n 2, 1) := dk_61 (dk_at dksX1_stroll_1 8 rfl rfl)
theorem dX1_stroll_33 : decode cX1_stroll 33 = .ok (.iload_n 2, 1) := dk_28 (dk_at dksX1_stroll_1 9 rfl rfl)
theorem dX1_stroll_34 : decode cX1_stroll 34 = .ok (.ifCond .eq 146, 3) := dk_153 0 146 (dk_at dksX1_stroll_1 10 rfl rfl)
theorem dX1_stroll_37 : decode cX1_stroll 37 = .ok (.iconst 0, 1) := dk_3 (dk_at dksX1_stroll_1 13 rfl rfl)
theorem dX1_stroll_38 : decode cX1_stroll 38 = .ok (.istore_n 2, 1) := dk_61 (dk_at dksX1_stroll_1 14 rfl rfl)
theorem dX1_stroll_39 : decode cX1_stroll 39 = .ok (.iconst 0, 1) := dk_3 (dk_at dksX1_stroll_1 15 rfl rfl)
theorem dX1_stroll_40 : decode cX1_stroll 40 = .ok (.istore_n 3, 1) := dk_62 (dk_at dksX1_stroll_1 16 rfl rfl)
theorem dX1_stroll_41 : decode cX1_stroll 41 = .ok (.iload_n 3, 1) := dk_29 (dk_at dksX1_stroll_1 17 rfl rfl)
theorem dX1_stroll_42 : decode cX1_stroll 42 = .ok (.aload_n 0, 1) := dk_42 (dk_at dksX1_stroll_1 18 rfl rfl)
theorem dX1_stroll_43 : decode cX1_stroll 43 = .ok (.getfield 147, 3) := dk_180 0 147 (dk_at dksX1_stroll_1 19 rfl rfl)
theorem dX1_stroll_46 : decode cX1_stroll 46 = .ok (.if_icmp .ge 131, 3) := dk_162 0 131 (dk_at dksX1_stroll_2 0 rfl rfl)
theorem dX1_stroll_49 : decode cX1_stroll 49 = .ok (.aload_n 0, 1) := dk_42 (dk_at dksX1_stroll_2 3 rfl rfl)
theorem dX1_stroll_50 : decode cX1_stroll 50 = .ok (.getfield 15, 3) := dk_180 0 15 (dk_at dksX1_stroll_2 4 rfl rfl)
theorem dX1_stroll_53 : decode cX1_stroll 53 = .ok (.iload_n 3, 1) := dk_29 (dk_at dksX1_stroll_2 7 rfl rfl)
theorem dX1_stroll_54 : decode cX1_stroll 54 = .ok (.aaload, 1) := dk_50 (dk_at dksX1_stroll_2 8 rfl rfl)
theorem dX1_stroll_55 : decode cX1_stroll 55 = .ok (.astore 4, 2) := dk_58 4 (dk_at dksX1_stroll_2 9 rfl rfl)
theorem dX1_stroll_57 : decode cX1_stroll 57 = .ok (.aload_n 0, 1) := dk_42 (dk_at dksX1_stroll_2 11 rfl rfl)
theorem dX1_stroll_58 : decode cX1_stroll 58 = .ok (.getfield 24, 3) := dk_180 0 24 (dk_at dksX1_stroll_2 12 rfl rfl)
theorem dX1_stroll_61 : decode cX1_stroll 61 = .ok (.aload 4, 2) := dk_25 4 (dk_at dksX1_stroll_2 15 rfl rfl)
theorem dX1_stroll_63 : decode cX1_stroll 63 = .ok (.getfield 174, 3) := dk_180 0 174 (dk_at dksX1_stroll_2 17 rfl rfl)
theorem dX1_stroll_66 : decode cX1_stroll 66 = .ok (.iaload, 1) := dk_46 (dk_at dksX1_stroll_2 20 rfl rfl)
theorem dX1_stroll_67 : decode cX1_stroll 67 = .ok (.aload 4, 2) := dk_25 4 (dk_at dksX1_stroll_2 21 rfl rfl)
theorem dX1_stroll_69 : decode cX1_stroll 69 = .ok (.getfield 189, 3) := dk_180 0 189 (dk_at dksX1_stroll_3 0 rfl rfl)
theorem dX1_stroll_72 : decode cX1_stroll 72 = .ok (.iadd, 1) := dk_96 (dk_at dksX1_stroll_3 3 rfl rfl)
theorem dX1_stroll_73 : decode cX1_stroll 73 = .ok (.aload_n 0, 1) := dk_42 (dk_at dksX1_stroll_3 4 rfl rfl)
theorem dX1_stroll_74 : decode cX1_stroll 74 = .ok (.getfield 24, 3) := dk_180 0 24 (dk_at dksX1_stroll_3 5 rfl rfl)
theorem dX1_stroll_77 : decode cX1_stroll 77 = .ok (.aload 4, 2) := dk_25 4 (dk_at dksX1_stroll_3 8 rfl rfl)
theorem dX1_stroll_79 : decode cX1_stroll 79 = .ok (.getfield 177, 3) := dk_180 0 177 (dk_at dksX1_stroll_3 10 rfl rfl)
theorem dX1_stroll_82 : decode cX1_stroll 82 = .ok (.iaload, 1) := dk_46 (dk_at dksX1_stroll_3 13 rfl rfl)
theorem dX1_stroll_83 : decode cX1_stroll 83 = .ok (.if_icmp .ge 31, 3) := dk_162 0 31 (dk_at dksX1_stroll_3 14 rfl rfl)
theorem dX1_stroll_86 : decode cX1_stroll 86 = .ok (.aload_n 0, 1) := dk_42 (dk_at dksX1_stroll_3 17 rfl rfl)
theorem dX1_stroll_87 : decode cX1_stroll 87 = .ok (.getfield 24, 3) := dk_180 0 24 (dk_at dksX1_stroll_3 18 rfl rfl)
theorem dX1_stroll_90 : decode cX1_stroll 90 = .ok (.aload 4, 2) := dk_25 4 (dk_at dksX1_stroll_3 21 rfl rfl)
theorem dX1_stroll_92 : decode cX1_stroll 92 = .ok (.getfield 177, 3) := dk_180 0 177 (dk_at dksX1_stroll_4 0 rfl rfl)
theorem dX1_stroll_95 : decode cX1_stroll 95 = .ok (.aload_n 0, 1) := dk_42 (dk_at dksX1_stroll_4 3 rfl rfl)
theorem dX1_stroll_96 : decode cX1_stroll 96 = .ok (.getfield 24, 3) := dk_180 0 24 (dk_at dksX1_stroll_4 4 rfl rfl)
theorem dX1_stroll_99 : decode cX1_stroll 99 = .ok (.aload 4, 2) := dk_25 4 (dk_at dksX1_stroll_4 7 rfl rfl)
theorem dX1_stroll_101 : decode cX1_stroll 101 = .ok (.getfield 174, 3) := dk_180 0 174 (dk_at dksX1_stroll_4 9 rfl rfl)
theorem dX1_stroll_104 : decode cX1_stroll 104 = .ok (.iaload, 1) := dk_46 (dk_at dksX1_stroll_4 12 rfl rfl)
theorem dX1_stroll_105 : decode cX1_stroll 105 = .ok (.aload 4, 2) := dk_25 4 (dk_at dksX1_stroll_4 13 rfl rfl)
theorem dX1_stroll_107 : decode cX1_stroll 107 = .ok (.getfield 189, 3) := dk_180 0 189 (dk_at dksX1_stroll_4 15 rfl rfl)
theorem dX1_stroll_110 : decode cX1_stroll 110 = .ok (.iadd, 1) := dk_96 (dk_at dksX1_stroll_4 18 rfl rfl)
theorem dX1_stroll_111 : decode cX1_stroll 111 = .ok (.iastore, 1) := dk_79 (dk_at dksX1_stroll_4 19 rfl rfl)
theorem dX1_stroll_112 : decode cX1_stroll 112 = .ok (.iconst 1, 1) := dk_4 (dk_at dksX1_stroll_4 20 rfl rfl)
theorem dX1_stroll_113 : decode cX1_stroll 113 = .ok (.istore_n 2, 1) := dk_61 (dk_at dksX1_stroll_4 21 rfl rfl)
theorem dX1_stroll_114 : decode cX1_stroll 114 = .ok (.aload_n 0, 1) := dk_42 (dk_at dksX1_stroll_4 22 rfl rfl)
theorem dX1_stroll_115 : decode cX1_stroll 115 = .ok (.getfield 24, 3) := dk_180 0 24 (dk_at dksX1_stroll_5 0 rfl rfl)
theorem dX1_stroll_118 : decode cX1_stroll 118 = .ok (.aload 4, 2) := dk_25 4 (dk_at dksX1_stroll_5 3 rfl rfl)
theorem dX1_stroll_120 : decode cX1_stroll 120 = .ok (.getfield 177, 3) := dk_180 0 177 (dk_at dksX1_stroll_5 5 rfl rfl)
theorem dX1_stroll_123 : decode cX1_stroll 123 = .ok (.iaload, 1) := dk_46 (dk_at dksX1_stroll_5 8 rfl rfl)
theorem dX1_stroll_124 : decode cX1_stroll 124 = .ok (.aload 4, 2) := dk_25 4 (dk_at dksX1_stroll_5 9 rfl rfl)
theorem dX1_stroll_126 : decode cX1_stroll 126 = .ok (.getfield 189, 3) := dk_180 0 189 (dk_at dksX1_stroll_5 11 rfl rfl)
theorem dX1_stroll_129 : decode cX1_stroll 129 = .ok (.iadd, 1) := dk_96 (dk_at dksX1_stroll_5 14 rfl rfl)
theorem dX1_stroll_130 : decode cX1_stroll 130 = .ok (.aload_n 0, 1) := dk_42 (dk_at dksX1_stroll_5 15 rfl rfl)
theorem dX1_stroll_131 : decode cX1_stroll 131 = .ok (.getfield 24, 3) := dk_180 0 24 (dk_at dksX1_stroll_5 16 rfl rfl)
theorem dX1_stroll_134 : decode cX1_stroll 134 = .ok (.aload 4, 2) := dk_25 4 (dk_at dksX1_stroll_5 19 rfl rfl)
theorem dX1_stroll_136 : decode cX1_stroll 136 = .ok (.getfield 174, 3) := dk_180 0 174 (dk_at dksX1_stroll_5 21 rfl rfl)
theorem dX1_stroll_139 : decode cX1_stroll 139 = .ok (.iaload, 1) := dk_46 (dk_at dksX1_stroll_6 0 rfl rfl)
theorem dX1_stroll_140 : decode cX1_stroll 140 = .ok (.if_icmp .ge 31, 3) := dk_162 0 31 (dk_at dksX1_stroll_6 1 rfl rfl)
theorem dX1_stroll_143 : decode cX1_stroll 143 = .ok (.aload_n 0, 1) := dk_42 (dk_at dksX1_stroll_6 4 rfl rfl)
theorem dX1_stroll_144 : decode cX1_stroll 144 = .ok (.getfield 24, 3) := dk_180 0 24 (dk_at dksX1_stroll_6 5 rfl rfl)
theorem dX1_stroll_147 : decode cX1_stroll 147 = .ok (.aload 4, 2) := dk_25 4 (dk_at dksX1_stroll_6 8 rfl rfl)
theorem dX1_stroll_149 : decode cX1_stroll 149 = .ok (.getfield 174, 3) := dk_180 0 174 (dk_at dksX1_stroll_6 10 rfl rfl)
theorem dX1_stroll_152 : decode cX1_stroll 152 = .ok (.aload_n 0, 1) := dk_42 (dk_at dksX1_stroll_6 13 rfl rfl)
theorem dX1_stroll_153 : decode cX1_stroll 153 = .ok (.getfield 24, 3) := dk_180 0 24 (dk_at dksX1_stroll_6 14 rfl rfl)
theorem dX1_stroll_156 : decode cX1_stroll 156 = .ok (.aload 4, 2) := dk_25 4 (dk_at dksX1_stroll_6 17 rfl rfl)
theorem dX1_stroll_158 : decode cX1_stroll 158 = .ok (.getfield 177, 3) := dk_180 0 177 (dk_at dksX1_stroll_6 19 rfl rfl)
theorem dX1_stroll_161 : decode cX1_stroll 161 = .ok (.iaload, 1) := dk_46 (dk_at dksX1_stroll_6 22 rfl rfl)
theorem dX1_stroll_162 : decode cX1_stroll 162 = .ok (.aload 4, 2) := dk_25 4 (dk_at dksX1_stroll_7 0 rfl rfl)
theorem dX1_stroll_164 : decode cX1_stroll 164 = .ok (.getfield 189, 3) := dk_180 0 189 (dk_at dksX1_stroll_7 2 rfl rfl)
theorem dX1_stroll_167 : decode cX1_stroll 167 = .ok (.iadd, 1) := dk_96 (dk_at dksX1_stroll_7 5 rfl rfl)
theorem dX1_stroll_168 : decode cX1_stroll 168 = .ok (.iastore, 1) := dk_79 (dk_at dksX1_stroll_7 6 rfl rfl)
theorem dX1_stroll_169 : decode cX1_stroll 169 = .ok (.iconst 1, 1) := dk_4 (dk_at dksX1_stroll_7 7 rfl rfl)
theorem dX1_stroll_170 : decode cX1_stroll 170 = .ok (.istore_n 2, 1) := dk_61 (dk_at dksX1_stroll_7 8 rfl rfl)
theorem dX1_stroll_171 : decode cX1_stroll 171 = .ok (.iinc 3 1, 3) := dk_132 3 1 (dk_at dksX1_stroll_7 9 rfl rfl)
theorem dX1_stroll_174 : decode cX1_stroll 174 = .ok (.goto (-133), 3) := dk_167 255 123 (dk_at dksX1_stroll_7 12 rfl rfl)
theorem dX1_stroll_177 : decode cX1_stroll 177 = .ok (.goto (-144), 3) := dk_167 255 112 (dk_at dksX1_stroll_7 15 rfl rfl)
theorem dX1_stroll_180 : decode cX1_stroll 180 = .ok (.return_, 1) := dk_177 (dk_at dksX1_stroll_7 18 rfl rfl)
abbrev cX1_house : ByteArray := prog_1_method_18_code
def yX1_house : MethodName := ⟨RX1, "house", "(IIIII)I"⟩
def dkwX1_house_4 : List UInt8 := [181, 0, 199, 42, 180, 0, 199, 4, 100, 172]
abbrev dktX1_house_4 : List UInt8 := dkwX1_house_4 ++ []
def dkwX1_house_3 : List UInt8 := [187, 0, 28, 89, 27, 28, 29, 21, 4, 21, 5, 183, 0, 212, 83, 42, 89, 180, 0, 199, 4, 96]
abbrev dktX1_house_3 : List UInt8 := dkwX1_house_3 ++ dktX1_house_4
def dkwX1_house_2 : List UInt8 := [153, 0, 12, 42, 180, 0, 199, 16, 12, 160, 0, 5, 2, 172, 42, 180, 0, 30, 42, 180, 0, 199]
abbrev dktX1_house_2 : List UInt8 := dkwX1_house_2 ++ dktX1_house_3
def dkwX1_house_1 : List UInt8 := [153, 0, 35, 21, 4, 4, 7, 184, 0, 3, 153, 0, 25, 21, 5, 2, 21, 4, 4, 100, 184, 0, 3]
abbrev dktX1_house_1 : List UInt8 := dkwX1_house_1 ++ dktX1_house_2
def dkwX1_house_0 : List UInt8 := [27, 184, 0, 143, 153, 0, 54, 28, 3, 5, 184, 0, 3, 153, 0, 45, 29, 4, 16, 6, 184, 0, 3]
abbrev dktX1_house_0 : List UInt8 := dkwX1_house_0 ++ dktX1_house_1
theorem dksX1_house_0 : cX1_house.data.toList.drop 0 = dktX1_house_0 := by decide +kernel
theorem dksX1_house_1 : cX1_house.data.toList.drop 23 = dktX1_house_1 := dk_seg dksX1_house_0 23 rfl rfl
theorem dksX1_house_2 : cX1_house.data.toList.drop 46 = dktX1_house_2 := dk_seg dksX1_house_1 23 rfl rfl
theorem dksX1_house_3 : cX1_house.data.toList.drop 68 = dktX1_house_3 := dk_seg dksX1_house_2 22 rfl rfl
theorem dksX1_house_4 : cX1_house.data.toList.drop 90 = dktX1_house_4 := dk_seg dksX1_house_3 22 rfl rfl
theorem dX1_house_0 : decode cX1_house 0 = .ok (.iload_n 1, 1) := dk_27 (dk_at dksX1_house_0 0 rfl rfl)
theorem dX1_house_1 : decode cX1_house 1 = .ok (.invokestatic 143, 3) := dk_184 0 143 (dk_at dksX1_house_0 1 rfl rfl)
theorem dX1_house_4 : decode cX1_house 4 = .ok (.ifCond .eq 54, 3) := dk_153 0 54 (dk_at dksX1_house_0 4 rfl rfl)
theorem dX1_house_7 : decode cX1_house 7 = .ok (.iload_n 2, 1) := dk_28 (dk_at dksX1_house_0 7 rfl rfl)
theorem dX1_house_8 : decode cX1_house 8 = .ok (.iconst 0, 1) := dk_3 (dk_at dksX1_house_0 8 rfl rfl)
theorem dX1_house_9 : decode cX1_house 9 = .ok (.iconst 2, 1) := dk_5 (dk_at dksX1_house_0 9 rfl rfl)
theorem dX1_house_10 : decode cX1_house 10 = .ok (.invokestatic 3, 3) := dk_184 0 3 (dk_at dksX1_house_0 10 rfl rfl)
theorem dX1_house_13 : decode cX1_house 13 = .ok (.ifCond .eq 45, 3) := dk_153 0 45 (dk_at dksX1_house_0 13 rfl rfl)
theorem dX1_house_16 : decode cX1_house 16 = .ok (.iload_n 3, 1) := dk_29 (dk_at dksX1_house_0 16 rfl rfl)
theorem dX1_house_17 : decode cX1_house 17 = .ok (.iconst 1, 1) := dk_4 (dk_at dksX1_house_0 17 rfl rfl)
theorem dX1_house_18 : decode cX1_house 18 = .ok (.bipush 6, 2) := dk_16 6 (dk_at dksX1_house_0 18 rfl rfl)
theorem dX1_house_20 : decode cX1_house 20 = .ok (.invokestatic 3, 3) := dk_184 0 3 (dk_at dksX1_house_0 20 rfl rfl)
theorem dX1_house_23 : decode cX1_house 23 = .ok (.ifCond .eq 35, 3) := dk_153 0 35 (dk_at dksX1_house_1 0 rfl rfl)
theorem dX1_house_26 : decode cX1_house 26 = .ok (.iload 4, 2) := dk_21 4 (dk_at dksX1_house_1 3 rfl rfl)
theorem dX1_house_28 : decode cX1_house 28 = .ok (.iconst 1, 1) := dk_4 (dk_at dksX1_house_1 5 rfl rfl)
theorem dX1_house_29 : decode cX1_house 29 = .ok (.iconst 4, 1) := dk_7 (dk_at dksX1_house_1 6 rfl rfl)
theorem dX1_house_30 : decode cX1_house 30 = .ok (.invokestatic 3, 3) := dk_184 0 3 (dk_at dksX1_house_1 7 rfl rfl)
theorem dX1_house_33 : decode cX1_house 33 = .ok (.ifCond .eq 25, 3) := dk_153 0 25 (dk_at dksX1_house_1 10 rfl rfl)
theorem dX1_house_36 : decode cX1_house 36 = .ok (.iload 5, 2) := dk_21 5 (dk_at dksX1_house_1 13 rfl rfl)
theorem dX1_house_38 : decode cX1_house 38 = .ok (.iconst (-1), 1) := dk_2 (dk_at dksX1_house_1 15 rfl rfl)
theorem dX1_house_39 : decode cX1_house 39 = .ok (.iload 4, 2) := dk_21 4 (dk_at dksX1_house_1 16 rfl rfl)
theorem dX1_house_41 : decode cX1_house 41 = .ok (.iconst 1, 1) := dk_4 (dk_at dksX1_house_1 18 rfl rfl)
theorem dX1_house_42 : decode cX1_house 42 = .ok (.isub, 1) := dk_100 (dk_at dksX1_house_1 19 rfl rfl)
theorem dX1_house_43 : decode cX1_house 43 = .ok (.invokestatic 3, 3) := dk_184 0 3 (dk_at dksX1_house_1 20 rfl rfl)
theorem dX1_house_46 : decode cX1_house 46 = .ok (.ifCond .eq 12, 3) := dk_153 0 12 (dk_at dksX1_house_2 0 rfl rfl)
theorem dX1_house_49 : decode cX1_house 49 = .ok (.aload_n 0, 1) := dk_42 (dk_at dksX1_house_2 3 rfl rfl)
theorem dX1_house_50 : decode cX1_house 50 = .ok (.getfield 199, 3) := dk_180 0 199 (dk_at dksX1_house_2 4 rfl rfl)
theorem dX1_house_53 : decode cX1_house 53 = .ok (.bipush 12, 2) := dk_16 12 (dk_at dksX1_house_2 7 rfl rfl)
theorem dX1_house_55 : decode cX1_house 55 = .ok (.if_icmp .ne 5, 3) := dk_160 0 5 (dk_at dksX1_house_2 9 rfl rfl)
theorem dX1_house_58 : decode cX1_house 58 = .ok (.iconst (-1), 1) := dk_2 (dk_at dksX1_house_2 12 rfl rfl)
theorem dX1_house_59 : decode cX1_house 59 = .ok (.ireturn, 1) := dk_172 (dk_at dksX1_house_2 13 rfl rfl)
theorem dX1_house_60 : decode cX1_house 60 = .ok (.aload_n 0, 1) := dk_42 (dk_at dksX1_house_2 14 rfl rfl)
theorem dX1_house_61 : decode cX1_house 61 = .ok (.getfield 30, 3) := dk_180 0 30 (dk_at dksX1_house_2 15 rfl rfl)
theorem dX1_house_64 : decode cX1_house 64 = .ok (.aload_n 0, 1) := dk_42 (dk_at dksX1_house_2 18 rfl rfl)
theorem dX1_house_65 : decode cX1_house 65 = .ok (.getfield 199, 3) := dk_180 0 199 (dk_at dksX1_house_2 19 rfl rfl)
theorem dX1_house_68 : decode cX1_house 68 = .ok (.new 28, 3) := dk_187 0 28 (dk_at dksX1_house_3 0 rfl rfl)
theorem dX1_house_71 : decode cX1_house 71 = .ok (.dup, 1) := dk_89 (dk_at dksX1_house_3 3 rfl rfl)
theorem dX1_house_72 : decode cX1_house 72 = .ok (.iload_n 1, 1) := dk_27 (dk_at dksX1_house_3 4 rfl rfl)
theorem dX1_house_73 : decode cX1_house 73 = .ok (.iload_n 2, 1) := dk_28 (dk_at dksX1_house_3 5 rfl rfl)
theorem dX1_house_74 : decode cX1_house 74 = .ok (.iload_n 3, 1) := dk_29 (dk_at dksX1_house_3 6 rfl rfl)
theorem dX1_house_75 : decode cX1_house 75 = .ok (.iload 4, 2) := dk_21 4 (dk_at dksX1_house_3 7 rfl rfl)
theorem dX1_house_77 : decode cX1_house 77 = .ok (.iload 5, 2) := dk_21 5 (dk_at dksX1_house_3 9 rfl rfl)
theorem dX1_house_79 : decode cX1_house 79 = .ok (.invokespecial 212, 3) := dk_183 0 212 (dk_at dksX1_house_3 11 rfl rfl)
theorem dX1_house_82 : decode cX1_house 82 = .ok (.aastore, 1) := dk_83 (dk_at dksX1_house_3 14 rfl rfl)
theorem dX1_house_83 : decode cX1_house 83 = .ok (.aload_n 0, 1) := dk_42 (dk_at dksX1_house_3 15 rfl rfl)
theorem dX1_house_84 : decode cX1_house 84 = .ok (.dup, 1) := dk_89 (dk_at dksX1_house_3 16 rfl rfl)
theorem dX1_house_85 : decode cX1_house 85 = .ok (.getfield 199, 3) := dk_180 0 199 (dk_at dksX1_house_3 17 rfl rfl)
theorem dX1_house_88 : decode cX1_house 88 = .ok (.iconst 1, 1) := dk_4 (dk_at dksX1_house_3 20 rfl rfl)
theorem dX1_house_89 : decode cX1_house 89 = .ok (.iadd, 1) := dk_96 (dk_at dksX1_house_3 21 rfl rfl)
theorem dX1_house_90 : decode cX1_house 90 = .ok (.putfield 199, 3) := dk_181 0 199 (dk_at dksX1_house_4 0 rfl rfl)
theorem dX1_house_93 : decode cX1_house 93 = .ok (.aload_n 0, 1) := dk_42 (dk_at dksX1_house_4 3 rfl rfl)
theorem dX1_house_94 : decode cX1_house 94 = .ok (.getfield 199, 3) := dk_180 0 199 (dk_at dksX1_house_4 4 rfl rfl)
theorem dX1_house_97 : decode cX1_house 97 = .ok (.iconst 1, 1) := dk_4 (dk_at dksX1_house_4 7 rfl rfl)
theorem dX1_house_98 : decode cX1_house 98 = .ok (.isub, 1) := dk_100 (dk_at dksX1_house_4 8 rfl rfl)
theorem dX1_house_99 : decode cX1_house 99 = .ok (.ireturn, 1) := dk_172 (dk_at dksX1_house_4 9 rfl rfl)
abbrev cX1_build : ByteArray := prog_1_method_19_code
def yX1_build : MethodName := ⟨RX1, "build", "(IZII)Z"⟩
def dkwX1_build_2 : List UInt8 := [29, 181, 0, 218, 42, 180, 0, 30, 27, 50, 21, 4, 181, 0, 221, 4, 172]
abbrev dktX1_build_2 : List UInt8 := dkwX1_build_2 ++ []
def dkwX1_build_1 : List UInt8 := [184, 0, 3, 154, 0, 5, 3, 172, 42, 180, 0, 30, 27, 50, 28, 181, 0, 215, 42, 180, 0, 30, 27, 50]
abbrev dktX1_build_1 : List UInt8 := dkwX1_build_1 ++ dktX1_build_2
def dkwX1_build_0 : List UInt8 := [42, 27, 182, 0, 202, 153, 0, 24, 29, 3, 6, 184, 0, 3, 153, 0, 15, 21, 4, 4, 17, 0, 200]
abbrev dktX1_build_0 : List UInt8 := dkwX1_build_0 ++ dktX1_build_1
theorem dksX1_build_0 : cX1_build.data.toList.drop 0 = dktX1_build_0 := by decide +kernel
theorem dksX1_build_1 : cX1_build.data.toList.drop 23 = dktX1_build_1 := dk_seg dksX1_build_0 23 rfl rfl
theorem dksX1_build_2 : cX1_build.data.toList.drop 47 = dktX1_build_2 := dk_seg dksX1_build_1 24 rfl rfl
theorem dX1_build_0 : decode cX1_build 0 = .ok (.aload_n 0, 1) := dk_42 (dk_at dksX1_build_0 0 rfl rfl)
theorem dX1_build_1 : decode cX1_build 1 = .ok (.iload_n 1, 1) := dk_27 (dk_at dksX1_build_0 1 rfl rfl)
theorem dX1_build_2 : decode cX1_build 2 = .ok (.invokevirtual 202, 3) := dk_182 0 202 (dk_at dksX1_build_0 2 rfl rfl)
theorem dX1_build_5 : decode cX1_build 5 = .ok (.ifCond .eq 24, 3) := dk_153 0 24 (dk_at dksX1_build_0 5 rfl rfl)
theorem dX1_build_8 : decode cX1_build 8 = .ok (.iload_n 3, 1) := dk_29 (dk_at dksX1_build_0 8 rfl rfl)
theorem dX1_build_9 : decode cX1_build 9 = .ok (.iconst 0, 1) := dk_3 (dk_at dksX1_build_0 9 rfl rfl)
theorem dX1_build_10 : decode cX1_build 10 = .ok (.iconst 3, 1) := dk_6 (dk_at dksX1_build_0 10 rfl rfl)
theorem dX1_build_11 : decode cX1_build 11 = .ok (.invokestatic 3, 3) := dk_184 0 3 (dk_at dksX1_build_0 11 rfl rfl)
theorem dX1_build_14 : decode cX1_build 14 = .ok (.ifCond .eq 15, 3) := dk_153 0 15 (dk_at dksX1_build_0 14 rfl rfl)
theorem dX1_build_17 : decode cX1_build 17 = .ok (.iload 4, 2) := dk_21 4 (dk_at dksX1_build_0 17 rfl rfl)
theorem dX1_build_19 : decode cX1_build 19 = .ok (.iconst 1, 1) := dk_4 (dk_at dksX1_build_0 19 rfl rfl)
theorem dX1_build_20 : decode cX1_build 20 = .ok (.sipush 200, 3) := dk_17 0 200 (dk_at dksX1_build_0 20 rfl rfl)
theorem dX1_build_23 : decode cX1_build 23 = .ok (.invokestatic 3, 3) := dk_184 0 3 (dk_at dksX1_build_1 0 rfl rfl)
theorem dX1_build_26 : decode cX1_build 26 = .ok (.ifCond .ne 5, 3) := dk_154 0 5 (dk_at dksX1_build_1 3 rfl rfl)
theorem dX1_build_29 : decode cX1_build 29 = .ok (.iconst 0, 1) := dk_3 (dk_at dksX1_build_1 6 rfl rfl)
theorem dX1_build_30 : decode cX1_build 30 = .ok (.ireturn, 1) := dk_172 (dk_at dksX1_build_1 7 rfl rfl)
theorem dX1_build_31 : decode cX1_build 31 = .ok (.aload_n 0, 1) := dk_42 (dk_at dksX1_build_1 8 rfl rfl)
theorem dX1_build_32 : decode cX1_build 32 = .ok (.getfield 30, 3) := dk_180 0 30 (dk_at dksX1_build_1 9 rfl rfl)
theorem dX1_build_35 : decode cX1_build 35 = .ok (.iload_n 1, 1) := dk_27 (dk_at dksX1_build_1 12 rfl rfl)
theorem dX1_build_36 : decode cX1_build 36 = .ok (.aaload, 1) := dk_50 (dk_at dksX1_build_1 13 rfl rfl)
theorem dX1_build_37 : decode cX1_build 37 = .ok (.iload_n 2, 1) := dk_28 (dk_at dksX1_build_1 14 rfl rfl)
theorem dX1_build_38 : decode cX1_build 38 = .ok (.putfield 215, 3) := dk_181 0 215 (dk_at dksX1_build_1 15 rfl rfl)
theorem dX1_build_41 : decode cX1_build 41 = .ok (.aload_n 0, 1) := dk_42 (dk_at dksX1_build_1 18 rfl rfl)
theorem dX1_build_42 : decode cX1_build 42 = .ok (.getfield 30, 3) := dk_180 0 30 (dk_at dksX1_build_1 19 rfl rfl)
theorem dX1_build_45 : decode cX1_build 45 = .ok (.iload_n 1, 1) := dk_27 (dk_at dksX1_build_1 22 rfl rfl)
theorem dX1_build_46 : decode cX1_build 46 = .ok (.aaload, 1) := dk_50 (dk_at dksX1_build_1 23 rfl rfl)
theorem dX1_build_47 : decode cX1_build 47 = .ok (.iload_n 3, 1) := dk_29 (dk_at dksX1_build_2 0 rfl rfl)
theorem dX1_build_48 : decode cX1_build 48 = .ok (.putfield 218, 3) := dk_181 0 218 (dk_at dksX1_build_2 1 rfl rfl)
theorem dX1_build_51 : decode cX1_build 51 = .ok (.aload_n 0, 1) := dk_42 (dk_at dksX1_build_2 4 rfl rfl)
theorem dX1_build_52 : decode cX1_build 52 = .ok (.getfield 30, 3) := dk_180 0 30 (dk_at dksX1_build_2 5 rfl rfl)
theorem dX1_build_55 : decode cX1_build 55 = .ok (.iload_n 1, 1) := dk_27 (dk_at dksX1_build_2 8 rfl rfl)
theorem dX1_build_56 : decode cX1_build 56 = .ok (.aaload, 1) := dk_50 (dk_at dksX1_build_2 9 rfl rfl)
theorem dX1_build_57 : decode cX1_build 57 = .ok (.iload 4, 2) := dk_21 4 (dk_at dksX1_build_2 10 rfl rfl)
theorem dX1_build_59 : decode cX1_build 59 = .ok (.putfield 221, 3) := dk_181 0 221 (dk_at dksX1_build_2 12 rfl rfl)
theorem dX1_build_62 : decode cX1_build 62 = .ok (.iconst 1, 1) := dk_4 (dk_at dksX1_build_2 15 rfl rfl)
theorem dX1_build_63 : decode cX1_build 63 = .ok (.ireturn, 1) := dk_172 (dk_at dksX1_build_2 16 rfl rfl)
abbrev cX1_isHouse : ByteArray := prog_1_method_15_code
def yX1_isHouse : MethodName := ⟨RX1, "isHouse", "(I)Z"⟩
def dkwX1_isHouse_0 : List UInt8 := [27, 3, 42, 180, 0, 199, 4, 100, 184, 0, 3, 172]
abbrev dktX1_isHouse_0 : List UInt8 := dkwX1_isHouse_0 ++ []
theorem dksX1_isHouse_0 : cX1_isHouse.data.toList.drop 0 = dktX1_isHouse_0 := by decide +kernel
theorem dX1_isHouse_0 : decode cX1_isHouse 0 = .ok (.iload_n 1, 1) := dk_27 (dk_at dksX1_isHouse_0 0 rfl rfl)
theorem dX1_isHouse_1 : decode cX1_isHouse 1 = .ok (.iconst 0, 1) := dk_3 (dk_at dksX1_isHouse_0 1 rfl rfl)
theorem dX1_isHouse_2 : decode cX1_isHouse 2 = .ok (.aload_n 0, 1) := dk_42 (dk_at dksX1_isHouse_0 2 rfl rfl)
theorem dX1_isHouse_3 : decode cX1_isHouse 3 = .ok (.getfield 199, 3) := dk_180 0 199 (dk_at dksX1_isHouse_0 3 rfl rfl)
theorem dX1_isHouse_6 : decode cX1_isHouse 6 = .ok (.iconst 1, 1) := dk_4 (dk_at dksX1_isHouse_0 6 rfl rfl)
theorem dX1_isHouse_7 : decode cX1_isHouse 7 = .ok (.isub, 1) := dk_100 (dk_at dksX1_isHouse_0 7 rfl rfl)
theorem dX1_isHouse_8 : decode cX1_isHouse 8 = .ok (.invokestatic 3, 3) := dk_184 0 3 (dk_at dksX1_isHouse_0 8 rfl rfl)
theorem dX1_isHouse_11 : decode cX1_isHouse 11 = .ok (.ireturn, 1) := dk_172 (dk_at dksX1_isHouse_0 11 rfl rfl)
abbrev cX1_use : ByteArray := prog_1_method_20_code
def yX1_use : MethodName := ⟨RX1, "use", "(II)Z"⟩
def dkwX1_use_1 : List UInt8 := [158, 0, 5, 3, 172, 42, 180, 0, 30, 27, 50, 28, 181, 0, 228, 4, 172]
abbrev dktX1_use_1 : List UInt8 := dkwX1_use_1 ++ []
def dkwX1_use_0 : List UInt8 := [42, 27, 182, 0, 202, 153, 0, 21, 28, 3, 16, 9, 184, 0, 3, 153, 0, 11, 42, 27, 182, 0, 224]
abbrev dktX1_use_0 : List UInt8 := dkwX1_use_0 ++ dktX1_use_1
theorem dksX1_use_0 : cX1_use.data.toList.drop 0 = dktX1_use_0 := by decide +kernel
theorem dksX1_use_1 : cX1_use.data.toList.drop 23 = dktX1_use_1 := dk_seg dksX1_use_0 23 rfl rfl
theorem dX1_use_0 : decode cX1_use 0 = .ok (.aload_n 0, 1) := dk_42 (dk_at dksX1_use_0 0 rfl rfl)
theorem dX1_use_1 : decode cX1_use 1 = .ok (.iload_n 1, 1) := dk_27 (dk_at dksX1_use_0 1 rfl rfl)
theorem dX1_use_2 : decode cX1_use 2 = .ok (.invokevirtual 202, 3) := dk_182 0 202 (dk_at dksX1_use_0 2 rfl rfl)
theorem dX1_use_5 : decode cX1_use 5 = .ok (.ifCond .eq 21, 3) := dk_153 0 21 (dk_at dksX1_use_0 5 rfl rfl)
theorem dX1_use_8 : decode cX1_use 8 = .ok (.iload_n 2, 1) := dk_28 (dk_at dksX1_use_0 8 rfl rfl)
theorem dX1_use_9 : decode cX1_use 9 = .ok (.iconst 0, 1) := dk_3 (dk_at dksX1_use_0 9 rfl rfl)
theorem dX1_use_10 : decode cX1_use 10 = .ok (.bipush 9, 2) := dk_16 9 (dk_at dksX1_use_0 10 rfl rfl)
theorem dX1_use_12 : decode cX1_use 12 = .ok (.invokestatic 3, 3) := dk_184 0 3 (dk_at dksX1_use_0 12 rfl rfl)
theorem dX1_use_15 : decode cX1_use 15 = .ok (.ifCond .eq 11, 3) := dk_153 0 11 (dk_at dksX1_use_0 15 rfl rfl)
theorem dX1_use_18 : decode cX1_use 18 = .ok (.aload_n 0, 1) := dk_42 (dk_at dksX1_use_0 18 rfl rfl)
theorem dX1_use_19 : decode cX1_use 19 = .ok (.iload_n 1, 1) := dk_27 (dk_at dksX1_use_0 19 rfl rfl)
theorem dX1_use_20 : decode cX1_use 20 = .ok (.invokevirtual 224, 3) := dk_182 0 224 (dk_at dksX1_use_0 20 rfl rfl)
theorem dX1_use_23 : decode cX1_use 23 = .ok (.ifCond .le 5, 3) := dk_158 0 5 (dk_at dksX1_use_1 0 rfl rfl)
theorem dX1_use_26 : decode cX1_use 26 = .ok (.iconst 0, 1) := dk_3 (dk_at dksX1_use_1 3 rfl rfl)
theorem dX1_use_27 : decode cX1_use 27 = .ok (.ireturn, 1) := dk_172 (dk_at dksX1_use_1 4 rfl rfl)
theorem dX1_use_28 : decode cX1_use 28 = .ok (.aload_n 0, 1) := dk_42 (dk_at dksX1_use_1 5 rfl rfl)
theorem dX1_use_29 : decode cX1_use 29 = .ok (.getfield 30, 3) := dk_180 0 30 (dk_at dksX1_use_1 6 rfl rfl)
theorem dX1_use_32 : decode cX1_use 32 = .ok (.iload_n 1, 1) := dk_27 (dk_at dksX1_use_1 9 rfl rfl)
theorem dX1_use_33 : decode cX1_use 33 = .ok (.aaload, 1) := dk_50 (dk_at dksX1_use_1 10 rfl rfl)
theorem dX1_use_34 : decode cX1_use 34 = .ok (.iload_n 2, 1) := dk_28 (dk_at dksX1_use_1 11 rfl rfl)
theorem dX1_use_35 : decode cX1_use 35 = .ok (.putfield 228, 3) := dk_181 0 228 (dk_at dksX1_use_1 12 rfl rfl)
theorem dX1_use_38 : decode cX1_use 38 = .ok (.iconst 1, 1) := dk_4 (dk_at dksX1_use_1 15 rfl rfl)
theorem dX1_use_39 : decode cX1_use 39 = .ok (.ireturn, 1) := dk_172 (dk_at dksX1_use_1 16 rfl rfl)
abbrev cX1_changesOf : ByteArray := prog_1_method_113_code
def yX1_changesOf : MethodName := ⟨RX1, "changesOf", "(I)I"⟩
def dkwX1_changesOf_1 : List UInt8 := [180, 0, 96, 29, 46, 2, 159, 0, 6, 132, 2, 1, 132, 3, 1, 167, 255, 222, 28, 172]
abbrev dktX1_changesOf_1 : List UInt8 := dkwX1_changesOf_1 ++ []
def dkwX1_changesOf_0 : List UInt8 := [3, 61, 3, 62, 29, 42, 180, 2, 243, 162, 0, 32, 42, 180, 0, 93, 29, 46, 27, 160, 0, 16, 42]
abbrev dktX1_changesOf_0 : List UInt8 := dkwX1_changesOf_0 ++ dktX1_changesOf_1
theorem dksX1_changesOf_0 : cX1_changesOf.data.toList.drop 0 = dktX1_changesOf_0 := by decide +kernel
theorem dksX1_changesOf_1 : cX1_changesOf.data.toList.drop 23 = dktX1_changesOf_1 := dk_seg dksX1_changesOf_0 23 rfl rfl
theorem dX1_changesOf_0 : decode cX1_changesOf 0 = .ok (.iconst 0, 1) := dk_3 (dk_at dksX1_changesOf_0 0 rfl rfl)
theorem dX1_changesOf_1 : decode cX1_changesOf 1 = .ok (.istore_n 2, 1) := dk_61 (dk_at dksX1_changesOf_0 1 rfl rfl)
theorem dX1_changesOf_2 : decode cX1_changesOf 2 = .ok (.iconst 0, 1) := dk_3 (dk_at dksX1_changesOf_0 2 rfl rfl)
theorem dX1_changesOf_3 : decode cX1_changesOf 3 = .ok (.istore_n 3, 1) := dk_62 (dk_at dksX1_changesOf_0 3 rfl rfl)
theorem dX1_changesOf_4 : decode cX1_changesOf 4 = .ok (.iload_n 3, 1) := dk_29 (dk_at dksX1_changesOf_0 4 rfl rfl)
theorem dX1_changesOf_5 : decode cX1_changesOf 5 = .ok (.aload_n 0, 1) := dk_42 (dk_at dksX1_changesOf_0 5 rfl rfl)
theorem dX1_changesOf_6 : decode cX1_changesOf 6 = .ok (.getfield 755, 3) := dk_180 2 243 (dk_at dksX1_changesOf_0 6 rfl rfl)
theorem dX1_changesOf_9 : decode cX1_changesOf 9 = .ok (.if_icmp .ge 32, 3) := dk_162 0 32 (dk_at dksX1_changesOf_0 9 rfl rfl)
theorem dX1_changesOf_12 : decode cX1_changesOf 12 = .ok (.aload_n 0, 1) := dk_42 (dk_at dksX1_changesOf_0 12 rfl rfl)
theorem dX1_changesOf_13 : decode cX1_changesOf 13 = .ok (.getfield 93, 3) := dk_180 0 93 (dk_at dksX1_changesOf_0 13 rfl rfl)
theorem dX1_changesOf_16 : decode cX1_changesOf 16 = .ok (.iload_n 3, 1) := dk_29 (dk_at dksX1_changesOf_0 16 rfl rfl)
theorem dX1_changesOf_17 : decode cX1_changesOf 17 = .ok (.iaload, 1) := dk_46 (dk_at dksX1_changesOf_0 17 rfl rfl)
theorem dX1_changesOf_18 : decode cX1_changesOf 18 = .ok (.iload_n 1, 1) := dk_27 (dk_at dksX1_changesOf_0 18 rfl rfl)
theorem dX1_changesOf_19 : decode cX1_changesOf 19 = .ok (.if_icmp .ne 16, 3) := dk_160 0 16 (dk_at dksX1_changesOf_0 19 rfl rfl)
theorem dX1_changesOf_22 : decode cX1_changesOf 22 = .ok (.aload_n 0, 1) := dk_42 (dk_at dksX1_changesOf_0 22 rfl rfl)
theorem dX1_changesOf_23 : decode cX1_changesOf 23 = .ok (.getfield 96, 3) := dk_180 0 96 (dk_at dksX1_changesOf_1 0 rfl rfl)
theorem dX1_changesOf_26 : decode cX1_changesOf 26 = .ok (.iload_n 3, 1) := dk_29 (dk_at dksX1_changesOf_1 3 rfl rfl)
theorem dX1_changesOf_27 : decode cX1_changesOf 27 = .ok (.iaload, 1) := dk_46 (dk_at dksX1_changesOf_1 4 rfl rfl)
theorem dX1_changesOf_28 : decode cX1_changesOf 28 = .ok (.iconst (-1), 1) := dk_2 (dk_at dksX1_changesOf_1 5 rfl rfl)
theorem dX1_changesOf_29 : decode cX1_changesOf 29 = .ok (.if_icmp .eq 6, 3) := dk_159 0 6 (dk_at dksX1_changesOf_1 6 rfl rfl)
theorem dX1_changesOf_32 : decode cX1_changesOf 32 = .ok (.iinc 2 1, 3) := dk_132 2 1 (dk_at dksX1_changesOf_1 9 rfl rfl)
theorem dX1_changesOf_35 : decode cX1_changesOf 35 = .ok (.iinc 3 1, 3) := dk_132 3 1 (dk_at dksX1_changesOf_1 12 rfl rfl)
theorem dX1_changesOf_38 : decode cX1_changesOf 38 = .ok (.goto (-34), 3) := dk_167 255 222 (dk_at dksX1_changesOf_1 15 rfl rfl)
theorem dX1_changesOf_41 : decode cX1_changesOf 41 = .ok (.iload_n 2, 1) := dk_28 (dk_at dksX1_changesOf_1 18 rfl rfl)
theorem dX1_changesOf_42 : decode cX1_changesOf 42 = .ok (.ireturn, 1) := dk_172 (dk_at dksX1_changesOf_1 19 rfl rfl)
abbrev cX1_floor : ByteArray := prog_1_method_21_code
def yX1_floor : MethodName := ⟨RX1, "floor", "(IIII)Z"⟩
def dkwX1_floor_5 : List UInt8 := [182, 1, 1, 4, 172]
abbrev dktX1_floor_5 : List UInt8 := dkwX1_floor_5 ++ []
def dkwX1_floor_4 : List UInt8 := [132, 6, 1, 167, 255, 223, 25, 5, 180, 0, 251, 28, 29, 79, 25, 5, 180, 0, 254, 28, 21, 4, 79, 42]
abbrev dktX1_floor_4 : List UInt8 := dkwX1_floor_4 ++ dktX1_floor_5
def dkwX1_floor_3 : List UInt8 := [162, 0, 29, 25, 5, 180, 0, 235, 180, 0, 248, 28, 25, 5, 180, 0, 245, 104, 21, 6, 96, 29, 79]
abbrev dktX1_floor_3 : List UInt8 := dkwX1_floor_3 ++ dktX1_floor_4
def dkwX1_floor_2 : List UInt8 := [153, 0, 5, 3, 172, 42, 180, 0, 30, 27, 50, 58, 5, 3, 54, 6, 21, 6, 25, 5, 180, 0, 245]
abbrev dktX1_floor_2 : List UInt8 := dkwX1_floor_2 ++ dktX1_floor_3
def dkwX1_floor_1 : List UInt8 := [16, 20, 184, 0, 3, 153, 0, 20, 42, 180, 0, 30, 27, 50, 180, 0, 235, 180, 0, 239, 28, 51]
abbrev dktX1_floor_1 : List UInt8 := dkwX1_floor_1 ++ dktX1_floor_2
def dkwX1_floor_0 : List UInt8 := [42, 27, 28, 182, 0, 231, 153, 0, 42, 29, 3, 17, 1, 244, 184, 0, 3, 153, 0, 31, 21, 4, 3]
abbrev dktX1_floor_0 : List UInt8 := dkwX1_floor_0 ++ dktX1_floor_1
theorem dksX1_floor_0 : cX1_floor.data.toList.drop 0 = dktX1_floor_0 := by decide +kernel
theorem dksX1_floor_1 : cX1_floor.data.toList.drop 23 = dktX1_floor_1 := dk_seg dksX1_floor_0 23 rfl rfl
theorem dksX1_floor_2 : cX1_floor.data.toList.drop 45 = dktX1_floor_2 := dk_seg dksX1_floor_1 22 rfl rfl
theorem dksX1_floor_3 : cX1_floor.data.toList.drop 68 = dktX1_floor_3 := dk_seg dksX1_floor_2 23 rfl rfl
theorem dksX1_floor_4 : cX1_floor.data.toList.drop 91 = dktX1_floor_4 := dk_seg dksX1_floor_3 23 rfl rfl
theorem dksX1_floor_5 : cX1_floor.data.toList.drop 115 = dktX1_floor_5 := dk_seg dksX1_floor_4 24 rfl rfl
theorem dX1_floor_0 : decode cX1_floor 0 = .ok (.aload_n 0, 1) := dk_42 (dk_at dksX1_floor_0 0 rfl rfl)
theorem dX1_floor_1 : decode cX1_floor 1 = .ok (.iload_n 1, 1) := dk_27 (dk_at dksX1_floor_0 1 rfl rfl)
theorem dX1_floor_2 : decode cX1_floor 2 = .ok (.iload_n 2, 1) := dk_28 (dk_at dksX1_floor_0 2 rfl rfl)
theorem dX1_floor_3 : decode cX1_floor 3 = .ok (.invokevirtual 231, 3) := dk_182 0 231 (dk_at dksX1_floor_0 3 rfl rfl)
theorem dX1_floor_6 : decode cX1_floor 6 = .ok (.ifCond .eq 42, 3) := dk_153 0 42 (dk_at dksX1_floor_0 6 rfl rfl)
theorem dX1_floor_9 : decode cX1_floor 9 = .ok (.iload_n 3, 1) := dk_29 (dk_at dksX1_floor_0 9 rfl rfl)
theorem dX1_floor_10 : decode cX1_floor 10 = .ok (.iconst 0, 1) := dk_3 (dk_at dksX1_floor_0 10 rfl rfl)
theorem dX1_floor_11 : decode cX1_floor 11 = .ok (.sipush 500, 3) := dk_17 1 244 (dk_at dksX1_floor_0 11 rfl rfl)
theorem dX1_floor_14 : decode cX1_floor 14 = .ok (.invokestatic 3, 3) := dk_184 0 3 (dk_at dksX1_floor_0 14 rfl rfl)
theorem dX1_floor_17 : decode cX1_floor 17 = .ok (.ifCond .eq 31, 3) := dk_153 0 31 (dk_at dksX1_floor_0 17 rfl rfl)
theorem dX1_floor_20 : decode cX1_floor 20 = .ok (.iload 4, 2) := dk_21 4 (dk_at dksX1_floor_0 20 rfl rfl)
theorem dX1_floor_22 : decode cX1_floor 22 = .ok (.iconst 0, 1) := dk_3 (dk_at dksX1_floor_0 22 rfl rfl)
theorem dX1_floor_23 : decode cX1_floor 23 = .ok (.bipush 20, 2) := dk_16 20 (dk_at dksX1_floor_1 0 rfl rfl)
theorem dX1_floor_25 : decode cX1_floor 25 = .ok (.invokestatic 3, 3) := dk_184 0 3 (dk_at dksX1_floor_1 2 rfl rfl)
theorem dX1_floor_28 : decode cX1_floor 28 = .ok (.ifCond .eq 20, 3) := dk_153 0 20 (dk_at dksX1_floor_1 5 rfl rfl)
theorem dX1_floor_31 : decode cX1_floor 31 = .ok (.aload_n 0, 1) := dk_42 (dk_at dksX1_floor_1 8 rfl rfl)
theorem dX1_floor_32 : decode cX1_floor 32 = .ok (.getfield 30, 3) := dk_180 0 30 (dk_at dksX1_floor_1 9 rfl rfl)
theorem dX1_floor_35 : decode cX1_floor 35 = .ok (.iload_n 1, 1) := dk_27 (dk_at dksX1_floor_1 12 rfl rfl)
theorem dX1_floor_36 : decode cX1_floor 36 = .ok (.aaload, 1) := dk_50 (dk_at dksX1_floor_1 13 rfl rfl)
theorem dX1_floor_37 : decode cX1_floor 37 = .ok (.getfield 235, 3) := dk_180 0 235 (dk_at dksX1_floor_1 14 rfl rfl)
theorem dX1_floor_40 : decode cX1_floor 40 = .ok (.getfield 239, 3) := dk_180 0 239 (dk_at dksX1_floor_1 17 rfl rfl)
theorem dX1_floor_43 : decode cX1_floor 43 = .ok (.iload_n 2, 1) := dk_28 (dk_at dksX1_floor_1 20 rfl rfl)
theorem dX1_floor_44 : decode cX1_floor 44 = .ok (.baload, 1) := dk_51 (dk_at dksX1_floor_1 21 rfl rfl)
theorem dX1_floor_45 : decode cX1_floor 45 = .ok (.ifCond .eq 5, 3) := dk_153 0 5 (dk_at dksX1_floor_2 0 rfl rfl)
theorem dX1_floor_48 : decode cX1_floor 48 = .ok (.iconst 0, 1) := dk_3 (dk_at dksX1_floor_2 3 rfl rfl)
theorem dX1_floor_49 : decode cX1_floor 49 = .ok (.ireturn, 1) := dk_172 (dk_at dksX1_floor_2 4 rfl rfl)
theorem dX1_floor_50 : decode cX1_floor 50 = .ok (.aload_n 0, 1) := dk_42 (dk_at dksX1_floor_2 5 rfl rfl)
theorem dX1_floor_51 : decode cX1_floor 51 = .ok (.getfield 30, 3) := dk_180 0 30 (dk_at dksX1_floor_2 6 rfl rfl)
theorem dX1_floor_54 : decode cX1_floor 54 = .ok (.iload_n 1, 1) := dk_27 (dk_at dksX1_floor_2 9 rfl rfl)
theorem dX1_floor_55 : decode cX1_floor 55 = .ok (.aaload, 1) := dk_50 (dk_at dksX1_floor_2 10 rfl rfl)
theorem dX1_floor_56 : decode cX1_floor 56 = .ok (.astore 5, 2) := dk_58 5 (dk_at dksX1_floor_2 11 rfl rfl)
theorem dX1_floor_58 : decode cX1_floor 58 = .ok (.iconst 0, 1) := dk_3 (dk_at dksX1_floor_2 13 rfl rfl)
theorem dX1_floor_59 : decode cX1_floor 59 = .ok (.istore 6, 2) := dk_54 6 (dk_at dksX1_floor_2 14 rfl rfl)
theorem dX1_floor_61 : decode cX1_floor 61 = .ok (.iload 6, 2) := dk_21 6 (dk_at dksX1_floor_2 16 rfl rfl)
theorem dX1_floor_63 : decode cX1_floor 63 = .ok (.aload 5, 2) := dk_25 5 (dk_at dksX1_floor_2 18 rfl rfl)
theorem dX1_floor_65 : decode cX1_floor 65 = .ok (.getfield 245, 3) := dk_180 0 245 (dk_at dksX1_floor_2 20 rfl rfl)
theorem dX1_floor_68 : decode cX1_floor 68 = .ok (.if_icmp .ge 29, 3) := dk_162 0 29 (dk_at dksX1_floor_3 0 rfl rfl)
theorem dX1_floor_71 : decode cX1_floor 71 = .ok (.aload 5, 2) := dk_25 5 (dk_at dksX1_floor_3 3 rfl rfl)
theorem dX1_floor_73 : decode cX1_floor 73 = .ok (.getfield 235, 3) := dk_180 0 235 (dk_at dksX1_floor_3 5 rfl rfl)
theorem dX1_floor_76 : decode cX1_floor 76 = .ok (.getfield 248, 3) := dk_180 0 248 (dk_at dksX1_floor_3 8 rfl rfl)
theorem dX1_floor_79 : decode cX1_floor 79 = .ok (.iload_n 2, 1) := dk_28 (dk_at dksX1_floor_3 11 rfl rfl)
theorem dX1_floor_80 : decode cX1_floor 80 = .ok (.aload 5, 2) := dk_25 5 (dk_at dksX1_floor_3 12 rfl rfl)
theorem dX1_floor_82 : decode cX1_floor 82 = .ok (.getfield 245, 3) := dk_180 0 245 (dk_at dksX1_floor_3 14 rfl rfl)
theorem dX1_floor_85 : decode cX1_floor 85 = .ok (.imul, 1) := dk_104 (dk_at dksX1_floor_3 17 rfl rfl)
theorem dX1_floor_86 : decode cX1_floor 86 = .ok (.iload 6, 2) := dk_21 6 (dk_at dksX1_floor_3 18 rfl rfl)
theorem dX1_floor_88 : decode cX1_floor 88 = .ok (.iadd, 1) := dk_96 (dk_at dksX1_floor_3 20 rfl rfl)
theorem dX1_floor_89 : decode cX1_floor 89 = .ok (.iload_n 3, 1) := dk_29 (dk_at dksX1_floor_3 21 rfl rfl)
theorem dX1_floor_90 : decode cX1_floor 90 = .ok (.iastore, 1) := dk_79 (dk_at dksX1_floor_3 22 rfl rfl)
theorem dX1_floor_91 : decode cX1_floor 91 = .ok (.iinc 6 1, 3) := dk_132 6 1 (dk_at dksX1_floor_4 0 rfl rfl)
theorem dX1_floor_94 : decode cX1_floor 94 = .ok (.goto (-33), 3) := dk_167 255 223 (dk_at dksX1_floor_4 3 rfl rfl)
theorem dX1_floor_97 : decode cX1_floor 97 = .ok (.aload 5, 2) := dk_25 5 (dk_at dksX1_floor_4 6 rfl rfl)
theorem dX1_floor_99 : decode cX1_floor 99 = .ok (.getfield 251, 3) := dk_180 0 251 (dk_at dksX1_floor_4 8 rfl rfl)
theorem dX1_floor_102 : decode cX1_floor 102 = .ok (.iload_n 2, 1) := dk_28 (dk_at dksX1_floor_4 11 rfl rfl)
theorem dX1_floor_103 : decode cX1_floor 103 = .ok (.iload_n 3, 1) := dk_29 (dk_at dksX1_floor_4 12 rfl rfl)
theorem dX1_floor_104 : decode cX1_floor 104 = .ok (.iastore, 1) := dk_79 (dk_at dksX1_floor_4 13 rfl rfl)
theorem dX1_floor_105 : decode cX1_floor 105 = .ok (.aload 5, 2) := dk_25 5 (dk_at dksX1_floor_4 14 rfl rfl)
theorem dX1_floor_107 : decode cX1_floor 107 = .ok (.getfield 254, 3) := dk_180 0 254 (dk_at dksX1_floor_4 16 rfl rfl)
theorem dX1_floor_110 : decode cX1_floor 110 = .ok (.iload_n 2, 1) := dk_28 (dk_at dksX1_floor_4 19 rfl rfl)
theorem dX1_floor_111 : decode cX1_floor 111 = .ok (.iload 4, 2) := dk_21 4 (dk_at dksX1_floor_4 20 rfl rfl)
theorem dX1_floor_113 : decode cX1_floor 113 = .ok (.iastore, 1) := dk_79 (dk_at dksX1_floor_4 22 rfl rfl)
theorem dX1_floor_114 : decode cX1_floor 114 = .ok (.aload_n 0, 1) := dk_42 (dk_at dksX1_floor_4 23 rfl rfl)
theorem dX1_floor_115 : decode cX1_floor 115 = .ok (.invokevirtual 257, 3) := dk_182 1 1 (dk_at dksX1_floor_5 0 rfl rfl)
theorem dX1_floor_118 : decode cX1_floor 118 = .ok (.iconst 1, 1) := dk_4 (dk_at dksX1_floor_5 3 rfl rfl)
theorem dX1_floor_119 : decode cX1_floor 119 = .ok (.ireturn, 1) := dk_172 (dk_at dksX1_floor_5 4 rfl rfl)
abbrev cX1_isFloor : ByteArray := prog_1_method_17_code
def yX1_isFloor : MethodName := ⟨RX1, "isFloor", "(II)Z"⟩
def dkwX1_isFloor_1 : List UInt8 := [153, 0, 7, 4, 167, 0, 4, 3, 172]
abbrev dktX1_isFloor_1 : List UInt8 := dkwX1_isFloor_1 ++ []
def dkwX1_isFloor_0 : List UInt8 := [42, 27, 182, 0, 202, 153, 0, 26, 28, 3, 42, 180, 0, 30, 27, 50, 180, 0, 209, 4, 100, 184, 0, 3]
abbrev dktX1_isFloor_0 : List UInt8 := dkwX1_isFloor_0 ++ dktX1_isFloor_1
theorem dksX1_isFloor_0 : cX1_isFloor.data.toList.drop 0 = dktX1_isFloor_0 := by decide +kernel
theorem dksX1_isFloor_1 : cX1_isFloor.data.toList.drop 24 = dktX1_isFloor_1 := dk_seg dksX1_isFloor_0 24 rfl rfl
theorem dX1_isFloor_0 : decode cX1_isFloor 0 = .ok (.aload_n 0, 1) := dk_42 (dk_at dksX1_isFloor_0 0 rfl rfl)
theorem dX1_isFloor_1 : decode cX1_isFloor 1 = .ok (.iload_n 1, 1) := dk_27 (dk_at dksX1_isFloor_0 1 rfl rfl)
theorem dX1_isFloor_2 : decode cX1_isFloor 2 = .ok (.invokevirtual 202, 3) := dk_182 0 202 (dk_at dksX1_isFloor_0 2 rfl rfl)
theorem dX1_isFloor_5 : decode cX1_isFloor 5 = .ok (.ifCond .eq 26, 3) := dk_153 0 26 (dk_at dksX1_isFloor_0 5 rfl rfl)
theorem dX1_isFloor_8 : decode cX1_isFloor 8 = .ok (.iload_n 2, 1) := dk_28 (dk_at dksX1_isFloor_0 8 rfl rfl)
theorem dX1_isFloor_9 : decode cX1_isFloor 9 = .ok (.iconst 0, 1) := dk_3 (dk_at dksX1_isFloor_0 9 rfl rfl)
theorem dX1_isFloor_10 : decode cX1_isFloor 10 = .ok (.aload_n 0, 1) := dk_42 (dk_at dksX1_isFloor_0 10 rfl rfl)
theorem dX1_isFloor_11 : decode cX1_isFloor 11 = .ok (.getfield 30, 3) := dk_180 0 30 (dk_at dksX1_isFloor_0 11 rfl rfl)
theorem dX1_isFloor_14 : decode cX1_isFloor 14 = .ok (.iload_n 1, 1) := dk_27 (dk_at dksX1_isFloor_0 14 rfl rfl)
theorem dX1_isFloor_15 : decode cX1_isFloor 15 = .ok (.aaload, 1) := dk_50 (dk_at dksX1_isFloor_0 15 rfl rfl)
theorem dX1_isFloor_16 : decode cX1_isFloor 16 = .ok (.getfield 209, 3) := dk_180 0 209 (dk_at dksX1_isFloor_0 16 rfl rfl)
theorem dX1_isFloor_19 : decode cX1_isFloor 19 = .ok (.iconst 1, 1) := dk_4 (dk_at dksX1_isFloor_0 19 rfl rfl)
theorem dX1_isFloor_20 : decode cX1_isFloor 20 = .ok (.isub, 1) := dk_100 (dk_at dksX1_isFloor_0 20 rfl rfl)
theorem dX1_isFloor_21 : decode cX1_isFloor 21 = .ok (.invokestatic 3, 3) := dk_184 0 3 (dk_at dksX1_isFloor_0 21 rfl rfl)
theorem dX1_isFloor_24 : decode cX1_isFloor 24 = .ok (.ifCond .eq 7, 3) := dk_153 0 7 (dk_at dksX1_isFloor_1 0 rfl rfl)
theorem dX1_isFloor_27 : decode cX1_isFloor 27 = .ok (.iconst 1, 1) := dk_4 (dk_at dksX1_isFloor_1 3 rfl rfl)
theorem dX1_isFloor_28 : decode cX1_isFloor 28 = .ok (.goto 4, 3) := dk_167 0 4 (dk_at dksX1_isFloor_1 4 rfl rfl)
theorem dX1_isFloor_31 : decode cX1_isFloor 31 = .ok (.iconst 0, 1) := dk_3 (dk_at dksX1_isFloor_1 7 rfl rfl)
theorem dX1_isFloor_32 : decode cX1_isFloor 32 = .ok (.ireturn, 1) := dk_172 (dk_at dksX1_isFloor_1 8 rfl rfl)
abbrev cX1_notice : ByteArray := prog_1_method_79_code
def yX1_notice : MethodName := ⟨RX1, "notice", "()V"⟩
def dkwX1_notice_2 : List UInt8 := [132, 1, 1, 167, 255, 207, 177]
abbrev dktX1_notice_2 : List UInt8 := dkwX1_notice_2 ++ []
def dkwX1_notice_1 : List UInt8 := [180, 0, 74, 27, 50, 180, 2, 78, 182, 2, 82, 198, 0, 13, 42, 180, 0, 74, 27, 50, 4, 181, 2, 86]
abbrev dktX1_notice_1 : List UInt8 := dkwX1_notice_1 ++ dktX1_notice_2
def dkwX1_notice_0 : List UInt8 := [3, 60, 27, 42, 180, 2, 75, 162, 0, 47, 42, 180, 0, 74, 27, 50, 180, 2, 79, 154, 0, 29, 42, 42]
abbrev dktX1_notice_0 : List UInt8 := dkwX1_notice_0 ++ dktX1_notice_1
theorem dksX1_notice_0 : cX1_notice.data.toList.drop 0 = dktX1_notice_0 := by decide +kernel
theorem dksX1_notice_1 : cX1_notice.data.toList.drop 24 = dktX1_notice_1 := dk_seg dksX1_notice_0 24 rfl rfl
theorem dksX1_notice_2 : cX1_notice.data.toList.drop 48 = dktX1_notice_2 := dk_seg dksX1_notice_1 24 rfl rfl
theorem dX1_notice_0 : decode cX1_notice 0 = .ok (.iconst 0, 1) := dk_3 (dk_at dksX1_notice_0 0 rfl rfl)
theorem dX1_notice_1 : decode cX1_notice 1 = .ok (.istore_n 1, 1) := dk_60 (dk_at dksX1_notice_0 1 rfl rfl)
theorem dX1_notice_2 : decode cX1_notice 2 = .ok (.iload_n 1, 1) := dk_27 (dk_at dksX1_notice_0 2 rfl rfl)
theorem dX1_notice_3 : decode cX1_notice 3 = .ok (.aload_n 0, 1) := dk_42 (dk_at dksX1_notice_0 3 rfl rfl)
theorem dX1_notice_4 : decode cX1_notice 4 = .ok (.getfield 587, 3) := dk_180 2 75 (dk_at dksX1_notice_0 4 rfl rfl)
theorem dX1_notice_7 : decode cX1_notice 7 = .ok (.if_icmp .ge 47, 3) := dk_162 0 47 (dk_at dksX1_notice_0 7 rfl rfl)
theorem dX1_notice_10 : decode cX1_notice 10 = .ok (.aload_n 0, 1) := dk_42 (dk_at dksX1_notice_0 10 rfl rfl)
theorem dX1_notice_11 : decode cX1_notice 11 = .ok (.getfield 74, 3) := dk_180 0 74 (dk_at dksX1_notice_0 11 rfl rfl)
theorem dX1_notice_14 : decode cX1_notice 14 = .ok (.iload_n 1, 1) := dk_27 (dk_at dksX1_notice_0 14 rfl rfl)
theorem dX1_notice_15 : decode cX1_notice 15 = .ok (.aaload, 1) := dk_50 (dk_at dksX1_notice_0 15 rfl rfl)
theorem dX1_notice_16 : decode cX1_notice 16 = .ok (.getfield 591, 3) := dk_180 2 79 (dk_at dksX1_notice_0 16 rfl rfl)
theorem dX1_notice_19 : decode cX1_notice 19 = .ok (.ifCond .ne 29, 3) := dk_154 0 29 (dk_at dksX1_notice_0 19 rfl rfl)
theorem dX1_notice_22 : decode cX1_notice 22 = .ok (.aload_n 0, 1) := dk_42 (dk_at dksX1_notice_0 22 rfl rfl)
theorem dX1_notice_23 : decode cX1_notice 23 = .ok (.aload_n 0, 1) := dk_42 (dk_at dksX1_notice_0 23 rfl rfl)
theorem dX1_notice_24 : decode cX1_notice 24 = .ok (.getfield 74, 3) := dk_180 0 74 (dk_at dksX1_notice_1 0 rfl rfl)
theorem dX1_notice_27 : decode cX1_notice 27 = .ok (.iload_n 1, 1) := dk_27 (dk_at dksX1_notice_1 3 rfl rfl)
theorem dX1_notice_28 : decode cX1_notice 28 = .ok (.aaload, 1) := dk_50 (dk_at dksX1_notice_1 4 rfl rfl)
theorem dX1_notice_29 : decode cX1_notice 29 = .ok (.getfield 590, 3) := dk_180 2 78 (dk_at dksX1_notice_1 5 rfl rfl)
theorem dX1_notice_32 : decode cX1_notice 32 = .ok (.invokevirtual 594, 3) := dk_182 2 82 (dk_at dksX1_notice_1 8 rfl rfl)
theorem dX1_notice_35 : decode cX1_notice 35 = .ok (.ifnull 13, 3) := dk_198 0 13 (dk_at dksX1_notice_1 11 rfl rfl)
theorem dX1_notice_38 : decode cX1_notice 38 = .ok (.aload_n 0, 1) := dk_42 (dk_at dksX1_notice_1 14 rfl rfl)
theorem dX1_notice_39 : decode cX1_notice 39 = .ok (.getfield 74, 3) := dk_180 0 74 (dk_at dksX1_notice_1 15 rfl rfl)
theorem dX1_notice_42 : decode cX1_notice 42 = .ok (.iload_n 1, 1) := dk_27 (dk_at dksX1_notice_1 18 rfl rfl)
theorem dX1_notice_43 : decode cX1_notice 43 = .ok (.aaload, 1) := dk_50 (dk_at dksX1_notice_1 19 rfl rfl)
theorem dX1_notice_44 : decode cX1_notice 44 = .ok (.iconst 1, 1) := dk_4 (dk_at dksX1_notice_1 20 rfl rfl)
theorem dX1_notice_45 : decode cX1_notice 45 = .ok (.putfield 598, 3) := dk_181 2 86 (dk_at dksX1_notice_1 21 rfl rfl)
theorem dX1_notice_48 : decode cX1_notice 48 = .ok (.iinc 1 1, 3) := dk_132 1 1 (dk_at dksX1_notice_2 0 rfl rfl)
theorem dX1_notice_51 : decode cX1_notice 51 = .ok (.goto (-49), 3) := dk_167 255 207 (dk_at dksX1_notice_2 3 rfl rfl)
theorem dX1_notice_54 : decode cX1_notice 54 = .ok (.return_, 1) := dk_177 (dk_at dksX1_notice_2 6 rfl rfl)
abbrev cX1_worst : ByteArray := prog_1_method_36_code
def yX1_worst : MethodName := ⟨RX1, "worst", "(I)LCityBrigade$House;"⟩
def dkwX1_worst_2 : List UInt8 := [42, 180, 0, 30, 21, 4, 50, 77, 44, 182, 1, 29, 62, 132, 4, 1, 167, 255, 200, 44, 176]
abbrev dktX1_worst_2 : List UInt8 := dkwX1_worst_2 ++ []
def dkwX1_worst_1 : List UInt8 := [180, 1, 52, 27, 160, 0, 33, 42, 180, 0, 30, 21, 4, 50, 182, 1, 29, 29, 163, 0, 6, 167, 0, 16]
abbrev dktX1_worst_1 : List UInt8 := dkwX1_worst_1 ++ dktX1_worst_2
def dkwX1_worst_0 : List UInt8 := [1, 77, 3, 62, 3, 54, 4, 21, 4, 42, 180, 0, 199, 162, 0, 53, 42, 180, 0, 30, 21, 4, 50]
abbrev dktX1_worst_0 : List UInt8 := dkwX1_worst_0 ++ dktX1_worst_1
theorem dksX1_worst_0 : cX1_worst.data.toList.drop 0 = dktX1_worst_0 := by decide +kernel
theorem dksX1_worst_1 : cX1_worst.data.toList.drop 23 = dktX1_worst_1 := dk_seg dksX1_worst_0 23 rfl rfl
theorem dksX1_worst_2 : cX1_worst.data.toList.drop 47 = dktX1_worst_2 := dk_seg dksX1_worst_1 24 rfl rfl
theorem dX1_worst_0 : decode cX1_worst 0 = .ok (.aconst_null, 1) := dk_1 (dk_at dksX1_worst_0 0 rfl rfl)
theorem dX1_worst_1 : decode cX1_worst 1 = .ok (.astore_n 2, 1) := dk_77 (dk_at dksX1_worst_0 1 rfl rfl)
theorem dX1_worst_2 : decode cX1_worst 2 = .ok (.iconst 0, 1) := dk_3 (dk_at dksX1_worst_0 2 rfl rfl)
theorem dX1_worst_3 : decode cX1_worst 3 = .ok (.istore_n 3, 1) := dk_62 (dk_at dksX1_worst_0 3 rfl rfl)
theorem dX1_worst_4 : decode cX1_worst 4 = .ok (.iconst 0, 1) := dk_3 (dk_at dksX1_worst_0 4 rfl rfl)
theorem dX1_worst_5 : decode cX1_worst 5 = .ok (.istore 4, 2) := dk_54 4 (dk_at dksX1_worst_0 5 rfl rfl)
theorem dX1_worst_7 : decode cX1_worst 7 = .ok (.iload 4, 2) := dk_21 4 (dk_at dksX1_worst_0 7 rfl rfl)
theorem dX1_worst_9 : decode cX1_worst 9 = .ok (.aload_n 0, 1) := dk_42 (dk_at dksX1_worst_0 9 rfl rfl)
theorem dX1_worst_10 : decode cX1_worst 10 = .ok (.getfield 199, 3) := dk_180 0 199 (dk_at dksX1_worst_0 10 rfl rfl)
theorem dX1_worst_13 : decode cX1_worst 13 = .ok (.if_icmp .ge 53, 3) := dk_162 0 53 (dk_at dksX1_worst_0 13 rfl rfl)
theorem dX1_worst_16 : decode cX1_worst 16 = .ok (.aload_n 0, 1) := dk_42 (dk_at dksX1_worst_0 16 rfl rfl)
theorem dX1_worst_17 : decode cX1_worst 17 = .ok (.getfield 30, 3) := dk_180 0 30 (dk_at dksX1_worst_0 17 rfl rfl)
theorem dX1_worst_20 : decode cX1_worst 20 = .ok (.iload 4, 2) := dk_21 4 (dk_at dksX1_worst_0 20 rfl rfl)
theorem dX1_worst_22 : decode cX1_worst 22 = .ok (.aaload, 1) := dk_50 (dk_at dksX1_worst_0 22 rfl rfl)
theorem dX1_worst_23 : decode cX1_worst 23 = .ok (.getfield 308, 3) := dk_180 1 52 (dk_at dksX1_worst_1 0 rfl rfl)
theorem dX1_worst_26 : decode cX1_worst 26 = .ok (.iload_n 1, 1) := dk_27 (dk_at dksX1_worst_1 3 rfl rfl)
theorem dX1_worst_27 : decode cX1_worst 27 = .ok (.if_icmp .ne 33, 3) := dk_160 0 33 (dk_at dksX1_worst_1 4 rfl rfl)
theorem dX1_worst_30 : decode cX1_worst 30 = .ok (.aload_n 0, 1) := dk_42 (dk_at dksX1_worst_1 7 rfl rfl)
theorem dX1_worst_31 : decode cX1_worst 31 = .ok (.getfield 30, 3) := dk_180 0 30 (dk_at dksX1_worst_1 8 rfl rfl)
theorem dX1_worst_34 : decode cX1_worst 34 = .ok (.iload 4, 2) := dk_21 4 (dk_at dksX1_worst_1 11 rfl rfl)
theorem dX1_worst_36 : decode cX1_worst 36 = .ok (.aaload, 1) := dk_50 (dk_at dksX1_worst_1 13 rfl rfl)
theorem dX1_worst_37 : decode cX1_worst 37 = .ok (.invokevirtual 285, 3) := dk_182 1 29 (dk_at dksX1_worst_1 14 rfl rfl)
theorem dX1_worst_40 : decode cX1_worst 40 = .ok (.iload_n 3, 1) := dk_29 (dk_at dksX1_worst_1 17 rfl rfl)
theorem dX1_worst_41 : decode cX1_worst 41 = .ok (.if_icmp .gt 6, 3) := dk_163 0 6 (dk_at dksX1_worst_1 18 rfl rfl)
theorem dX1_worst_44 : decode cX1_worst 44 = .ok (.goto 16, 3) := dk_167 0 16 (dk_at dksX1_worst_1 21 rfl rfl)
theorem dX1_worst_47 : decode cX1_worst 47 = .ok (.aload_n 0, 1) := dk_42 (dk_at dksX1_worst_2 0 rfl rfl)
theorem dX1_worst_48 : decode cX1_worst 48 = .ok (.getfield 30, 3) := dk_180 0 30 (dk_at dksX1_worst_2 1 rfl rfl)
theorem dX1_worst_51 : decode cX1_worst 51 = .ok (.iload 4, 2) := dk_21 4 (dk_at dksX1_worst_2 4 rfl rfl)
theorem dX1_worst_53 : decode cX1_worst 53 = .ok (.aaload, 1) := dk_50 (dk_at dksX1_worst_2 6 rfl rfl)
theorem dX1_worst_54 : decode cX1_worst 54 = .ok (.astore_n 2, 1) := dk_77 (dk_at dksX1_worst_2 7 rfl rfl)
theorem dX1_worst_55 : decode cX1_worst 55 = .ok (.aload_n 2, 1) := dk_44 (dk_at dksX1_worst_2 8 rfl rfl)
theorem dX1_worst_56 : decode cX1_worst 56 = .ok (.invokevirtual 285, 3) := dk_182 1 29 (dk_at dksX1_worst_2 9 rfl rfl)
theorem dX1_worst_59 : decode cX1_worst 59 = .ok (.istore_n 3, 1) := dk_62 (dk_at dksX1_worst_2 12 rfl rfl)
theorem dX1_worst_60 : decode cX1_worst 60 = .ok (.iinc 4 1, 3) := dk_132 4 1 (dk_at dksX1_worst_2 13 rfl rfl)
theorem dX1_worst_63 : decode cX1_worst 63 = .ok (.goto (-56), 3) := dk_167 255 200 (dk_at dksX1_worst_2 16 rfl rfl)
theorem dX1_worst_66 : decode cX1_worst 66 = .ok (.aload_n 2, 1) := dk_44 (dk_at dksX1_worst_2 19 rfl rfl)
theorem dX1_worst_67 : decode cX1_worst 67 = .ok (.areturn, 1) := dk_176 (dk_at dksX1_worst_2 20 rfl rfl)
abbrev cX1_light : ByteArray := prog_1_method_22_code
def yX1_light : MethodName := ⟨RX1, "light", "(II)Z"⟩
def dkwX1_light_3 : List UInt8 := [79, 42, 182, 1, 1, 4, 172]
abbrev dktX1_light_3 : List UInt8 := dkwX1_light_3 ++ []
def dkwX1_light_2 : List UInt8 := [180, 1, 10, 28, 17, 1, 144, 42, 180, 0, 30, 27, 50, 180, 0, 235, 180, 1, 10, 28, 46, 184, 1, 13]
abbrev dktX1_light_2 : List UInt8 := dkwX1_light_2 ++ dktX1_light_3
def dkwX1_light_1 : List UInt8 := [180, 0, 30, 27, 50, 28, 182, 1, 7, 51, 153, 0, 5, 3, 172, 42, 180, 0, 30, 27, 50, 180, 0, 235]
abbrev dktX1_light_1 : List UInt8 := dkwX1_light_1 ++ dktX1_light_2
def dkwX1_light_0 : List UInt8 := [42, 27, 28, 182, 1, 4, 153, 0, 29, 42, 180, 0, 30, 27, 50, 180, 0, 235, 180, 0, 239, 42]
abbrev dktX1_light_0 : List UInt8 := dkwX1_light_0 ++ dktX1_light_1
theorem dksX1_light_0 : cX1_light.data.toList.drop 0 = dktX1_light_0 := by decide +kernel
theorem dksX1_light_1 : cX1_light.data.toList.drop 22 = dktX1_light_1 := dk_seg dksX1_light_0 22 rfl rfl
theorem dksX1_light_2 : cX1_light.data.toList.drop 46 = dktX1_light_2 := dk_seg dksX1_light_1 24 rfl rfl
theorem dksX1_light_3 : cX1_light.data.toList.drop 70 = dktX1_light_3 := dk_seg dksX1_light_2 24 rfl rfl
theorem dX1_light_0 : decode cX1_light 0 = .ok (.aload_n 0, 1) := dk_42 (dk_at dksX1_light_0 0 rfl rfl)
theorem dX1_light_1 : decode cX1_light 1 = .ok (.iload_n 1, 1) := dk_27 (dk_at dksX1_light_0 1 rfl rfl)
theorem dX1_light_2 : decode cX1_light 2 = .ok (.iload_n 2, 1) := dk_28 (dk_at dksX1_light_0 2 rfl rfl)
theorem dX1_light_3 : decode cX1_light 3 = .ok (.invokevirtual 260, 3) := dk_182 1 4 (dk_at dksX1_light_0 3 rfl rfl)
theorem dX1_light_6 : decode cX1_light 6 = .ok (.ifCond .eq 29, 3) := dk_153 0 29 (dk_at dksX1_light_0 6 rfl rfl)
theorem dX1_light_9 : decode cX1_light 9 = .ok (.aload_n 0, 1) := dk_42 (dk_at dksX1_light_0 9 rfl rfl)
theorem dX1_light_10 : decode cX1_light 10 = .ok (.getfield 30, 3) := dk_180 0 30 (dk_at dksX1_light_0 10 rfl rfl)
theorem dX1_light_13 : decode cX1_light 13 = .ok (.iload_n 1, 1) := dk_27 (dk_at dksX1_light_0 13 rfl rfl)
theorem dX1_light_14 : decode cX1_light 14 = .ok (.aaload, 1) := dk_50 (dk_at dksX1_light_0 14 rfl rfl)
theorem dX1_light_15 : decode cX1_light 15 = .ok (.getfield 235, 3) := dk_180 0 235 (dk_at dksX1_light_0 15 rfl rfl)
theorem dX1_light_18 : decode cX1_light 18 = .ok (.getfield 239, 3) := dk_180 0 239 (dk_at dksX1_light_0 18 rfl rfl)
theorem dX1_light_21 : decode cX1_light 21 = .ok (.aload_n 0, 1) := dk_42 (dk_at dksX1_light_0 21 rfl rfl)
theorem dX1_light_22 : decode cX1_light 22 = .ok (.getfield 30, 3) := dk_180 0 30 (dk_at dksX1_light_1 0 rfl rfl)
theorem dX1_light_25 : decode cX1_light 25 = .ok (.iload_n 1, 1) := dk_27 (dk_at dksX1_light_1 3 rfl rfl)
theorem dX1_light_26 : decode cX1_light 26 = .ok (.aaload, 1) := dk_50 (dk_at dksX1_light_1 4 rfl rfl)
theorem dX1_light_27 : decode cX1_light 27 = .ok (.iload_n 2, 1) := dk_28 (dk_at dksX1_light_1 5 rfl rfl)
theorem dX1_light_28 : decode cX1_light 28 = .ok (.invokevirtual 263, 3) := dk_182 1 7 (dk_at dksX1_light_1 6 rfl rfl)
theorem dX1_light_31 : decode cX1_light 31 = .ok (.baload, 1) := dk_51 (dk_at dksX1_light_1 9 rfl rfl)
theorem dX1_light_32 : decode cX1_light 32 = .ok (.ifCond .eq 5, 3) := dk_153 0 5 (dk_at dksX1_light_1 10 rfl rfl)
theorem dX1_light_35 : decode cX1_light 35 = .ok (.iconst 0, 1) := dk_3 (dk_at dksX1_light_1 13 rfl rfl)
theorem dX1_light_36 : decode cX1_light 36 = .ok (.ireturn, 1) := dk_172 (dk_at dksX1_light_1 14 rfl rfl)
theorem dX1_light_37 : decode cX1_light 37 = .ok (.aload_n 0, 1) := dk_42 (dk_at dksX1_light_1 15 rfl rfl)
theorem dX1_light_38 : decode cX1_light 38 = .ok (.getfield 30, 3) := dk_180 0 30 (dk_at dksX1_light_1 16 rfl rfl)
theorem dX1_light_41 : decode cX1_light 41 = .ok (.iload_n 1, 1) := dk_27 (dk_at dksX1_light_1 19 rfl rfl)
theorem dX1_light_42 : decode cX1_light 42 = .ok (.aaload, 1) := dk_50 (dk_at dksX1_light_1 20 rfl rfl)
theorem dX1_light_43 : decode cX1_light 43 = .ok (.getfield 235, 3) := dk_180 0 235 (dk_at dksX1_light_1 21 rfl rfl)
theorem dX1_light_46 : decode cX1_light 46 = .ok (.getfield 266, 3) := dk_180 1 10 (dk_at dksX1_light_2 0 rfl rfl)
theorem dX1_light_49 : decode cX1_light 49 = .ok (.iload_n 2, 1) := dk_28 (dk_at dksX1_light_2 3 rfl rfl)
theorem dX1_light_50 : decode cX1_light 50 = .ok (.sipush 400, 3) := dk_17 1 144 (dk_at dksX1_light_2 4 rfl rfl)
theorem dX1_light_53 : decode cX1_light 53 = .ok (.aload_n 0, 1) := dk_42 (dk_at dksX1_light_2 7 rfl rfl)
theorem dX1_light_54 : decode cX1_light 54 = .ok (.getfield 30, 3) := dk_180 0 30 (dk_at dksX1_light_2 8 rfl rfl)
theorem dX1_light_57 : decode cX1_light 57 = .ok (.iload_n 1, 1) := dk_27 (dk_at dksX1_light_2 11 rfl rfl)
theorem dX1_light_58 : decode cX1_light 58 = .ok (.aaload, 1) := dk_50 (dk_at dksX1_light_2 12 rfl rfl)
theorem dX1_light_59 : decode cX1_light 59 = .ok (.getfield 235, 3) := dk_180 0 235 (dk_at dksX1_light_2 13 rfl rfl)
theorem dX1_light_62 : decode cX1_light 62 = .ok (.getfield 266, 3) := dk_180 1 10 (dk_at dksX1_light_2 16 rfl rfl)
theorem dX1_light_65 : decode cX1_light 65 = .ok (.iload_n 2, 1) := dk_28 (dk_at dksX1_light_2 19 rfl rfl)
theorem dX1_light_66 : decode cX1_light 66 = .ok (.iaload, 1) := dk_46 (dk_at dksX1_light_2 20 rfl rfl)
theorem dX1_light_67 : decode cX1_light 67 = .ok (.invokestatic 269, 3) := dk_184 1 13 (dk_at dksX1_light_2 21 rfl rfl)
theorem dX1_light_70 : decode cX1_light 70 = .ok (.iastore, 1) := dk_79 (dk_at dksX1_light_3 0 rfl rfl)
theorem dX1_light_71 : decode cX1_light 71 = .ok (.aload_n 0, 1) := dk_42 (dk_at dksX1_light_3 1 rfl rfl)
theorem dX1_light_72 : decode cX1_light 72 = .ok (.invokevirtual 257, 3) := dk_182 1 1 (dk_at dksX1_light_3 2 rfl rfl)
theorem dX1_light_75 : decode cX1_light 75 = .ok (.iconst 1, 1) := dk_4 (dk_at dksX1_light_3 5 rfl rfl)
theorem dX1_light_76 : decode cX1_light 76 = .ok (.ireturn, 1) := dk_172 (dk_at dksX1_light_3 6 rfl rfl)
abbrev cX1_isRoom : ByteArray := prog_1_method_16_code
def yX1_isRoom : MethodName := ⟨RX1, "isRoom", "(II)Z"⟩
def dkwX1_isRoom_1 : List UInt8 := [153, 0, 7, 4, 167, 0, 4, 3, 172]
abbrev dktX1_isRoom_1 : List UInt8 := dkwX1_isRoom_1 ++ []
def dkwX1_isRoom_0 : List UInt8 := [42, 27, 182, 0, 202, 153, 0, 26, 28, 3, 42, 180, 0, 30, 27, 50, 182, 0, 205, 4, 100, 184, 0, 3]
abbrev dktX1_isRoom_0 : List UInt8 := dkwX1_isRoom_0 ++ dktX1_isRoom_1
theorem dksX1_isRoom_0 : cX1_isRoom.data.toList.drop 0 = dktX1_isRoom_0 := by decide +kernel
theorem dksX1_isRoom_1 : cX1_isRoom.data.toList.drop 24 = dktX1_isRoom_1 := dk_seg dksX1_isRoom_0 24 rfl rfl
theorem dX1_isRoom_0 : decode cX1_isRoom 0 = .ok (.aload_n 0, 1) := dk_42 (dk_at dksX1_isRoom_0 0 rfl rfl)
theorem dX1_isRoom_1 : decode cX1_isRoom 1 = .ok (.iload_n 1, 1) := dk_27 (dk_at dksX1_isRoom_0 1 rfl rfl)
theorem dX1_isRoom_2 : decode cX1_isRoom 2 = .ok (.invokevirtual 202, 3) := dk_182 0 202 (dk_at dksX1_isRoom_0 2 rfl rfl)
theorem dX1_isRoom_5 : decode cX1_isRoom 5 = .ok (.ifCond .eq 26, 3) := dk_153 0 26 (dk_at dksX1_isRoom_0 5 rfl rfl)
theorem dX1_isRoom_8 : decode cX1_isRoom 8 = .ok (.iload_n 2, 1) := dk_28 (dk_at dksX1_isRoom_0 8 rfl rfl)
theorem dX1_isRoom_9 : decode cX1_isRoom 9 = .ok (.iconst 0, 1) := dk_3 (dk_at dksX1_isRoom_0 9 rfl rfl)
theorem dX1_isRoom_10 : decode cX1_isRoom 10 = .ok (.aload_n 0, 1) := dk_42 (dk_at dksX1_isRoom_0 10 rfl rfl)
theorem dX1_isRoom_11 : decode cX1_isRoom 11 = .ok (.getfield 30, 3) := dk_180 0 30 (dk_at dksX1_isRoom_0 11 rfl rfl)
theorem dX1_isRoom_14 : decode cX1_isRoom 14 = .ok (.iload_n 1, 1) := dk_27 (dk_at dksX1_isRoom_0 14 rfl rfl)
theorem dX1_isRoom_15 : decode cX1_isRoom 15 = .ok (.aaload, 1) := dk_50 (dk_at dksX1_isRoom_0 15 rfl rfl)
theorem dX1_isRoom_16 : decode cX1_isRoom 16 = .ok (.invokevirtual 205, 3) := dk_182 0 205 (dk_at dksX1_isRoom_0 16 rfl rfl)
theorem dX1_isRoom_19 : decode cX1_isRoom 19 = .ok (.iconst 1, 1) := dk_4 (dk_at dksX1_isRoom_0 19 rfl rfl)
theorem dX1_isRoom_20 : decode cX1_isRoom 20 = .ok (.isub, 1) := dk_100 (dk_at dksX1_isRoom_0 20 rfl rfl)
theorem dX1_isRoom_21 : decode cX1_isRoom 21 = .ok (.invokestatic 3, 3) := dk_184 0 3 (dk_at dksX1_isRoom_0 21 rfl rfl)
theorem dX1_isRoom_24 : decode cX1_isRoom 24 = .ok (.ifCond .eq 7, 3) := dk_153 0 7 (dk_at dksX1_isRoom_1 0 rfl rfl)
theorem dX1_isRoom_27 : decode cX1_isRoom 27 = .ok (.iconst 1, 1) := dk_4 (dk_at dksX1_isRoom_1 3 rfl rfl)
theorem dX1_isRoom_28 : decode cX1_isRoom 28 = .ok (.goto 4, 3) := dk_167 0 4 (dk_at dksX1_isRoom_1 4 rfl rfl)
theorem dX1_isRoom_31 : decode cX1_isRoom 31 = .ok (.iconst 0, 1) := dk_3 (dk_at dksX1_isRoom_1 7 rfl rfl)
theorem dX1_isRoom_32 : decode cX1_isRoom 32 = .ok (.ireturn, 1) := dk_172 (dk_at dksX1_isRoom_1 8 rfl rfl)
abbrev cX1_room : ByteArray := prog_1_method_23_code
def yX1_room : MethodName := ⟨RX1, "room", "(III)I"⟩
def dkwX1_room_3 : List UInt8 := [25, 4, 180, 0, 235, 28, 182, 1, 18, 153, 0, 7, 4, 167, 0, 4, 3, 172, 2, 172]
abbrev dktX1_room_3 : List UInt8 := dkwX1_room_3 ++ []
def dkwX1_room_2 : List UInt8 := [25, 4, 180, 0, 235, 180, 1, 10, 28, 46, 172, 25, 4, 180, 0, 235, 180, 0, 248, 28, 46, 172, 25, 4]
abbrev dktX1_room_2 : List UInt8 := dkwX1_room_2 ++ dktX1_room_3
def dkwX1_room_1 : List UInt8 := [170, 0, 0, 0, 0, 0, 0, 70, 0, 0, 0, 0, 0, 0, 0, 2, 0, 0, 0, 28, 0, 0, 0, 39, 0, 0, 0, 50]
abbrev dktX1_room_1 : List UInt8 := dkwX1_room_1 ++ dktX1_room_2
def dkwX1_room_0 : List UInt8 := [42, 27, 28, 182, 1, 4, 154, 0, 5, 2, 172, 42, 180, 0, 30, 27, 50, 58, 4, 29]
abbrev dktX1_room_0 : List UInt8 := dkwX1_room_0 ++ dktX1_room_1
theorem dksX1_room_0 : cX1_room.data.toList.drop 0 = dktX1_room_0 := by decide +kernel
theorem dksX1_room_1 : cX1_room.data.toList.drop 20 = dktX1_room_1 := dk_seg dksX1_room_0 20 rfl rfl
theorem dksX1_room_2 : cX1_room.data.toList.drop 48 = dktX1_room_2 := dk_seg dksX1_room_1 28 rfl rfl
theorem dksX1_room_3 : cX1_room.data.toList.drop 72 = dktX1_room_3 := dk_seg dksX1_room_2 24 rfl rfl
theorem dX1_room_0 : decode cX1_room 0 = .ok (.aload_n 0, 1) := dk_42 (dk_at dksX1_room_0 0 rfl rfl)
theorem dX1_room_1 : decode cX1_room 1 = .ok (.iload_n 1, 1) := dk_27 (dk_at dksX1_room_0 1 rfl rfl)
theorem dX1_room_2 : decode cX1_room 2 = .ok (.iload_n 2, 1) := dk_28 (dk_at dksX1_room_0 2 rfl rfl)
theorem dX1_room_3 : decode cX1_room 3 = .ok (.invokevirtual 260, 3) := dk_182 1 4 (dk_at dksX1_room_0 3 rfl rfl)
theorem dX1_room_6 : decode cX1_room 6 = .ok (.ifCond .ne 5, 3) := dk_154 0 5 (dk_at dksX1_room_0 6 rfl rfl)
theorem dX1_room_9 : decode cX1_room 9 = .ok (.iconst (-1), 1) := dk_2 (dk_at dksX1_room_0 9 rfl rfl)
theorem dX1_room_10 : decode cX1_room 10 = .ok (.ireturn, 1) := dk_172 (dk_at dksX1_room_0 10 rfl rfl)
theorem dX1_room_11 : decode cX1_room 11 = .ok (.aload_n 0, 1) := dk_42 (dk_at dksX1_room_0 11 rfl rfl)
theorem dX1_room_12 : decode cX1_room 12 = .ok (.getfield 30, 3) := dk_180 0 30 (dk_at dksX1_room_0 12 rfl rfl)
theorem dX1_room_15 : decode cX1_room 15 = .ok (.iload_n 1, 1) := dk_27 (dk_at dksX1_room_0 15 rfl rfl)
theorem dX1_room_16 : decode cX1_room 16 = .ok (.aaload, 1) := dk_50 (dk_at dksX1_room_0 16 rfl rfl)
theorem dX1_room_17 : decode cX1_room 17 = .ok (.astore 4, 2) := dk_58 4 (dk_at dksX1_room_0 17 rfl rfl)
theorem dX1_room_19 : decode cX1_room 19 = .ok (.iload_n 3, 1) := dk_29 (dk_at dksX1_room_0 19 rfl rfl)
theorem dX1_room_20 : decode cX1_room 20 = .ok (.tableswitch 70 0 2 #[28, 39, 50], 28) := by decide +kernel
theorem dX1_room_48 : decode cX1_room 48 = .ok (.aload 4, 2) := dk_25 4 (dk_at dksX1_room_2 0 rfl rfl)
theorem dX1_room_50 : decode cX1_room 50 = .ok (.getfield 235, 3) := dk_180 0 235 (dk_at dksX1_room_2 2 rfl rfl)
theorem dX1_room_53 : decode cX1_room 53 = .ok (.getfield 266, 3) := dk_180 1 10 (dk_at dksX1_room_2 5 rfl rfl)
theorem dX1_room_56 : decode cX1_room 56 = .ok (.iload_n 2, 1) := dk_28 (dk_at dksX1_room_2 8 rfl rfl)
theorem dX1_room_57 : decode cX1_room 57 = .ok (.iaload, 1) := dk_46 (dk_at dksX1_room_2 9 rfl rfl)
theorem dX1_room_58 : decode cX1_room 58 = .ok (.ireturn, 1) := dk_172 (dk_at dksX1_room_2 10 rfl rfl)
theorem dX1_room_59 : decode cX1_room 59 = .ok (.aload 4, 2) := dk_25 4 (dk_at dksX1_room_2 11 rfl rfl)
theorem dX1_room_61 : decode cX1_room 61 = .ok (.getfield 235, 3) := dk_180 0 235 (dk_at dksX1_room_2 13 rfl rfl)
theorem dX1_room_64 : decode cX1_room 64 = .ok (.getfield 248, 3) := dk_180 0 248 (dk_at dksX1_room_2 16 rfl rfl)
theorem dX1_room_67 : decode cX1_room 67 = .ok (.iload_n 2, 1) := dk_28 (dk_at dksX1_room_2 19 rfl rfl)
theorem dX1_room_68 : decode cX1_room 68 = .ok (.iaload, 1) := dk_46 (dk_at dksX1_room_2 20 rfl rfl)
theorem dX1_room_69 : decode cX1_room 69 = .ok (.ireturn, 1) := dk_172 (dk_at dksX1_room_2 21 rfl rfl)
theorem dX1_room_70 : decode cX1_room 70 = .ok (.aload 4, 2) := dk_25 4 (dk_at dksX1_room_2 22 rfl rfl)
theorem dX1_room_72 : decode cX1_room 72 = .ok (.aload 4, 2) := dk_25 4 (dk_at dksX1_room_3 0 rfl rfl)
theorem dX1_room_74 : decode cX1_room 74 = .ok (.getfield 235, 3) := dk_180 0 235 (dk_at dksX1_room_3 2 rfl rfl)
theorem dX1_room_77 : decode cX1_room 77 = .ok (.iload_n 2, 1) := dk_28 (dk_at dksX1_room_3 5 rfl rfl)
theorem dX1_room_78 : decode cX1_room 78 = .ok (.invokevirtual 274, 3) := dk_182 1 18 (dk_at dksX1_room_3 6 rfl rfl)
theorem dX1_room_81 : decode cX1_room 81 = .ok (.ifCond .eq 7, 3) := dk_153 0 7 (dk_at dksX1_room_3 9 rfl rfl)
theorem dX1_room_84 : decode cX1_room 84 = .ok (.iconst 1, 1) := dk_4 (dk_at dksX1_room_3 12 rfl rfl)
theorem dX1_room_85 : decode cX1_room 85 = .ok (.goto 4, 3) := dk_167 0 4 (dk_at dksX1_room_3 13 rfl rfl)
theorem dX1_room_88 : decode cX1_room 88 = .ok (.iconst 0, 1) := dk_3 (dk_at dksX1_room_3 16 rfl rfl)
theorem dX1_room_89 : decode cX1_room 89 = .ok (.ireturn, 1) := dk_172 (dk_at dksX1_room_3 17 rfl rfl)
theorem dX1_room_90 : decode cX1_room 90 = .ok (.iconst (-1), 1) := dk_2 (dk_at dksX1_room_3 18 rfl rfl)
theorem dX1_room_91 : decode cX1_room 91 = .ok (.ireturn, 1) := dk_172 (dk_at dksX1_room_3 19 rfl rfl)
abbrev cX1_floored : ByteArray := prog_1_method_24_code
def yX1_floored : MethodName := ⟨RX1, "floored", "(III)I"⟩
def dkwX1_floored_4 : List UInt8 := [182, 1, 25, 172, 2, 172]
abbrev dktX1_floored_4 : List UInt8 := dkwX1_floored_4 ++ []
def dkwX1_floored_3 : List UInt8 := [4, 167, 0, 4, 3, 172, 25, 4, 180, 0, 254, 28, 46, 172, 25, 4, 25, 4, 180, 0, 235, 28]
abbrev dktX1_floored_3 : List UInt8 := dkwX1_floored_3 ++ dktX1_floored_4
def dkwX1_floored_2 : List UInt8 := [25, 4, 180, 0, 235, 180, 1, 22, 28, 46, 172, 25, 4, 180, 0, 235, 180, 0, 239, 28, 51, 153, 0, 7]
abbrev dktX1_floored_2 : List UInt8 := dkwX1_floored_2 ++ dktX1_floored_3
def dkwX1_floored_1 : List UInt8 := [170, 0, 0, 0, 0, 0, 0, 82, 0, 0, 0, 0, 0, 0, 0, 3, 0, 0, 0, 32, 0, 0, 0, 43, 0, 0, 0, 62, 0, 0, 0, 70]
abbrev dktX1_floored_1 : List UInt8 := dkwX1_floored_1 ++ dktX1_floored_2
def dkwX1_floored_0 : List UInt8 := [42, 27, 28, 182, 0, 231, 154, 0, 5, 2, 172, 42, 180, 0, 30, 27, 50, 58, 4, 29]
abbrev dktX1_floored_0 : List UInt8 := dkwX1_floored_0 ++ dktX1_floored_1
theorem dksX1_floored_0 : cX1_floored.data.toList.drop 0 = dktX1_floored_0 := by decide +kernel
theorem dksX1_floored_1 : cX1_floored.data.toList.drop 20 = dktX1_floored_1 := dk_seg dksX1_floored_0 20 rfl rfl
theorem dksX1_floored_2 : cX1_floored.data.toList.drop 52 = dktX1_floored_2 := dk_seg dksX1_floored_1 32 rfl rfl
theorem dksX1_floored_3 : cX1_floored.data.toList.drop 76 = dktX1_floored_3 := dk_seg dksX1_floored_2 24 rfl rfl
theorem dksX1_floored_4 : cX1_floored.data.toList.drop 98 = dktX1_floored_4 := dk_seg dksX1_floored_3 22 rfl rfl
theorem dX1_floored_0 : decode cX1_floored 0 = .ok (.aload_n 0, 1) := dk_42 (dk_at dksX1_floored_0 0 rfl rfl)
theorem dX1_floored_1 : decode cX1_floored 1 = .ok (.iload_n 1, 1) := dk_27 (dk_at dksX1_floored_0 1 rfl rfl)
theorem dX1_floored_2 : decode cX1_floored 2 = .ok (.iload_n 2, 1) := dk_28 (dk_at dksX1_floored_0 2 rfl rfl)
theorem dX1_floored_3 : decode cX1_floored 3 = .ok (.invokevirtual 231, 3) := dk_182 0 231 (dk_at dksX1_floored_0 3 rfl rfl)
theorem dX1_floored_6 : decode cX1_floored 6 = .ok (.ifCond .ne 5, 3) := dk_154 0 5 (dk_at dksX1_floored_0 6 rfl rfl)
theorem dX1_floored_9 : decode cX1_floored 9 = .ok (.iconst (-1), 1) := dk_2 (dk_at dksX1_floored_0 9 rfl rfl)
theorem dX1_floored_10 : decode cX1_floored 10 = .ok (.ireturn, 1) := dk_172 (dk_at dksX1_floored_0 10 rfl rfl)
theorem dX1_floored_11 : decode cX1_floored 11 = .ok (.aload_n 0, 1) := dk_42 (dk_at dksX1_floored_0 11 rfl rfl)
theorem dX1_floored_12 : decode cX1_floored 12 = .ok (.getfield 30, 3) := dk_180 0 30 (dk_at dksX1_floored_0 12 rfl rfl)
theorem dX1_floored_15 : decode cX1_floored 15 = .ok (.iload_n 1, 1) := dk_27 (dk_at dksX1_floored_0 15 rfl rfl)
theorem dX1_floored_16 : decode cX1_floored 16 = .ok (.aaload, 1) := dk_50 (dk_at dksX1_floored_0 16 rfl rfl)
theorem dX1_floored_17 : decode cX1_floored 17 = .ok (.astore 4, 2) := dk_58 4 (dk_at dksX1_floored_0 17 rfl rfl)
theorem dX1_floored_19 : decode cX1_floored 19 = .ok (.iload_n 3, 1) := dk_29 (dk_at dksX1_floored_0 19 rfl rfl)
theorem dX1_floored_20 : decode cX1_floored 20 = .ok (.tableswitch 82 0 3 #[32, 43, 62, 70], 32) := by decide +kernel
theorem dX1_floored_52 : decode cX1_floored 52 = .ok (.aload 4, 2) := dk_25 4 (dk_at dksX1_floored_2 0 rfl rfl)
theorem dX1_floored_54 : decode cX1_floored 54 = .ok (.getfield 235, 3) := dk_180 0 235 (dk_at dksX1_floored_2 2 rfl rfl)
theorem dX1_floored_57 : decode cX1_floored 57 = .ok (.getfield 278, 3) := dk_180 1 22 (dk_at dksX1_floored_2 5 rfl rfl)
theorem dX1_floored_60 : decode cX1_floored 60 = .ok (.iload_n 2, 1) := dk_28 (dk_at dksX1_floored_2 8 rfl rfl)
theorem dX1_floored_61 : decode cX1_floored 61 = .ok (.iaload, 1) := dk_46 (dk_at dksX1_floored_2 9 rfl rfl)
theorem dX1_floored_62 : decode cX1_floored 62 = .ok (.ireturn, 1) := dk_172 (dk_at dksX1_floored_2 10 rfl rfl)
theorem dX1_floored_63 : decode cX1_floored 63 = .ok (.aload 4, 2) := dk_25 4 (dk_at dksX1_floored_2 11 rfl rfl)
theorem dX1_floored_65 : decode cX1_floored 65 = .ok (.getfield 235, 3) := dk_180 0 235 (dk_at dksX1_floored_2 13 rfl rfl)
theorem dX1_floored_68 : decode cX1_floored 68 = .ok (.getfield 239, 3) := dk_180 0 239 (dk_at dksX1_floored_2 16 rfl rfl)
theorem dX1_floored_71 : decode cX1_floored 71 = .ok (.iload_n 2, 1) := dk_28 (dk_at dksX1_floored_2 19 rfl rfl)
theorem dX1_floored_72 : decode cX1_floored 72 = .ok (.baload, 1) := dk_51 (dk_at dksX1_floored_2 20 rfl rfl)
theorem dX1_floored_73 : decode cX1_floored 73 = .ok (.ifCond .eq 7, 3) := dk_153 0 7 (dk_at dksX1_floored_2 21 rfl rfl)
theorem dX1_floored_76 : decode cX1_floored 76 = .ok (.iconst 1, 1) := dk_4 (dk_at dksX1_floored_3 0 rfl rfl)
theorem dX1_floored_77 : decode cX1_floored 77 = .ok (.goto 4, 3) := dk_167 0 4 (dk_at dksX1_floored_3 1 rfl rfl)
theorem dX1_floored_80 : decode cX1_floored 80 = .ok (.iconst 0, 1) := dk_3 (dk_at dksX1_floored_3 4 rfl rfl)
theorem dX1_floored_81 : decode cX1_floored 81 = .ok (.ireturn, 1) := dk_172 (dk_at dksX1_floored_3 5 rfl rfl)
theorem dX1_floored_82 : decode cX1_floored 82 = .ok (.aload 4, 2) := dk_25 4 (dk_at dksX1_floored_3 6 rfl rfl)
theorem dX1_floored_84 : decode cX1_floored 84 = .ok (.getfield 254, 3) := dk_180 0 254 (dk_at dksX1_floored_3 8 rfl rfl)
theorem dX1_floored_87 : decode cX1_floored 87 = .ok (.iload_n 2, 1) := dk_28 (dk_at dksX1_floored_3 11 rfl rfl)
theorem dX1_floored_88 : decode cX1_floored 88 = .ok (.iaload, 1) := dk_46 (dk_at dksX1_floored_3 12 rfl rfl)
theorem dX1_floored_89 : decode cX1_floored 89 = .ok (.ireturn, 1) := dk_172 (dk_at dksX1_floored_3 13 rfl rfl)
theorem dX1_floored_90 : decode cX1_floored 90 = .ok (.aload 4, 2) := dk_25 4 (dk_at dksX1_floored_3 14 rfl rfl)
theorem dX1_floored_92 : decode cX1_floored 92 = .ok (.aload 4, 2) := dk_25 4 (dk_at dksX1_floored_3 16 rfl rfl)
theorem dX1_floored_94 : decode cX1_floored 94 = .ok (.getfield 235, 3) := dk_180 0 235 (dk_at dksX1_floored_3 18 rfl rfl)
theorem dX1_floored_97 : decode cX1_floored 97 = .ok (.iload_n 2, 1) := dk_28 (dk_at dksX1_floored_3 21 rfl rfl)
theorem dX1_floored_98 : decode cX1_floored 98 = .ok (.invokevirtual 281, 3) := dk_182 1 25 (dk_at dksX1_floored_4 0 rfl rfl)
theorem dX1_floored_101 : decode cX1_floored 101 = .ok (.ireturn, 1) := dk_172 (dk_at dksX1_floored_4 3 rfl rfl)
theorem dX1_floored_102 : decode cX1_floored 102 = .ok (.iconst (-1), 1) := dk_2 (dk_at dksX1_floored_4 4 rfl rfl)
theorem dX1_floored_103 : decode cX1_floored 103 = .ok (.ireturn, 1) := dk_172 (dk_at dksX1_floored_4 5 rfl rfl)
abbrev cX1_housed : ByteArray := prog_1_method_27_code
def yX1_housed : MethodName := ⟨RX1, "housed", "(II)I"⟩
def dkwX1_housed_3 : List UInt8 := [172, 42, 45, 182, 1, 42, 172, 42, 45, 182, 1, 46, 172, 45, 180, 1, 49, 172, 2, 172]
abbrev dktX1_housed_3 : List UInt8 := dkwX1_housed_3 ++ []
def dkwX1_housed_2 : List UInt8 := [45, 182, 1, 29, 172, 42, 45, 45, 180, 0, 235, 182, 1, 32, 172, 45, 180, 1, 36, 172, 45, 180, 1, 39]
abbrev dktX1_housed_2 : List UInt8 := dkwX1_housed_2 ++ dktX1_housed_3
def dkwX1_housed_1 : List UInt8 := [170, 0, 0, 0, 0, 84, 0, 0, 0, 0, 0, 0, 0, 6, 0, 0, 0, 42, 0, 0, 0, 47, 0, 0, 0, 57, 0, 0, 0, 62, 0, 0, 0, 67, 0, 0, 0, 73, 0, 0, 0, 79]
abbrev dktX1_housed_1 : List UInt8 := dkwX1_housed_1 ++ dktX1_housed_2
def dkwX1_housed_0 : List UInt8 := [42, 27, 182, 0, 202, 154, 0, 5, 2, 172, 42, 180, 0, 30, 27, 50, 78, 28]
abbrev dktX1_housed_0 : List UInt8 := dkwX1_housed_0 ++ dktX1_housed_1
theorem dksX1_housed_0 : cX1_housed.data.toList.drop 0 = dktX1_housed_0 := by decide +kernel
theorem dksX1_housed_1 : cX1_housed.data.toList.drop 18 = dktX1_housed_1 := dk_seg dksX1_housed_0 18 rfl rfl
theorem dksX1_housed_2 : cX1_housed.data.toList.drop 60 = dktX1_housed_2 := dk_seg dksX1_housed_1 42 rfl rfl
theorem dksX1_housed_3 : cX1_housed.data.toList.drop 84 = dktX1_housed_3 := dk_seg dksX1_housed_2 24 rfl rfl
theorem dX1_housed_0 : decode cX1_housed 0 = .ok (.aload_n 0, 1) := dk_42 (dk_at dksX1_housed_0 0 rfl rfl)
theorem dX1_housed_1 : decode cX1_housed 1 = .ok (.iload_n 1, 1) := dk_27 (dk_at dksX1_housed_0 1 rfl rfl)
theorem dX1_housed_2 : decode cX1_housed 2 = .ok (.invokevirtual 202, 3) := dk_182 0 202 (dk_at dksX1_housed_0 2 rfl rfl)
theorem dX1_housed_5 : decode cX1_housed 5 = .ok (.ifCond .ne 5, 3) := dk_154 0 5 (dk_at dksX1_housed_0 5 rfl rfl)
theorem dX1_housed_8 : decode cX1_housed 8 = .ok (.iconst (-1), 1) := dk_2 (dk_at dksX1_housed_0 8 rfl rfl)
theorem dX1_housed_9 : decode cX1_housed 9 = .ok (.ireturn, 1) := dk_172 (dk_at dksX1_housed_0 9 rfl rfl)
theorem dX1_housed_10 : decode cX1_housed 10 = .ok (.aload_n 0, 1) := dk_42 (dk_at dksX1_housed_0 10 rfl rfl)
theorem dX1_housed_11 : decode cX1_housed 11 = .ok (.getfield 30, 3) := dk_180 0 30 (dk_at dksX1_housed_0 11 rfl rfl)
theorem dX1_housed_14 : decode cX1_housed 14 = .ok (.iload_n 1, 1) := dk_27 (dk_at dksX1_housed_0 14 rfl rfl)
theorem dX1_housed_15 : decode cX1_housed 15 = .ok (.aaload, 1) := dk_50 (dk_at dksX1_housed_0 15 rfl rfl)
theorem dX1_housed_16 : decode cX1_housed 16 = .ok (.astore_n 3, 1) := dk_78 (dk_at dksX1_housed_0 16 rfl rfl)
theorem dX1_housed_17 : decode cX1_housed 17 = .ok (.iload_n 2, 1) := dk_28 (dk_at dksX1_housed_0 17 rfl rfl)
theorem dX1_housed_18 : decode cX1_housed 18 = .ok (.tableswitch 84 0 6 #[42, 47, 57, 62, 67, 73, 79], 42) := by decide +kernel
theorem dX1_housed_60 : decode cX1_housed 60 = .ok (.aload_n 3, 1) := dk_45 (dk_at dksX1_housed_2 0 rfl rfl)
theorem dX1_housed_61 : decode cX1_housed 61 = .ok (.invokevirtual 285, 3) := dk_182 1 29 (dk_at dksX1_housed_2 1 rfl rfl)
theorem dX1_housed_64 : decode cX1_housed 64 = .ok (.ireturn, 1) := dk_172 (dk_at dksX1_housed_2 4 rfl rfl)
theorem dX1_housed_65 : decode cX1_housed 65 = .ok (.aload_n 0, 1) := dk_42 (dk_at dksX1_housed_2 5 rfl rfl)
theorem dX1_housed_66 : decode cX1_housed 66 = .ok (.aload_n 3, 1) := dk_45 (dk_at dksX1_housed_2 6 rfl rfl)
theorem dX1_housed_67 : decode cX1_housed 67 = .ok (.aload_n 3, 1) := dk_45 (dk_at dksX1_housed_2 7 rfl rfl)
theorem dX1_housed_68 : decode cX1_housed 68 = .ok (.getfield 235, 3) := dk_180 0 235 (dk_at dksX1_housed_2 8 rfl rfl)
theorem dX1_housed_71 : decode cX1_housed 71 = .ok (.invokevirtual 288, 3) := dk_182 1 32 (dk_at dksX1_housed_2 11 rfl rfl)
theorem dX1_housed_74 : decode cX1_housed 74 = .ok (.ireturn, 1) := dk_172 (dk_at dksX1_housed_2 14 rfl rfl)
theorem dX1_housed_75 : decode cX1_housed 75 = .ok (.aload_n 3, 1) := dk_45 (dk_at dksX1_housed_2 15 rfl rfl)
theorem dX1_housed_76 : decode cX1_housed 76 = .ok (.getfield 292, 3) := dk_180 1 36 (dk_at dksX1_housed_2 16 rfl rfl)
theorem dX1_housed_79 : decode cX1_housed 79 = .ok (.ireturn, 1) := dk_172 (dk_at dksX1_housed_2 19 rfl rfl)
theorem dX1_housed_80 : decode cX1_housed 80 = .ok (.aload_n 3, 1) := dk_45 (dk_at dksX1_housed_2 20 rfl rfl)
theorem dX1_housed_81 : decode cX1_housed 81 = .ok (.getfield 295, 3) := dk_180 1 39 (dk_at dksX1_housed_2 21 rfl rfl)
theorem dX1_housed_84 : decode cX1_housed 84 = .ok (.ireturn, 1) := dk_172 (dk_at dksX1_housed_3 0 rfl rfl)
theorem dX1_housed_85 : decode cX1_housed 85 = .ok (.aload_n 0, 1) := dk_42 (dk_at dksX1_housed_3 1 rfl rfl)
theorem dX1_housed_86 : decode cX1_housed 86 = .ok (.aload_n 3, 1) := dk_45 (dk_at dksX1_housed_3 2 rfl rfl)
theorem dX1_housed_87 : decode cX1_housed 87 = .ok (.invokevirtual 298, 3) := dk_182 1 42 (dk_at dksX1_housed_3 3 rfl rfl)
theorem dX1_housed_90 : decode cX1_housed 90 = .ok (.ireturn, 1) := dk_172 (dk_at dksX1_housed_3 6 rfl rfl)
theorem dX1_housed_91 : decode cX1_housed 91 = .ok (.aload_n 0, 1) := dk_42 (dk_at dksX1_housed_3 7 rfl rfl)
theorem dX1_housed_92 : decode cX1_housed 92 = .ok (.aload_n 3, 1) := dk_45 (dk_at dksX1_housed_3 8 rfl rfl)
theorem dX1_housed_93 : decode cX1_housed 93 = .ok (.invokevirtual 302, 3) := dk_182 1 46 (dk_at dksX1_housed_3 9 rfl rfl)
theorem dX1_housed_96 : decode cX1_housed 96 = .ok (.ireturn, 1) := dk_172 (dk_at dksX1_housed_3 12 rfl rfl)
theorem dX1_housed_97 : decode cX1_housed 97 = .ok (.aload_n 3, 1) := dk_45 (dk_at dksX1_housed_3 13 rfl rfl)
theorem dX1_housed_98 : decode cX1_housed 98 = .ok (.getfield 305, 3) := dk_180 1 49 (dk_at dksX1_housed_3 14 rfl rfl)
theorem dX1_housed_101 : decode cX1_housed 101 = .ok (.ireturn, 1) := dk_172 (dk_at dksX1_housed_3 17 rfl rfl)
theorem dX1_housed_102 : decode cX1_housed 102 = .ok (.iconst (-1), 1) := dk_2 (dk_at dksX1_housed_3 18 rfl rfl)
theorem dX1_housed_103 : decode cX1_housed 103 = .ok (.ireturn, 1) := dk_172 (dk_at dksX1_housed_3 19 rfl rfl)
abbrev cX1_burntOf : ByteArray := prog_1_method_25_code
def yX1_burntOf : MethodName := ⟨RX1, "burntOf", "(LCityBrigade$House;LCityBrigade$Blaze;)I"⟩
def dkwX1_burntOf_1 : List UInt8 := [132, 4, 1, 167, 255, 234, 29, 172]
abbrev dktX1_burntOf_1 : List UInt8 := dkwX1_burntOf_1 ++ []
def dkwX1_burntOf_0 : List UInt8 := [3, 62, 3, 54, 4, 21, 4, 43, 180, 0, 209, 162, 0, 19, 29, 44, 180, 1, 22, 21, 4, 46, 96, 62]
abbrev dktX1_burntOf_0 : List UInt8 := dkwX1_burntOf_0 ++ dktX1_burntOf_1
theorem dksX1_burntOf_0 : cX1_burntOf.data.toList.drop 0 = dktX1_burntOf_0 := by decide +kernel
theorem dksX1_burntOf_1 : cX1_burntOf.data.toList.drop 24 = dktX1_burntOf_1 := dk_seg dksX1_burntOf_0 24 rfl rfl
theorem dX1_burntOf_0 : decode cX1_burntOf 0 = .ok (.iconst 0, 1) := dk_3 (dk_at dksX1_burntOf_0 0 rfl rfl)
theorem dX1_burntOf_1 : decode cX1_burntOf 1 = .ok (.istore_n 3, 1) := dk_62 (dk_at dksX1_burntOf_0 1 rfl rfl)
theorem dX1_burntOf_2 : decode cX1_burntOf 2 = .ok (.iconst 0, 1) := dk_3 (dk_at dksX1_burntOf_0 2 rfl rfl)
theorem dX1_burntOf_3 : decode cX1_burntOf 3 = .ok (.istore 4, 2) := dk_54 4 (dk_at dksX1_burntOf_0 3 rfl rfl)
theorem dX1_burntOf_5 : decode cX1_burntOf 5 = .ok (.iload 4, 2) := dk_21 4 (dk_at dksX1_burntOf_0 5 rfl rfl)
theorem dX1_burntOf_7 : decode cX1_burntOf 7 = .ok (.aload_n 1, 1) := dk_43 (dk_at dksX1_burntOf_0 7 rfl rfl)
theorem dX1_burntOf_8 : decode cX1_burntOf 8 = .ok (.getfield 209, 3) := dk_180 0 209 (dk_at dksX1_burntOf_0 8 rfl rfl)
theorem dX1_burntOf_11 : decode cX1_burntOf 11 = .ok (.if_icmp .ge 19, 3) := dk_162 0 19 (dk_at dksX1_burntOf_0 11 rfl rfl)
theorem dX1_burntOf_14 : decode cX1_burntOf 14 = .ok (.iload_n 3, 1) := dk_29 (dk_at dksX1_burntOf_0 14 rfl rfl)
theorem dX1_burntOf_15 : decode cX1_burntOf 15 = .ok (.aload_n 2, 1) := dk_44 (dk_at dksX1_burntOf_0 15 rfl rfl)
theorem dX1_burntOf_16 : decode cX1_burntOf 16 = .ok (.getfield 278, 3) := dk_180 1 22 (dk_at dksX1_burntOf_0 16 rfl rfl)
theorem dX1_burntOf_19 : decode cX1_burntOf 19 = .ok (.iload 4, 2) := dk_21 4 (dk_at dksX1_burntOf_0 19 rfl rfl)
theorem dX1_burntOf_21 : decode cX1_burntOf 21 = .ok (.iaload, 1) := dk_46 (dk_at dksX1_burntOf_0 21 rfl rfl)
theorem dX1_burntOf_22 : decode cX1_burntOf 22 = .ok (.iadd, 1) := dk_96 (dk_at dksX1_burntOf_0 22 rfl rfl)
theorem dX1_burntOf_23 : decode cX1_burntOf 23 = .ok (.istore_n 3, 1) := dk_62 (dk_at dksX1_burntOf_0 23 rfl rfl)
theorem dX1_burntOf_24 : decode cX1_burntOf 24 = .ok (.iinc 4 1, 3) := dk_132 4 1 (dk_at dksX1_burntOf_1 0 rfl rfl)
theorem dX1_burntOf_27 : decode cX1_burntOf 27 = .ok (.goto (-22), 3) := dk_167 255 234 (dk_at dksX1_burntOf_1 3 rfl rfl)
theorem dX1_burntOf_30 : decode cX1_burntOf 30 = .ok (.iload_n 3, 1) := dk_29 (dk_at dksX1_burntOf_1 6 rfl rfl)
theorem dX1_burntOf_31 : decode cX1_burntOf 31 = .ok (.ireturn, 1) := dk_172 (dk_at dksX1_burntOf_1 7 rfl rfl)
abbrev cX1_fallenOf : ByteArray := prog_1_method_26_code
def yX1_fallenOf : MethodName := ⟨RX1, "fallenOf", "(LCityBrigade$House;)I"⟩
def dkwX1_fallenOf_1 : List UInt8 := [132, 2, 1, 132, 3, 1, 167, 255, 230, 28, 172]
abbrev dktX1_fallenOf_1 : List UInt8 := dkwX1_fallenOf_1 ++ []
def dkwX1_fallenOf_0 : List UInt8 := [3, 61, 3, 62, 29, 43, 180, 0, 209, 162, 0, 24, 43, 180, 0, 235, 180, 0, 239, 29, 51, 153, 0, 6]
abbrev dktX1_fallenOf_0 : List UInt8 := dkwX1_fallenOf_0 ++ dktX1_fallenOf_1
theorem dksX1_fallenOf_0 : cX1_fallenOf.data.toList.drop 0 = dktX1_fallenOf_0 := by decide +kernel
theorem dksX1_fallenOf_1 : cX1_fallenOf.data.toList.drop 24 = dktX1_fallenOf_1 := dk_seg dksX1_fallenOf_0 24 rfl rfl
theorem dX1_fallenOf_0 : decode cX1_fallenOf 0 = .ok (.iconst 0, 1) := dk_3 (dk_at dksX1_fallenOf_0 0 rfl rfl)
theorem dX1_fallenOf_1 : decode cX1_fallenOf 1 = .ok (.istore_n 2, 1) := dk_61 (dk_at dksX1_fallenOf_0 1 rfl rfl)
theorem dX1_fallenOf_2 : decode cX1_fallenOf 2 = .ok (.iconst 0, 1) := dk_3 (dk_at dksX1_fallenOf_0 2 rfl rfl)
theorem dX1_fallenOf_3 : decode cX1_fallenOf 3 = .ok (.istore_n 3, 1) := dk_62 (dk_at dksX1_fallenOf_0 3 rfl rfl)
theorem dX1_fallenOf_4 : decode cX1_fallenOf 4 = .ok (.iload_n 3, 1) := dk_29 (dk_at dksX1_fallenOf_0 4 rfl rfl)
theorem dX1_fallenOf_5 : decode cX1_fallenOf 5 = .ok (.aload_n 1, 1) := dk_43 (dk_at dksX1_fallenOf_0 5 rfl rfl)
theorem dX1_fallenOf_6 : decode cX1_fallenOf 6 = .ok (.getfield 209, 3) := dk_180 0 209 (dk_at dksX1_fallenOf_0 6 rfl rfl)
theorem dX1_fallenOf_9 : decode cX1_fallenOf 9 = .ok (.if_icmp .ge 24, 3) := dk_162 0 24 (dk_at dksX1_fallenOf_0 9 rfl rfl)
theorem dX1_fallenOf_12 : decode cX1_fallenOf 12 = .ok (.aload_n 1, 1) := dk_43 (dk_at dksX1_fallenOf_0 12 rfl rfl)
theorem dX1_fallenOf_13 : decode cX1_fallenOf 13 = .ok (.getfield 235, 3) := dk_180 0 235 (dk_at dksX1_fallenOf_0 13 rfl rfl)
theorem dX1_fallenOf_16 : decode cX1_fallenOf 16 = .ok (.getfield 239, 3) := dk_180 0 239 (dk_at dksX1_fallenOf_0 16 rfl rfl)
theorem dX1_fallenOf_19 : decode cX1_fallenOf 19 = .ok (.iload_n 3, 1) := dk_29 (dk_at dksX1_fallenOf_0 19 rfl rfl)
theorem dX1_fallenOf_20 : decode cX1_fallenOf 20 = .ok (.baload, 1) := dk_51 (dk_at dksX1_fallenOf_0 20 rfl rfl)
theorem dX1_fallenOf_21 : decode cX1_fallenOf 21 = .ok (.ifCond .eq 6, 3) := dk_153 0 6 (dk_at dksX1_fallenOf_0 21 rfl rfl)
theorem dX1_fallenOf_24 : decode cX1_fallenOf 24 = .ok (.iinc 2 1, 3) := dk_132 2 1 (dk_at dksX1_fallenOf_1 0 rfl rfl)
theorem dX1_fallenOf_27 : decode cX1_fallenOf 27 = .ok (.iinc 3 1, 3) := dk_132 3 1 (dk_at dksX1_fallenOf_1 3 rfl rfl)
theorem dX1_fallenOf_30 : decode cX1_fallenOf 30 = .ok (.goto (-26), 3) := dk_167 255 230 (dk_at dksX1_fallenOf_1 6 rfl rfl)
theorem dX1_fallenOf_33 : decode cX1_fallenOf 33 = .ok (.iload_n 2, 1) := dk_28 (dk_at dksX1_fallenOf_1 9 rfl rfl)
theorem dX1_fallenOf_34 : decode cX1_fallenOf 34 = .ok (.ireturn, 1) := dk_172 (dk_at dksX1_fallenOf_1 10 rfl rfl)
abbrev cX1_atWorkIn : ByteArray := prog_1_method_49_code
def yX1_atWorkIn : MethodName := ⟨RX1, "atWorkIn", "(LCityBrigade$House;)I"⟩
def dkwX1_atWorkIn_2 : List UInt8 := [167, 255, 216, 28, 172]
abbrev dktX1_atWorkIn_2 : List UInt8 := dkwX1_atWorkIn_2 ++ []
def dkwX1_atWorkIn_1 : List UInt8 := [160, 0, 19, 42, 180, 0, 48, 29, 50, 180, 1, 145, 43, 166, 0, 6, 132, 2, 1, 132, 3, 1]
abbrev dktX1_atWorkIn_1 : List UInt8 := dkwX1_atWorkIn_1 ++ dktX1_atWorkIn_2
def dkwX1_atWorkIn_0 : List UInt8 := [3, 61, 3, 62, 29, 42, 180, 1, 109, 162, 0, 38, 42, 180, 0, 48, 29, 50, 180, 1, 133, 5]
abbrev dktX1_atWorkIn_0 : List UInt8 := dkwX1_atWorkIn_0 ++ dktX1_atWorkIn_1
theorem dksX1_atWorkIn_0 : cX1_atWorkIn.data.toList.drop 0 = dktX1_atWorkIn_0 := by decide +kernel
theorem dksX1_atWorkIn_1 : cX1_atWorkIn.data.toList.drop 22 = dktX1_atWorkIn_1 := dk_seg dksX1_atWorkIn_0 22 rfl rfl
theorem dksX1_atWorkIn_2 : cX1_atWorkIn.data.toList.drop 44 = dktX1_atWorkIn_2 := dk_seg dksX1_atWorkIn_1 22 rfl rfl
theorem dX1_atWorkIn_0 : decode cX1_atWorkIn 0 = .ok (.iconst 0, 1) := dk_3 (dk_at dksX1_atWorkIn_0 0 rfl rfl)
theorem dX1_atWorkIn_1 : decode cX1_atWorkIn 1 = .ok (.istore_n 2, 1) := dk_61 (dk_at dksX1_atWorkIn_0 1 rfl rfl)
theorem dX1_atWorkIn_2 : decode cX1_atWorkIn 2 = .ok (.iconst 0, 1) := dk_3 (dk_at dksX1_atWorkIn_0 2 rfl rfl)
theorem dX1_atWorkIn_3 : decode cX1_atWorkIn 3 = .ok (.istore_n 3, 1) := dk_62 (dk_at dksX1_atWorkIn_0 3 rfl rfl)
theorem dX1_atWorkIn_4 : decode cX1_atWorkIn 4 = .ok (.iload_n 3, 1) := dk_29 (dk_at dksX1_atWorkIn_0 4 rfl rfl)
theorem dX1_atWorkIn_5 : decode cX1_atWorkIn 5 = .ok (.aload_n 0, 1) := dk_42 (dk_at dksX1_atWorkIn_0 5 rfl rfl)
theorem dX1_atWorkIn_6 : decode cX1_atWorkIn 6 = .ok (.getfield 365, 3) := dk_180 1 109 (dk_at dksX1_atWorkIn_0 6 rfl rfl)
theorem dX1_atWorkIn_9 : decode cX1_atWorkIn 9 = .ok (.if_icmp .ge 38, 3) := dk_162 0 38 (dk_at dksX1_atWorkIn_0 9 rfl rfl)
theorem dX1_atWorkIn_12 : decode cX1_atWorkIn 12 = .ok (.aload_n 0, 1) := dk_42 (dk_at dksX1_atWorkIn_0 12 rfl rfl)
theorem dX1_atWorkIn_13 : decode cX1_atWorkIn 13 = .ok (.getfield 48, 3) := dk_180 0 48 (dk_at dksX1_atWorkIn_0 13 rfl rfl)
theorem dX1_atWorkIn_16 : decode cX1_atWorkIn 16 = .ok (.iload_n 3, 1) := dk_29 (dk_at dksX1_atWorkIn_0 16 rfl rfl)
theorem dX1_atWorkIn_17 : decode cX1_atWorkIn 17 = .ok (.aaload, 1) := dk_50 (dk_at dksX1_atWorkIn_0 17 rfl rfl)
theorem dX1_atWorkIn_18 : decode cX1_atWorkIn 18 = .ok (.getfield 389, 3) := dk_180 1 133 (dk_at dksX1_atWorkIn_0 18 rfl rfl)
theorem dX1_atWorkIn_21 : decode cX1_atWorkIn 21 = .ok (.iconst 2, 1) := dk_5 (dk_at dksX1_atWorkIn_0 21 rfl rfl)
theorem dX1_atWorkIn_22 : decode cX1_atWorkIn 22 = .ok (.if_icmp .ne 19, 3) := dk_160 0 19 (dk_at dksX1_atWorkIn_1 0 rfl rfl)
theorem dX1_atWorkIn_25 : decode cX1_atWorkIn 25 = .ok (.aload_n 0, 1) := dk_42 (dk_at dksX1_atWorkIn_1 3 rfl rfl)
theorem dX1_atWorkIn_26 : decode cX1_atWorkIn 26 = .ok (.getfield 48, 3) := dk_180 0 48 (dk_at dksX1_atWorkIn_1 4 rfl rfl)
theorem dX1_atWorkIn_29 : decode cX1_atWorkIn 29 = .ok (.iload_n 3, 1) := dk_29 (dk_at dksX1_atWorkIn_1 7 rfl rfl)
theorem dX1_atWorkIn_30 : decode cX1_atWorkIn 30 = .ok (.aaload, 1) := dk_50 (dk_at dksX1_atWorkIn_1 8 rfl rfl)
theorem dX1_atWorkIn_31 : decode cX1_atWorkIn 31 = .ok (.getfield 401, 3) := dk_180 1 145 (dk_at dksX1_atWorkIn_1 9 rfl rfl)
theorem dX1_atWorkIn_34 : decode cX1_atWorkIn 34 = .ok (.aload_n 1, 1) := dk_43 (dk_at dksX1_atWorkIn_1 12 rfl rfl)
theorem dX1_atWorkIn_35 : decode cX1_atWorkIn 35 = .ok (.if_acmp .ne 6, 3) := dk_166 0 6 (dk_at dksX1_atWorkIn_1 13 rfl rfl)
theorem dX1_atWorkIn_38 : decode cX1_atWorkIn 38 = .ok (.iinc 2 1, 3) := dk_132 2 1 (dk_at dksX1_atWorkIn_1 16 rfl rfl)
theorem dX1_atWorkIn_41 : decode cX1_atWorkIn 41 = .ok (.iinc 3 1, 3) := dk_132 3 1 (dk_at dksX1_atWorkIn_1 19 rfl rfl)
theorem dX1_atWorkIn_44 : decode cX1_atWorkIn 44 = .ok (.goto (-40), 3) := dk_167 255 216 (dk_at dksX1_atWorkIn_2 0 rfl rfl)
theorem dX1_atWorkIn_47 : decode cX1_atWorkIn 47 = .ok (.iload_n 2, 1) := dk_28 (dk_at dksX1_atWorkIn_2 3 rfl rfl)
theorem dX1_atWorkIn_48 : decode cX1_atWorkIn 48 = .ok (.ireturn, 1) := dk_172 (dk_at dksX1_atWorkIn_2 4 rfl rfl)
abbrev cX1_main : ByteArray := prog_1_method_37_code
def yX1_main : MethodName := ⟨RX1, "main", "(I)I"⟩
def dkwX1_main_2 : List UInt8 := [100, 172]
abbrev dktX1_main_2 : List UInt8 := dkwX1_main_2 ++ []
def dkwX1_main_1 : List UInt8 := [180, 0, 34, 42, 180, 1, 100, 27, 79, 42, 89, 180, 1, 100, 4, 96, 181, 1, 100, 42, 180, 1, 100, 4]
abbrev dktX1_main_1 : List UInt8 := dkwX1_main_1 ++ dktX1_main_2
def dkwX1_main_0 : List UInt8 := [27, 16, 10, 17, 7, 208, 184, 0, 3, 153, 0, 12, 42, 180, 1, 100, 16, 6, 160, 0, 5, 2, 172, 42]
abbrev dktX1_main_0 : List UInt8 := dkwX1_main_0 ++ dktX1_main_1
theorem dksX1_main_0 : cX1_main.data.toList.drop 0 = dktX1_main_0 := by decide +kernel
theorem dksX1_main_1 : cX1_main.data.toList.drop 24 = dktX1_main_1 := dk_seg dksX1_main_0 24 rfl rfl
theorem dksX1_main_2 : cX1_main.data.toList.drop 48 = dktX1_main_2 := dk_seg dksX1_main_1 24 rfl rfl
theorem dX1_main_0 : decode cX1_main 0 = .ok (.iload_n 1, 1) := dk_27 (dk_at dksX1_main_0 0 rfl rfl)
theorem dX1_main_1 : decode cX1_main 1 = .ok (.bipush 10, 2) := dk_16 10 (dk_at dksX1_main_0 1 rfl rfl)
theorem dX1_main_3 : decode cX1_main 3 = .ok (.sipush 2000, 3) := dk_17 7 208 (dk_at dksX1_main_0 3 rfl rfl)
theorem dX1_main_6 : decode cX1_main 6 = .ok (.invokestatic 3, 3) := dk_184 0 3 (dk_at dksX1_main_0 6 rfl rfl)
theorem dX1_main_9 : decode cX1_main 9 = .ok (.ifCond .eq 12, 3) := dk_153 0 12 (dk_at dksX1_main_0 9 rfl rfl)
theorem dX1_main_12 : decode cX1_main 12 = .ok (.aload_n 0, 1) := dk_42 (dk_at dksX1_main_0 12 rfl rfl)
theorem dX1_main_13 : decode cX1_main 13 = .ok (.getfield 356, 3) := dk_180 1 100 (dk_at dksX1_main_0 13 rfl rfl)
theorem dX1_main_16 : decode cX1_main 16 = .ok (.bipush 6, 2) := dk_16 6 (dk_at dksX1_main_0 16 rfl rfl)
theorem dX1_main_18 : decode cX1_main 18 = .ok (.if_icmp .ne 5, 3) := dk_160 0 5 (dk_at dksX1_main_0 18 rfl rfl)
theorem dX1_main_21 : decode cX1_main 21 = .ok (.iconst (-1), 1) := dk_2 (dk_at dksX1_main_0 21 rfl rfl)
theorem dX1_main_22 : decode cX1_main 22 = .ok (.ireturn, 1) := dk_172 (dk_at dksX1_main_0 22 rfl rfl)
theorem dX1_main_23 : decode cX1_main 23 = .ok (.aload_n 0, 1) := dk_42 (dk_at dksX1_main_0 23 rfl rfl)
theorem dX1_main_24 : decode cX1_main 24 = .ok (.getfield 34, 3) := dk_180 0 34 (dk_at dksX1_main_1 0 rfl rfl)
theorem dX1_main_27 : decode cX1_main 27 = .ok (.aload_n 0, 1) := dk_42 (dk_at dksX1_main_1 3 rfl rfl)
theorem dX1_main_28 : decode cX1_main 28 = .ok (.getfield 356, 3) := dk_180 1 100 (dk_at dksX1_main_1 4 rfl rfl)
theorem dX1_main_31 : decode cX1_main 31 = .ok (.iload_n 1, 1) := dk_27 (dk_at dksX1_main_1 7 rfl rfl)
theorem dX1_main_32 : decode cX1_main 32 = .ok (.iastore, 1) := dk_79 (dk_at dksX1_main_1 8 rfl rfl)
theorem dX1_main_33 : decode cX1_main 33 = .ok (.aload_n 0, 1) := dk_42 (dk_at dksX1_main_1 9 rfl rfl)
theorem dX1_main_34 : decode cX1_main 34 = .ok (.dup, 1) := dk_89 (dk_at dksX1_main_1 10 rfl rfl)
theorem dX1_main_35 : decode cX1_main 35 = .ok (.getfield 356, 3) := dk_180 1 100 (dk_at dksX1_main_1 11 rfl rfl)
theorem dX1_main_38 : decode cX1_main 38 = .ok (.iconst 1, 1) := dk_4 (dk_at dksX1_main_1 14 rfl rfl)
theorem dX1_main_39 : decode cX1_main 39 = .ok (.iadd, 1) := dk_96 (dk_at dksX1_main_1 15 rfl rfl)
theorem dX1_main_40 : decode cX1_main 40 = .ok (.putfield 356, 3) := dk_181 1 100 (dk_at dksX1_main_1 16 rfl rfl)
theorem dX1_main_43 : decode cX1_main 43 = .ok (.aload_n 0, 1) := dk_42 (dk_at dksX1_main_1 19 rfl rfl)
theorem dX1_main_44 : decode cX1_main 44 = .ok (.getfield 356, 3) := dk_180 1 100 (dk_at dksX1_main_1 20 rfl rfl)
theorem dX1_main_47 : decode cX1_main 47 = .ok (.iconst 1, 1) := dk_4 (dk_at dksX1_main_1 23 rfl rfl)
theorem dX1_main_48 : decode cX1_main 48 = .ok (.isub, 1) := dk_100 (dk_at dksX1_main_2 0 rfl rfl)
theorem dX1_main_49 : decode cX1_main 49 = .ok (.ireturn, 1) := dk_172 (dk_at dksX1_main_2 1 rfl rfl)
abbrev cX1_head : ByteArray := prog_1_method_38_code
def yX1_head : MethodName := ⟨RX1, "head", "(II)I"⟩
def dkwX1_head_2 : List UInt8 := [183, 1, 106, 83, 42, 89, 180, 1, 103, 4, 96, 181, 1, 103, 42, 180, 1, 103, 4, 100, 172]
abbrev dktX1_head_2 : List UInt8 := dkwX1_head_2 ++ []
def dkwX1_head_1 : List UInt8 := [180, 1, 103, 16, 20, 160, 0, 5, 2, 172, 42, 180, 0, 42, 42, 180, 1, 103, 187, 0, 40, 89, 27, 28]
abbrev dktX1_head_1 : List UInt8 := dkwX1_head_1 ++ dktX1_head_2
def dkwX1_head_0 : List UInt8 := [27, 184, 0, 143, 153, 0, 26, 28, 3, 42, 180, 1, 100, 4, 100, 184, 0, 3, 153, 0, 12, 42]
abbrev dktX1_head_0 : List UInt8 := dkwX1_head_0 ++ dktX1_head_1
theorem dksX1_head_0 : cX1_head.data.toList.drop 0 = dktX1_head_0 := by decide +kernel
theorem dksX1_head_1 : cX1_head.data.toList.drop 22 = dktX1_head_1 := dk_seg dksX1_head_0 22 rfl rfl
theorem dksX1_head_2 : cX1_head.data.toList.drop 46 = dktX1_head_2 := dk_seg dksX1_head_1 24 rfl rfl
theorem dX1_head_0 : decode cX1_head 0 = .ok (.iload_n 1, 1) := dk_27 (dk_at dksX1_head_0 0 rfl rfl)
theorem dX1_head_1 : decode cX1_head 1 = .ok (.invokestatic 143, 3) := dk_184 0 143 (dk_at dksX1_head_0 1 rfl rfl)
theorem dX1_head_4 : decode cX1_head 4 = .ok (.ifCond .eq 26, 3) := dk_153 0 26 (dk_at dksX1_head_0 4 rfl rfl)
theorem dX1_head_7 : decode cX1_head 7 = .ok (.iload_n 2, 1) := dk_28 (dk_at dksX1_head_0 7 rfl rfl)
theorem dX1_head_8 : decode cX1_head 8 = .ok (.iconst 0, 1) := dk_3 (dk_at dksX1_head_0 8 rfl rfl)
theorem dX1_head_9 : decode cX1_head 9 = .ok (.aload_n 0, 1) := dk_42 (dk_at dksX1_head_0 9 rfl rfl)
theorem dX1_head_10 : decode cX1_head 10 = .ok (.getfield 356, 3) := dk_180 1 100 (dk_at dksX1_head_0 10 rfl rfl)
theorem dX1_head_13 : decode cX1_head 13 = .ok (.iconst 1, 1) := dk_4 (dk_at dksX1_head_0 13 rfl rfl)
theorem dX1_head_14 : decode cX1_head 14 = .ok (.isub, 1) := dk_100 (dk_at dksX1_head_0 14 rfl rfl)
theorem dX1_head_15 : decode cX1_head 15 = .ok (.invokestatic 3, 3) := dk_184 0 3 (dk_at dksX1_head_0 15 rfl rfl)
theorem dX1_head_18 : decode cX1_head 18 = .ok (.ifCond .eq 12, 3) := dk_153 0 12 (dk_at dksX1_head_0 18 rfl rfl)
theorem dX1_head_21 : decode cX1_head 21 = .ok (.aload_n 0, 1) := dk_42 (dk_at dksX1_head_0 21 rfl rfl)
theorem dX1_head_22 : decode cX1_head 22 = .ok (.getfield 359, 3) := dk_180 1 103 (dk_at dksX1_head_1 0 rfl rfl)
theorem dX1_head_25 : decode cX1_head 25 = .ok (.bipush 20, 2) := dk_16 20 (dk_at dksX1_head_1 3 rfl rfl)
theorem dX1_head_27 : decode cX1_head 27 = .ok (.if_icmp .ne 5, 3) := dk_160 0 5 (dk_at dksX1_head_1 5 rfl rfl)
theorem dX1_head_30 : decode cX1_head 30 = .ok (.iconst (-1), 1) := dk_2 (dk_at dksX1_head_1 8 rfl rfl)
theorem dX1_head_31 : decode cX1_head 31 = .ok (.ireturn, 1) := dk_172 (dk_at dksX1_head_1 9 rfl rfl)
theorem dX1_head_32 : decode cX1_head 32 = .ok (.aload_n 0, 1) := dk_42 (dk_at dksX1_head_1 10 rfl rfl)
theorem dX1_head_33 : decode cX1_head 33 = .ok (.getfield 42, 3) := dk_180 0 42 (dk_at dksX1_head_1 11 rfl rfl)
theorem dX1_head_36 : decode cX1_head 36 = .ok (.aload_n 0, 1) := dk_42 (dk_at dksX1_head_1 14 rfl rfl)
theorem dX1_head_37 : decode cX1_head 37 = .ok (.getfield 359, 3) := dk_180 1 103 (dk_at dksX1_head_1 15 rfl rfl)
theorem dX1_head_40 : decode cX1_head 40 = .ok (.new 40, 3) := dk_187 0 40 (dk_at dksX1_head_1 18 rfl rfl)
theorem dX1_head_43 : decode cX1_head 43 = .ok (.dup, 1) := dk_89 (dk_at dksX1_head_1 21 rfl rfl)
theorem dX1_head_44 : decode cX1_head 44 = .ok (.iload_n 1, 1) := dk_27 (dk_at dksX1_head_1 22 rfl rfl)
theorem dX1_head_45 : decode cX1_head 45 = .ok (.iload_n 2, 1) := dk_28 (dk_at dksX1_head_1 23 rfl rfl)
theorem dX1_head_46 : decode cX1_head 46 = .ok (.invokespecial 362, 3) := dk_183 1 106 (dk_at dksX1_head_2 0 rfl rfl)
theorem dX1_head_49 : decode cX1_head 49 = .ok (.aastore, 1) := dk_83 (dk_at dksX1_head_2 3 rfl rfl)
theorem dX1_head_50 : decode cX1_head 50 = .ok (.aload_n 0, 1) := dk_42 (dk_at dksX1_head_2 4 rfl rfl)
theorem dX1_head_51 : decode cX1_head 51 = .ok (.dup, 1) := dk_89 (dk_at dksX1_head_2 5 rfl rfl)
theorem dX1_head_52 : decode cX1_head 52 = .ok (.getfield 359, 3) := dk_180 1 103 (dk_at dksX1_head_2 6 rfl rfl)
theorem dX1_head_55 : decode cX1_head 55 = .ok (.iconst 1, 1) := dk_4 (dk_at dksX1_head_2 9 rfl rfl)
theorem dX1_head_56 : decode cX1_head 56 = .ok (.iadd, 1) := dk_96 (dk_at dksX1_head_2 10 rfl rfl)
theorem dX1_head_57 : decode cX1_head 57 = .ok (.putfield 359, 3) := dk_181 1 103 (dk_at dksX1_head_2 11 rfl rfl)
theorem dX1_head_60 : decode cX1_head 60 = .ok (.aload_n 0, 1) := dk_42 (dk_at dksX1_head_2 14 rfl rfl)
theorem dX1_head_61 : decode cX1_head 61 = .ok (.getfield 359, 3) := dk_180 1 103 (dk_at dksX1_head_2 15 rfl rfl)
theorem dX1_head_64 : decode cX1_head 64 = .ok (.iconst 1, 1) := dk_4 (dk_at dksX1_head_2 18 rfl rfl)
theorem dX1_head_65 : decode cX1_head 65 = .ok (.isub, 1) := dk_100 (dk_at dksX1_head_2 19 rfl rfl)
theorem dX1_head_66 : decode cX1_head 66 = .ok (.ireturn, 1) := dk_172 (dk_at dksX1_head_2 20 rfl rfl)
abbrev cX1_crew : ByteArray := prog_1_method_41_code
def yX1_crew : MethodName := ⟨RX1, "crew", "(IIZII)I"⟩
def dkwX1_crew_3 : List UInt8 := [83, 42, 89, 180, 1, 109, 4, 96, 181, 1, 109, 42, 180, 1, 109, 4, 100, 172]
abbrev dktX1_crew_3 : List UInt8 := dkwX1_crew_3 ++ []
def dkwX1_crew_2 : List UInt8 := [160, 0, 5, 2, 172, 42, 180, 0, 48, 42, 180, 1, 109, 42, 27, 28, 29, 21, 4, 21, 5, 182, 1, 126]
abbrev dktX1_crew_2 : List UInt8 := dkwX1_crew_2 ++ dktX1_crew_3
def dkwX1_crew_1 : List UInt8 := [184, 0, 3, 153, 0, 23, 21, 5, 4, 16, 9, 184, 0, 3, 153, 0, 12, 42, 180, 1, 109, 16, 16]
abbrev dktX1_crew_1 : List UInt8 := dkwX1_crew_1 ++ dktX1_crew_2
def dkwX1_crew_0 : List UInt8 := [27, 3, 6, 184, 0, 3, 153, 0, 43, 28, 184, 0, 143, 153, 0, 36, 21, 4, 16, 50, 17, 0, 150]
abbrev dktX1_crew_0 : List UInt8 := dkwX1_crew_0 ++ dktX1_crew_1
theorem dksX1_crew_0 : cX1_crew.data.toList.drop 0 = dktX1_crew_0 := by decide +kernel
theorem dksX1_crew_1 : cX1_crew.data.toList.drop 23 = dktX1_crew_1 := dk_seg dksX1_crew_0 23 rfl rfl
theorem dksX1_crew_2 : cX1_crew.data.toList.drop 46 = dktX1_crew_2 := dk_seg dksX1_crew_1 23 rfl rfl
theorem dksX1_crew_3 : cX1_crew.data.toList.drop 70 = dktX1_crew_3 := dk_seg dksX1_crew_2 24 rfl rfl
theorem dX1_crew_0 : decode cX1_crew 0 = .ok (.iload_n 1, 1) := dk_27 (dk_at dksX1_crew_0 0 rfl rfl)
theorem dX1_crew_1 : decode cX1_crew 1 = .ok (.iconst 0, 1) := dk_3 (dk_at dksX1_crew_0 1 rfl rfl)
theorem dX1_crew_2 : decode cX1_crew 2 = .ok (.iconst 3, 1) := dk_6 (dk_at dksX1_crew_0 2 rfl rfl)
theorem dX1_crew_3 : decode cX1_crew 3 = .ok (.invokestatic 3, 3) := dk_184 0 3 (dk_at dksX1_crew_0 3 rfl rfl)
theorem dX1_crew_6 : decode cX1_crew 6 = .ok (.ifCond .eq 43, 3) := dk_153 0 43 (dk_at dksX1_crew_0 6 rfl rfl)
theorem dX1_crew_9 : decode cX1_crew 9 = .ok (.iload_n 2, 1) := dk_28 (dk_at dksX1_crew_0 9 rfl rfl)
theorem dX1_crew_10 : decode cX1_crew 10 = .ok (.invokestatic 143, 3) := dk_184 0 143 (dk_at dksX1_crew_0 10 rfl rfl)
theorem dX1_crew_13 : decode cX1_crew 13 = .ok (.ifCond .eq 36, 3) := dk_153 0 36 (dk_at dksX1_crew_0 13 rfl rfl)
theorem dX1_crew_16 : decode cX1_crew 16 = .ok (.iload 4, 2) := dk_21 4 (dk_at dksX1_crew_0 16 rfl rfl)
theorem dX1_crew_18 : decode cX1_crew 18 = .ok (.bipush 50, 2) := dk_16 50 (dk_at dksX1_crew_0 18 rfl rfl)
theorem dX1_crew_20 : decode cX1_crew 20 = .ok (.sipush 150, 3) := dk_17 0 150 (dk_at dksX1_crew_0 20 rfl rfl)
theorem dX1_crew_23 : decode cX1_crew 23 = .ok (.invokestatic 3, 3) := dk_184 0 3 (dk_at dksX1_crew_1 0 rfl rfl)
theorem dX1_crew_26 : decode cX1_crew 26 = .ok (.ifCond .eq 23, 3) := dk_153 0 23 (dk_at dksX1_crew_1 3 rfl rfl)
theorem dX1_crew_29 : decode cX1_crew 29 = .ok (.iload 5, 2) := dk_21 5 (dk_at dksX1_crew_1 6 rfl rfl)
theorem dX1_crew_31 : decode cX1_crew 31 = .ok (.iconst 1, 1) := dk_4 (dk_at dksX1_crew_1 8 rfl rfl)
theorem dX1_crew_32 : decode cX1_crew 32 = .ok (.bipush 9, 2) := dk_16 9 (dk_at dksX1_crew_1 9 rfl rfl)
theorem dX1_crew_34 : decode cX1_crew 34 = .ok (.invokestatic 3, 3) := dk_184 0 3 (dk_at dksX1_crew_1 11 rfl rfl)
theorem dX1_crew_37 : decode cX1_crew 37 = .ok (.ifCond .eq 12, 3) := dk_153 0 12 (dk_at dksX1_crew_1 14 rfl rfl)
theorem dX1_crew_40 : decode cX1_crew 40 = .ok (.aload_n 0, 1) := dk_42 (dk_at dksX1_crew_1 17 rfl rfl)
theorem dX1_crew_41 : decode cX1_crew 41 = .ok (.getfield 365, 3) := dk_180 1 109 (dk_at dksX1_crew_1 18 rfl rfl)
theorem dX1_crew_44 : decode cX1_crew 44 = .ok (.bipush 16, 2) := dk_16 16 (dk_at dksX1_crew_1 21 rfl rfl)
theorem dX1_crew_46 : decode cX1_crew 46 = .ok (.if_icmp .ne 5, 3) := dk_160 0 5 (dk_at dksX1_crew_2 0 rfl rfl)
theorem dX1_crew_49 : decode cX1_crew 49 = .ok (.iconst (-1), 1) := dk_2 (dk_at dksX1_crew_2 3 rfl rfl)
theorem dX1_crew_50 : decode cX1_crew 50 = .ok (.ireturn, 1) := dk_172 (dk_at dksX1_crew_2 4 rfl rfl)
theorem dX1_crew_51 : decode cX1_crew 51 = .ok (.aload_n 0, 1) := dk_42 (dk_at dksX1_crew_2 5 rfl rfl)
theorem dX1_crew_52 : decode cX1_crew 52 = .ok (.getfield 48, 3) := dk_180 0 48 (dk_at dksX1_crew_2 6 rfl rfl)
theorem dX1_crew_55 : decode cX1_crew 55 = .ok (.aload_n 0, 1) := dk_42 (dk_at dksX1_crew_2 9 rfl rfl)
theorem dX1_crew_56 : decode cX1_crew 56 = .ok (.getfield 365, 3) := dk_180 1 109 (dk_at dksX1_crew_2 10 rfl rfl)
theorem dX1_crew_59 : decode cX1_crew 59 = .ok (.aload_n 0, 1) := dk_42 (dk_at dksX1_crew_2 13 rfl rfl)
theorem dX1_crew_60 : decode cX1_crew 60 = .ok (.iload_n 1, 1) := dk_27 (dk_at dksX1_crew_2 14 rfl rfl)
theorem dX1_crew_61 : decode cX1_crew 61 = .ok (.iload_n 2, 1) := dk_28 (dk_at dksX1_crew_2 15 rfl rfl)
theorem dX1_crew_62 : decode cX1_crew 62 = .ok (.iload_n 3, 1) := dk_29 (dk_at dksX1_crew_2 16 rfl rfl)
theorem dX1_crew_63 : decode cX1_crew 63 = .ok (.iload 4, 2) := dk_21 4 (dk_at dksX1_crew_2 17 rfl rfl)
theorem dX1_crew_65 : decode cX1_crew 65 = .ok (.iload 5, 2) := dk_21 5 (dk_at dksX1_crew_2 19 rfl rfl)
theorem dX1_crew_67 : decode cX1_crew 67 = .ok (.invokevirtual 382, 3) := dk_182 1 126 (dk_at dksX1_crew_2 21 rfl rfl)
theorem dX1_crew_70 : decode cX1_crew 70 = .ok (.aastore, 1) := dk_83 (dk_at dksX1_crew_3 0 rfl rfl)
theorem dX1_crew_71 : decode cX1_crew 71 = .ok (.aload_n 0, 1) := dk_42 (dk_at dksX1_crew_3 1 rfl rfl)
theorem dX1_crew_72 : decode cX1_crew 72 = .ok (.dup, 1) := dk_89 (dk_at dksX1_crew_3 2 rfl rfl)
theorem dX1_crew_73 : decode cX1_crew 73 = .ok (.getfield 365, 3) := dk_180 1 109 (dk_at dksX1_crew_3 3 rfl rfl)
theorem dX1_crew_76 : decode cX1_crew 76 = .ok (.iconst 1, 1) := dk_4 (dk_at dksX1_crew_3 6 rfl rfl)
theorem dX1_crew_77 : decode cX1_crew 77 = .ok (.iadd, 1) := dk_96 (dk_at dksX1_crew_3 7 rfl rfl)
theorem dX1_crew_78 : decode cX1_crew 78 = .ok (.putfield 365, 3) := dk_181 1 109 (dk_at dksX1_crew_3 8 rfl rfl)
theorem dX1_crew_81 : decode cX1_crew 81 = .ok (.aload_n 0, 1) := dk_42 (dk_at dksX1_crew_3 11 rfl rfl)
theorem dX1_crew_82 : decode cX1_crew 82 = .ok (.getfield 365, 3) := dk_180 1 109 (dk_at dksX1_crew_3 12 rfl rfl)
theorem dX1_crew_85 : decode cX1_crew 85 = .ok (.iconst 1, 1) := dk_4 (dk_at dksX1_crew_3 15 rfl rfl)
theorem dX1_crew_86 : decode cX1_crew 86 = .ok (.isub, 1) := dk_100 (dk_at dksX1_crew_3 16 rfl rfl)
theorem dX1_crew_87 : decode cX1_crew 87 = .ok (.ireturn, 1) := dk_172 (dk_at dksX1_crew_3 17 rfl rfl)
abbrev cX1_make : ByteArray := prog_1_method_40_code
def yX1_make : MethodName := ⟨RX1, "make", "(IIZII)LCityBrigade$Crew;"⟩
def dkwX1_make_5 : List UInt8 := [183, 1, 125, 176]
abbrev dktX1_make_5 : List UInt8 := dkwX1_make_5 ++ []
def dkwX1_make_4 : List UInt8 := [21, 4, 21, 5, 183, 1, 122, 176, 187, 1, 123, 89, 42, 180, 1, 109, 28, 29, 21, 4, 21, 5]
abbrev dktX1_make_4 : List UInt8 := dkwX1_make_4 ++ dktX1_make_5
def dkwX1_make_3 : List UInt8 := [180, 1, 109, 28, 29, 21, 4, 21, 5, 183, 1, 119, 176, 187, 1, 120, 89, 42, 180, 1, 109, 28, 29]
abbrev dktX1_make_3 : List UInt8 := dkwX1_make_3 ++ dktX1_make_4
def dkwX1_make_2 : List UInt8 := [187, 1, 112, 89, 42, 180, 1, 109, 28, 29, 21, 4, 21, 5, 183, 1, 114, 176, 187, 1, 117, 89, 42]
abbrev dktX1_make_2 : List UInt8 := dkwX1_make_2 ++ dktX1_make_3
def dkwX1_make_1 : List UInt8 := [170, 0, 0, 0, 0, 0, 81, 0, 0, 0, 0, 0, 0, 0, 2, 0, 0, 0, 27, 0, 0, 0, 45, 0, 0, 0, 63]
abbrev dktX1_make_1 : List UInt8 := dkwX1_make_1 ++ dktX1_make_2
def dkwX1_make_0 : List UInt8 := [27]
abbrev dktX1_make_0 : List UInt8 := dkwX1_make_0 ++ dktX1_make_1
theorem dksX1_make_0 : cX1_make.data.toList.drop 0 = dktX1_make_0 := by decide +kernel
theorem dksX1_make_1 : cX1_make.data.toList.drop 1 = dktX1_make_1 := dk_seg dksX1_make_0 1 rfl rfl
theorem dksX1_make_2 : cX1_make.data.toList.drop 28 = dktX1_make_2 := dk_seg dksX1_make_1 27 rfl rfl
theorem dksX1_make_3 : cX1_make.data.toList.drop 51 = dktX1_make_3 := dk_seg dksX1_make_2 23 rfl rfl
theorem dksX1_make_4 : cX1_make.data.toList.drop 74 = dktX1_make_4 := dk_seg dksX1_make_3 23 rfl rfl
theorem dksX1_make_5 : cX1_make.data.toList.drop 96 = dktX1_make_5 := dk_seg dksX1_make_4 22 rfl rfl
theorem dX1_make_0 : decode cX1_make 0 = .ok (.iload_n 1, 1) := dk_27 (dk_at dksX1_make_0 0 rfl rfl)
theorem dX1_make_1 : decode cX1_make 1 = .ok (.tableswitch 81 0 2 #[27, 45, 63], 27) := by decide +kernel
theorem dX1_make_28 : decode cX1_make 28 = .ok (.new 368, 3) := dk_187 1 112 (dk_at dksX1_make_2 0 rfl rfl)
theorem dX1_make_31 : decode cX1_make 31 = .ok (.dup, 1) := dk_89 (dk_at dksX1_make_2 3 rfl rfl)
theorem dX1_make_32 : decode cX1_make 32 = .ok (.aload_n 0, 1) := dk_42 (dk_at dksX1_make_2 4 rfl rfl)
theorem dX1_make_33 : decode cX1_make 33 = .ok (.getfield 365, 3) := dk_180 1 109 (dk_at dksX1_make_2 5 rfl rfl)
theorem dX1_make_36 : decode cX1_make 36 = .ok (.iload_n 2, 1) := dk_28 (dk_at dksX1_make_2 8 rfl rfl)
theorem dX1_make_37 : decode cX1_make 37 = .ok (.iload_n 3, 1) := dk_29 (dk_at dksX1_make_2 9 rfl rfl)
theorem dX1_make_38 : decode cX1_make 38 = .ok (.iload 4, 2) := dk_21 4 (dk_at dksX1_make_2 10 rfl rfl)
theorem dX1_make_40 : decode cX1_make 40 = .ok (.iload 5, 2) := dk_21 5 (dk_at dksX1_make_2 12 rfl rfl)
theorem dX1_make_42 : decode cX1_make 42 = .ok (.invokespecial 370, 3) := dk_183 1 114 (dk_at dksX1_make_2 14 rfl rfl)
theorem dX1_make_45 : decode cX1_make 45 = .ok (.areturn, 1) := dk_176 (dk_at dksX1_make_2 17 rfl rfl)
theorem dX1_make_46 : decode cX1_make 46 = .ok (.new 373, 3) := dk_187 1 117 (dk_at dksX1_make_2 18 rfl rfl)
theorem dX1_make_49 : decode cX1_make 49 = .ok (.dup, 1) := dk_89 (dk_at dksX1_make_2 21 rfl rfl)
theorem dX1_make_50 : decode cX1_make 50 = .ok (.aload_n 0, 1) := dk_42 (dk_at dksX1_make_2 22 rfl rfl)
theorem dX1_make_51 : decode cX1_make 51 = .ok (.getfield 365, 3) := dk_180 1 109 (dk_at dksX1_make_3 0 rfl rfl)
theorem dX1_make_54 : decode cX1_make 54 = .ok (.iload_n 2, 1) := dk_28 (dk_at dksX1_make_3 3 rfl rfl)
theorem dX1_make_55 : decode cX1_make 55 = .ok (.iload_n 3, 1) := dk_29 (dk_at dksX1_make_3 4 rfl rfl)
theorem dX1_make_56 : decode cX1_make 56 = .ok (.iload 4, 2) := dk_21 4 (dk_at dksX1_make_3 5 rfl rfl)
theorem dX1_make_58 : decode cX1_make 58 = .ok (.iload 5, 2) := dk_21 5 (dk_at dksX1_make_3 7 rfl rfl)
theorem dX1_make_60 : decode cX1_make 60 = .ok (.invokespecial 375, 3) := dk_183 1 119 (dk_at dksX1_make_3 9 rfl rfl)
theorem dX1_make_63 : decode cX1_make 63 = .ok (.areturn, 1) := dk_176 (dk_at dksX1_make_3 12 rfl rfl)
theorem dX1_make_64 : decode cX1_make 64 = .ok (.new 376, 3) := dk_187 1 120 (dk_at dksX1_make_3 13 rfl rfl)
theorem dX1_make_67 : decode cX1_make 67 = .ok (.dup, 1) := dk_89 (dk_at dksX1_make_3 16 rfl rfl)
theorem dX1_make_68 : decode cX1_make 68 = .ok (.aload_n 0, 1) := dk_42 (dk_at dksX1_make_3 17 rfl rfl)
theorem dX1_make_69 : decode cX1_make 69 = .ok (.getfield 365, 3) := dk_180 1 109 (dk_at dksX1_make_3 18 rfl rfl)
theorem dX1_make_72 : decode cX1_make 72 = .ok (.iload_n 2, 1) := dk_28 (dk_at dksX1_make_3 21 rfl rfl)
theorem dX1_make_73 : decode cX1_make 73 = .ok (.iload_n 3, 1) := dk_29 (dk_at dksX1_make_3 22 rfl rfl)
theorem dX1_make_74 : decode cX1_make 74 = .ok (.iload 4, 2) := dk_21 4 (dk_at dksX1_make_4 0 rfl rfl)
theorem dX1_make_76 : decode cX1_make 76 = .ok (.iload 5, 2) := dk_21 5 (dk_at dksX1_make_4 2 rfl rfl)
theorem dX1_make_78 : decode cX1_make 78 = .ok (.invokespecial 378, 3) := dk_183 1 122 (dk_at dksX1_make_4 4 rfl rfl)
theorem dX1_make_81 : decode cX1_make 81 = .ok (.areturn, 1) := dk_176 (dk_at dksX1_make_4 7 rfl rfl)
theorem dX1_make_82 : decode cX1_make 82 = .ok (.new 379, 3) := dk_187 1 123 (dk_at dksX1_make_4 8 rfl rfl)
theorem dX1_make_85 : decode cX1_make 85 = .ok (.dup, 1) := dk_89 (dk_at dksX1_make_4 11 rfl rfl)
theorem dX1_make_86 : decode cX1_make 86 = .ok (.aload_n 0, 1) := dk_42 (dk_at dksX1_make_4 12 rfl rfl)
theorem dX1_make_87 : decode cX1_make 87 = .ok (.getfield 365, 3) := dk_180 1 109 (dk_at dksX1_make_4 13 rfl rfl)
theorem dX1_make_90 : decode cX1_make 90 = .ok (.iload_n 2, 1) := dk_28 (dk_at dksX1_make_4 16 rfl rfl)
theorem dX1_make_91 : decode cX1_make 91 = .ok (.iload_n 3, 1) := dk_29 (dk_at dksX1_make_4 17 rfl rfl)
theorem dX1_make_92 : decode cX1_make 92 = .ok (.iload 4, 2) := dk_21 4 (dk_at dksX1_make_4 18 rfl rfl)
theorem dX1_make_94 : decode cX1_make 94 = .ok (.iload 5, 2) := dk_21 5 (dk_at dksX1_make_4 20 rfl rfl)
theorem dX1_make_96 : decode cX1_make 96 = .ok (.invokespecial 381, 3) := dk_183 1 125 (dk_at dksX1_make_5 0 rfl rfl)
theorem dX1_make_99 : decode cX1_make 99 = .ok (.areturn, 1) := dk_176 (dk_at dksX1_make_5 3 rfl rfl)
abbrev cX1_gear : ByteArray := prog_1_method_42_code
def yX1_gear : MethodName := ⟨RX1, "gear", "(IIII)Z"⟩
def dkwX1_gear_1 : List UInt8 := [180, 0, 48, 27, 50, 28, 29, 21, 4, 182, 1, 136, 153, 0, 7, 4, 167, 0, 4, 3, 172]
abbrev dktX1_gear_1 : List UInt8 := dkwX1_gear_1 ++ []
def dkwX1_gear_0 : List UInt8 := [42, 27, 182, 1, 130, 153, 0, 36, 42, 180, 0, 48, 27, 50, 180, 1, 133, 5, 159, 0, 23, 42]
abbrev dktX1_gear_0 : List UInt8 := dkwX1_gear_0 ++ dktX1_gear_1
theorem dksX1_gear_0 : cX1_gear.data.toList.drop 0 = dktX1_gear_0 := by decide +kernel
theorem dksX1_gear_1 : cX1_gear.data.toList.drop 22 = dktX1_gear_1 := dk_seg dksX1_gear_0 22 rfl rfl
theorem dX1_gear_0 : decode cX1_gear 0 = .ok (.aload_n 0, 1) := dk_42 (dk_at dksX1_gear_0 0 rfl rfl)
theorem dX1_gear_1 : decode cX1_gear 1 = .ok (.iload_n 1, 1) := dk_27 (dk_at dksX1_gear_0 1 rfl rfl)
theorem dX1_gear_2 : decode cX1_gear 2 = .ok (.invokevirtual 386, 3) := dk_182 1 130 (dk_at dksX1_gear_0 2 rfl rfl)
theorem dX1_gear_5 : decode cX1_gear 5 = .ok (.ifCond .eq 36, 3) := dk_153 0 36 (dk_at dksX1_gear_0 5 rfl rfl)
theorem dX1_gear_8 : decode cX1_gear 8 = .ok (.aload_n 0, 1) := dk_42 (dk_at dksX1_gear_0 8 rfl rfl)
theorem dX1_gear_9 : decode cX1_gear 9 = .ok (.getfield 48, 3) := dk_180 0 48 (dk_at dksX1_gear_0 9 rfl rfl)
theorem dX1_gear_12 : decode cX1_gear 12 = .ok (.iload_n 1, 1) := dk_27 (dk_at dksX1_gear_0 12 rfl rfl)
theorem dX1_gear_13 : decode cX1_gear 13 = .ok (.aaload, 1) := dk_50 (dk_at dksX1_gear_0 13 rfl rfl)
theorem dX1_gear_14 : decode cX1_gear 14 = .ok (.getfield 389, 3) := dk_180 1 133 (dk_at dksX1_gear_0 14 rfl rfl)
theorem dX1_gear_17 : decode cX1_gear 17 = .ok (.iconst 2, 1) := dk_5 (dk_at dksX1_gear_0 17 rfl rfl)
theorem dX1_gear_18 : decode cX1_gear 18 = .ok (.if_icmp .eq 23, 3) := dk_159 0 23 (dk_at dksX1_gear_0 18 rfl rfl)
theorem dX1_gear_21 : decode cX1_gear 21 = .ok (.aload_n 0, 1) := dk_42 (dk_at dksX1_gear_0 21 rfl rfl)
theorem dX1_gear_22 : decode cX1_gear 22 = .ok (.getfield 48, 3) := dk_180 0 48 (dk_at dksX1_gear_1 0 rfl rfl)
theorem dX1_gear_25 : decode cX1_gear 25 = .ok (.iload_n 1, 1) := dk_27 (dk_at dksX1_gear_1 3 rfl rfl)
theorem dX1_gear_26 : decode cX1_gear 26 = .ok (.aaload, 1) := dk_50 (dk_at dksX1_gear_1 4 rfl rfl)
theorem dX1_gear_27 : decode cX1_gear 27 = .ok (.iload_n 2, 1) := dk_28 (dk_at dksX1_gear_1 5 rfl rfl)
theorem dX1_gear_28 : decode cX1_gear 28 = .ok (.iload_n 3, 1) := dk_29 (dk_at dksX1_gear_1 6 rfl rfl)
theorem dX1_gear_29 : decode cX1_gear 29 = .ok (.iload 4, 2) := dk_21 4 (dk_at dksX1_gear_1 7 rfl rfl)
theorem dX1_gear_31 : decode cX1_gear 31 = .ok (.invokevirtual 392, 3) := dk_182 1 136 (dk_at dksX1_gear_1 9 rfl rfl)
theorem dX1_gear_34 : decode cX1_gear 34 = .ok (.ifCond .eq 7, 3) := dk_153 0 7 (dk_at dksX1_gear_1 12 rfl rfl)
theorem dX1_gear_37 : decode cX1_gear 37 = .ok (.iconst 1, 1) := dk_4 (dk_at dksX1_gear_1 15 rfl rfl)
theorem dX1_gear_38 : decode cX1_gear 38 = .ok (.goto 4, 3) := dk_167 0 4 (dk_at dksX1_gear_1 16 rfl rfl)
theorem dX1_gear_41 : decode cX1_gear 41 = .ok (.iconst 0, 1) := dk_3 (dk_at dksX1_gear_1 19 rfl rfl)
theorem dX1_gear_42 : decode cX1_gear 42 = .ok (.ireturn, 1) := dk_172 (dk_at dksX1_gear_1 20 rfl rfl)
abbrev cX1_isCrew : ByteArray := prog_1_method_39_code
def yX1_isCrew : MethodName := ⟨RX1, "isCrew", "(I)Z"⟩
def dkwX1_isCrew_0 : List UInt8 := [27, 3, 42, 180, 1, 109, 4, 100, 184, 0, 3, 172]
abbrev dktX1_isCrew_0 : List UInt8 := dkwX1_isCrew_0 ++ []
theorem dksX1_isCrew_0 : cX1_isCrew.data.toList.drop 0 = dktX1_isCrew_0 := by decide +kernel
theorem dX1_isCrew_0 : decode cX1_isCrew 0 = .ok (.iload_n 1, 1) := dk_27 (dk_at dksX1_isCrew_0 0 rfl rfl)
theorem dX1_isCrew_1 : decode cX1_isCrew 1 = .ok (.iconst 0, 1) := dk_3 (dk_at dksX1_isCrew_0 1 rfl rfl)
theorem dX1_isCrew_2 : decode cX1_isCrew 2 = .ok (.aload_n 0, 1) := dk_42 (dk_at dksX1_isCrew_0 2 rfl rfl)
theorem dX1_isCrew_3 : decode cX1_isCrew 3 = .ok (.getfield 365, 3) := dk_180 1 109 (dk_at dksX1_isCrew_0 3 rfl rfl)
theorem dX1_isCrew_6 : decode cX1_isCrew 6 = .ok (.iconst 1, 1) := dk_4 (dk_at dksX1_isCrew_0 6 rfl rfl)
theorem dX1_isCrew_7 : decode cX1_isCrew 7 = .ok (.isub, 1) := dk_100 (dk_at dksX1_isCrew_0 7 rfl rfl)
theorem dX1_isCrew_8 : decode cX1_isCrew 8 = .ok (.invokestatic 3, 3) := dk_184 0 3 (dk_at dksX1_isCrew_0 8 rfl rfl)
theorem dX1_isCrew_11 : decode cX1_isCrew 11 = .ok (.ireturn, 1) := dk_172 (dk_at dksX1_isCrew_0 11 rfl rfl)
abbrev cX1_heal : ByteArray := prog_1_method_44_code
def yX1_heal : MethodName := ⟨RX1, "heal", "(I)Z"⟩
def dkwX1_heal_1 : List UInt8 := [42, 180, 0, 48, 27, 50, 42, 180, 0, 48, 27, 50, 180, 1, 152, 182, 1, 155, 4, 172]
abbrev dktX1_heal_1 : List UInt8 := dkwX1_heal_1 ++ []
def dkwX1_heal_0 : List UInt8 := [42, 27, 182, 1, 130, 153, 0, 16, 42, 180, 0, 48, 27, 50, 180, 1, 133, 7, 159, 0, 5, 3, 172, 42]
abbrev dktX1_heal_0 : List UInt8 := dkwX1_heal_0 ++ dktX1_heal_1
theorem dksX1_heal_0 : cX1_heal.data.toList.drop 0 = dktX1_heal_0 := by decide +kernel
theorem dksX1_heal_1 : cX1_heal.data.toList.drop 24 = dktX1_heal_1 := dk_seg dksX1_heal_0 24 rfl rfl
theorem dX1_heal_0 : decode cX1_heal 0 = .ok (.aload_n 0, 1) := dk_42 (dk_at dksX1_heal_0 0 rfl rfl)
theorem dX1_heal_1 : decode cX1_heal 1 = .ok (.iload_n 1, 1) := dk_27 (dk_at dksX1_heal_0 1 rfl rfl)
theorem dX1_heal_2 : decode cX1_heal 2 = .ok (.invokevirtual 386, 3) := dk_182 1 130 (dk_at dksX1_heal_0 2 rfl rfl)
theorem dX1_heal_5 : decode cX1_heal 5 = .ok (.ifCond .eq 16, 3) := dk_153 0 16 (dk_at dksX1_heal_0 5 rfl rfl)
theorem dX1_heal_8 : decode cX1_heal 8 = .ok (.aload_n 0, 1) := dk_42 (dk_at dksX1_heal_0 8 rfl rfl)
theorem dX1_heal_9 : decode cX1_heal 9 = .ok (.getfield 48, 3) := dk_180 0 48 (dk_at dksX1_heal_0 9 rfl rfl)
theorem dX1_heal_12 : decode cX1_heal 12 = .ok (.iload_n 1, 1) := dk_27 (dk_at dksX1_heal_0 12 rfl rfl)
theorem dX1_heal_13 : decode cX1_heal 13 = .ok (.aaload, 1) := dk_50 (dk_at dksX1_heal_0 13 rfl rfl)
theorem dX1_heal_14 : decode cX1_heal 14 = .ok (.getfield 389, 3) := dk_180 1 133 (dk_at dksX1_heal_0 14 rfl rfl)
theorem dX1_heal_17 : decode cX1_heal 17 = .ok (.iconst 4, 1) := dk_7 (dk_at dksX1_heal_0 17 rfl rfl)
theorem dX1_heal_18 : decode cX1_heal 18 = .ok (.if_icmp .eq 5, 3) := dk_159 0 5 (dk_at dksX1_heal_0 18 rfl rfl)
theorem dX1_heal_21 : decode cX1_heal 21 = .ok (.iconst 0, 1) := dk_3 (dk_at dksX1_heal_0 21 rfl rfl)
theorem dX1_heal_22 : decode cX1_heal 22 = .ok (.ireturn, 1) := dk_172 (dk_at dksX1_heal_0 22 rfl rfl)
theorem dX1_heal_23 : decode cX1_heal 23 = .ok (.aload_n 0, 1) := dk_42 (dk_at dksX1_heal_0 23 rfl rfl)
theorem dX1_heal_24 : decode cX1_heal 24 = .ok (.aload_n 0, 1) := dk_42 (dk_at dksX1_heal_1 0 rfl rfl)
theorem dX1_heal_25 : decode cX1_heal 25 = .ok (.getfield 48, 3) := dk_180 0 48 (dk_at dksX1_heal_1 1 rfl rfl)
theorem dX1_heal_28 : decode cX1_heal 28 = .ok (.iload_n 1, 1) := dk_27 (dk_at dksX1_heal_1 4 rfl rfl)
theorem dX1_heal_29 : decode cX1_heal 29 = .ok (.aaload, 1) := dk_50 (dk_at dksX1_heal_1 5 rfl rfl)
theorem dX1_heal_30 : decode cX1_heal 30 = .ok (.aload_n 0, 1) := dk_42 (dk_at dksX1_heal_1 6 rfl rfl)
theorem dX1_heal_31 : decode cX1_heal 31 = .ok (.getfield 48, 3) := dk_180 0 48 (dk_at dksX1_heal_1 7 rfl rfl)
theorem dX1_heal_34 : decode cX1_heal 34 = .ok (.iload_n 1, 1) := dk_27 (dk_at dksX1_heal_1 10 rfl rfl)
theorem dX1_heal_35 : decode cX1_heal 35 = .ok (.aaload, 1) := dk_50 (dk_at dksX1_heal_1 11 rfl rfl)
theorem dX1_heal_36 : decode cX1_heal 36 = .ok (.getfield 408, 3) := dk_180 1 152 (dk_at dksX1_heal_1 12 rfl rfl)
theorem dX1_heal_39 : decode cX1_heal 39 = .ok (.invokevirtual 411, 3) := dk_182 1 155 (dk_at dksX1_heal_1 15 rfl rfl)
theorem dX1_heal_42 : decode cX1_heal 42 = .ok (.iconst 1, 1) := dk_4 (dk_at dksX1_heal_1 18 rfl rfl)
theorem dX1_heal_43 : decode cX1_heal 43 = .ok (.ireturn, 1) := dk_172 (dk_at dksX1_heal_1 19 rfl rfl)
abbrev cX1_ready : ByteArray := prog_1_method_43_code
def yX1_ready : MethodName := ⟨RX1, "ready", "(LCityBrigade$Crew;I)V"⟩
def dkwX1_ready_1 : List UInt8 := [181, 1, 149, 177]
abbrev dktX1_ready_1 : List UInt8 := dkwX1_ready_1 ++ []
def dkwX1_ready_0 : List UInt8 := [43, 3, 181, 1, 133, 43, 28, 181, 1, 139, 43, 2, 181, 1, 142, 43, 1, 181, 1, 145, 43, 2]
abbrev dktX1_ready_0 : List UInt8 := dkwX1_ready_0 ++ dktX1_ready_1
theorem dksX1_ready_0 : cX1_ready.data.toList.drop 0 = dktX1_ready_0 := by decide +kernel
theorem dksX1_ready_1 : cX1_ready.data.toList.drop 22 = dktX1_ready_1 := dk_seg dksX1_ready_0 22 rfl rfl
theorem dX1_ready_0 : decode cX1_ready 0 = .ok (.aload_n 1, 1) := dk_43 (dk_at dksX1_ready_0 0 rfl rfl)
theorem dX1_ready_1 : decode cX1_ready 1 = .ok (.iconst 0, 1) := dk_3 (dk_at dksX1_ready_0 1 rfl rfl)
theorem dX1_ready_2 : decode cX1_ready 2 = .ok (.putfield 389, 3) := dk_181 1 133 (dk_at dksX1_ready_0 2 rfl rfl)
theorem dX1_ready_5 : decode cX1_ready 5 = .ok (.aload_n 1, 1) := dk_43 (dk_at dksX1_ready_0 5 rfl rfl)
theorem dX1_ready_6 : decode cX1_ready 6 = .ok (.iload_n 2, 1) := dk_28 (dk_at dksX1_ready_0 6 rfl rfl)
theorem dX1_ready_7 : decode cX1_ready 7 = .ok (.putfield 395, 3) := dk_181 1 139 (dk_at dksX1_ready_0 7 rfl rfl)
theorem dX1_ready_10 : decode cX1_ready 10 = .ok (.aload_n 1, 1) := dk_43 (dk_at dksX1_ready_0 10 rfl rfl)
theorem dX1_ready_11 : decode cX1_ready 11 = .ok (.iconst (-1), 1) := dk_2 (dk_at dksX1_ready_0 11 rfl rfl)
theorem dX1_ready_12 : decode cX1_ready 12 = .ok (.putfield 398, 3) := dk_181 1 142 (dk_at dksX1_ready_0 12 rfl rfl)
theorem dX1_ready_15 : decode cX1_ready 15 = .ok (.aload_n 1, 1) := dk_43 (dk_at dksX1_ready_0 15 rfl rfl)
theorem dX1_ready_16 : decode cX1_ready 16 = .ok (.aconst_null, 1) := dk_1 (dk_at dksX1_ready_0 16 rfl rfl)
theorem dX1_ready_17 : decode cX1_ready 17 = .ok (.putfield 401, 3) := dk_181 1 145 (dk_at dksX1_ready_0 17 rfl rfl)
theorem dX1_ready_20 : decode cX1_ready 20 = .ok (.aload_n 1, 1) := dk_43 (dk_at dksX1_ready_0 20 rfl rfl)
theorem dX1_ready_21 : decode cX1_ready 21 = .ok (.iconst (-1), 1) := dk_2 (dk_at dksX1_ready_0 21 rfl rfl)
theorem dX1_ready_22 : decode cX1_ready 22 = .ok (.putfield 405, 3) := dk_181 1 149 (dk_at dksX1_ready_1 0 rfl rfl)
theorem dX1_ready_25 : decode cX1_ready 25 = .ok (.return_, 1) := dk_177 (dk_at dksX1_ready_1 3 rfl rfl)
abbrev cX1_recall : ByteArray := prog_1_method_46_code
def yX1_recall : MethodName := ⟨RX1, "recall", "(I)Z"⟩
def dkwX1_recall_2 : List UInt8 := [27, 50, 182, 1, 165, 4, 172]
abbrev dktX1_recall_2 : List UInt8 := dkwX1_recall_2 ++ []
def dkwX1_recall_1 : List UInt8 := [27, 50, 180, 1, 139, 42, 180, 0, 48, 27, 50, 180, 1, 152, 160, 0, 5, 3, 172, 42, 42, 180, 0, 48]
abbrev dktX1_recall_1 : List UInt8 := dkwX1_recall_1 ++ dktX1_recall_2
def dkwX1_recall_0 : List UInt8 := [42, 27, 182, 1, 130, 153, 0, 36, 42, 180, 0, 48, 27, 50, 180, 1, 133, 154, 0, 24, 42, 180, 0, 48]
abbrev dktX1_recall_0 : List UInt8 := dkwX1_recall_0 ++ dktX1_recall_1
theorem dksX1_recall_0 : cX1_recall.data.toList.drop 0 = dktX1_recall_0 := by decide +kernel
theorem dksX1_recall_1 : cX1_recall.data.toList.drop 24 = dktX1_recall_1 := dk_seg dksX1_recall_0 24 rfl rfl
theorem dksX1_recall_2 : cX1_recall.data.toList.drop 48 = dktX1_recall_2 := dk_seg dksX1_recall_1 24 rfl rfl
theorem dX1_recall_0 : decode cX1_recall 0 = .ok (.aload_n 0, 1) := dk_42 (dk_at dksX1_recall_0 0 rfl rfl)
theorem dX1_recall_1 : decode cX1_recall 1 = .ok (.iload_n 1, 1) := dk_27 (dk_at dksX1_recall_0 1 rfl rfl)
theorem dX1_recall_2 : decode cX1_recall 2 = .ok (.invokevirtual 386, 3) := dk_182 1 130 (dk_at dksX1_recall_0 2 rfl rfl)
theorem dX1_recall_5 : decode cX1_recall 5 = .ok (.ifCond .eq 36, 3) := dk_153 0 36 (dk_at dksX1_recall_0 5 rfl rfl)
theorem dX1_recall_8 : decode cX1_recall 8 = .ok (.aload_n 0, 1) := dk_42 (dk_at dksX1_recall_0 8 rfl rfl)
theorem dX1_recall_9 : decode cX1_recall 9 = .ok (.getfield 48, 3) := dk_180 0 48 (dk_at dksX1_recall_0 9 rfl rfl)
theorem dX1_recall_12 : decode cX1_recall 12 = .ok (.iload_n 1, 1) := dk_27 (dk_at dksX1_recall_0 12 rfl rfl)
theorem dX1_recall_13 : decode cX1_recall 13 = .ok (.aaload, 1) := dk_50 (dk_at dksX1_recall_0 13 rfl rfl)
theorem dX1_recall_14 : decode cX1_recall 14 = .ok (.getfield 389, 3) := dk_180 1 133 (dk_at dksX1_recall_0 14 rfl rfl)
theorem dX1_recall_17 : decode cX1_recall 17 = .ok (.ifCond .ne 24, 3) := dk_154 0 24 (dk_at dksX1_recall_0 17 rfl rfl)
theorem dX1_recall_20 : decode cX1_recall 20 = .ok (.aload_n 0, 1) := dk_42 (dk_at dksX1_recall_0 20 rfl rfl)
theorem dX1_recall_21 : decode cX1_recall 21 = .ok (.getfield 48, 3) := dk_180 0 48 (dk_at dksX1_recall_0 21 rfl rfl)
theorem dX1_recall_24 : decode cX1_recall 24 = .ok (.iload_n 1, 1) := dk_27 (dk_at dksX1_recall_1 0 rfl rfl)
theorem dX1_recall_25 : decode cX1_recall 25 = .ok (.aaload, 1) := dk_50 (dk_at dksX1_recall_1 1 rfl rfl)
theorem dX1_recall_26 : decode cX1_recall 26 = .ok (.getfield 395, 3) := dk_180 1 139 (dk_at dksX1_recall_1 2 rfl rfl)
theorem dX1_recall_29 : decode cX1_recall 29 = .ok (.aload_n 0, 1) := dk_42 (dk_at dksX1_recall_1 5 rfl rfl)
theorem dX1_recall_30 : decode cX1_recall 30 = .ok (.getfield 48, 3) := dk_180 0 48 (dk_at dksX1_recall_1 6 rfl rfl)
theorem dX1_recall_33 : decode cX1_recall 33 = .ok (.iload_n 1, 1) := dk_27 (dk_at dksX1_recall_1 9 rfl rfl)
theorem dX1_recall_34 : decode cX1_recall 34 = .ok (.aaload, 1) := dk_50 (dk_at dksX1_recall_1 10 rfl rfl)
theorem dX1_recall_35 : decode cX1_recall 35 = .ok (.getfield 408, 3) := dk_180 1 152 (dk_at dksX1_recall_1 11 rfl rfl)
theorem dX1_recall_38 : decode cX1_recall 38 = .ok (.if_icmp .ne 5, 3) := dk_160 0 5 (dk_at dksX1_recall_1 14 rfl rfl)
theorem dX1_recall_41 : decode cX1_recall 41 = .ok (.iconst 0, 1) := dk_3 (dk_at dksX1_recall_1 17 rfl rfl)
theorem dX1_recall_42 : decode cX1_recall 42 = .ok (.ireturn, 1) := dk_172 (dk_at dksX1_recall_1 18 rfl rfl)
theorem dX1_recall_43 : decode cX1_recall 43 = .ok (.aload_n 0, 1) := dk_42 (dk_at dksX1_recall_1 19 rfl rfl)
theorem dX1_recall_44 : decode cX1_recall 44 = .ok (.aload_n 0, 1) := dk_42 (dk_at dksX1_recall_1 20 rfl rfl)
theorem dX1_recall_45 : decode cX1_recall 45 = .ok (.getfield 48, 3) := dk_180 0 48 (dk_at dksX1_recall_1 21 rfl rfl)
theorem dX1_recall_48 : decode cX1_recall 48 = .ok (.iload_n 1, 1) := dk_27 (dk_at dksX1_recall_2 0 rfl rfl)
theorem dX1_recall_49 : decode cX1_recall 49 = .ok (.aaload, 1) := dk_50 (dk_at dksX1_recall_2 1 rfl rfl)
theorem dX1_recall_50 : decode cX1_recall 50 = .ok (.invokevirtual 421, 3) := dk_182 1 165 (dk_at dksX1_recall_2 2 rfl rfl)
theorem dX1_recall_53 : decode cX1_recall 53 = .ok (.iconst 1, 1) := dk_4 (dk_at dksX1_recall_2 5 rfl rfl)
theorem dX1_recall_54 : decode cX1_recall 54 = .ok (.ireturn, 1) := dk_172 (dk_at dksX1_recall_2 6 rfl rfl)
abbrev cX1_turnHome : ByteArray := prog_1_method_45_code
def yX1_turnHome : MethodName := ⟨RX1, "turnHome", "(LCityBrigade$Crew;)V"⟩
def dkwX1_turnHome_2 : List UInt8 := [181, 1, 133, 43, 28, 181, 1, 142, 177]
abbrev dktX1_turnHome_2 : List UInt8 := dkwX1_turnHome_2 ++ []
def dkwX1_turnHome_1 : List UInt8 := [180, 1, 152, 182, 1, 155, 28, 2, 159, 0, 11, 28, 42, 180, 1, 159, 160, 0, 4, 177, 43, 6]
abbrev dktX1_turnHome_1 : List UInt8 := dkwX1_turnHome_1 ++ dktX1_turnHome_2
def dkwX1_turnHome_0 : List UInt8 := [42, 43, 180, 1, 139, 43, 180, 1, 152, 42, 180, 1, 159, 43, 182, 1, 162, 182, 0, 184, 61, 42, 43, 43]
abbrev dktX1_turnHome_0 : List UInt8 := dkwX1_turnHome_0 ++ dktX1_turnHome_1
theorem dksX1_turnHome_0 : cX1_turnHome.data.toList.drop 0 = dktX1_turnHome_0 := by decide +kernel
theorem dksX1_turnHome_1 : cX1_turnHome.data.toList.drop 24 = dktX1_turnHome_1 := dk_seg dksX1_turnHome_0 24 rfl rfl
theorem dksX1_turnHome_2 : cX1_turnHome.data.toList.drop 46 = dktX1_turnHome_2 := dk_seg dksX1_turnHome_1 22 rfl rfl
theorem dX1_turnHome_0 : decode cX1_turnHome 0 = .ok (.aload_n 0, 1) := dk_42 (dk_at dksX1_turnHome_0 0 rfl rfl)
theorem dX1_turnHome_1 : decode cX1_turnHome 1 = .ok (.aload_n 1, 1) := dk_43 (dk_at dksX1_turnHome_0 1 rfl rfl)
theorem dX1_turnHome_2 : decode cX1_turnHome 2 = .ok (.getfield 395, 3) := dk_180 1 139 (dk_at dksX1_turnHome_0 2 rfl rfl)
theorem dX1_turnHome_5 : decode cX1_turnHome 5 = .ok (.aload_n 1, 1) := dk_43 (dk_at dksX1_turnHome_0 5 rfl rfl)
theorem dX1_turnHome_6 : decode cX1_turnHome 6 = .ok (.getfield 408, 3) := dk_180 1 152 (dk_at dksX1_turnHome_0 6 rfl rfl)
theorem dX1_turnHome_9 : decode cX1_turnHome 9 = .ok (.aload_n 0, 1) := dk_42 (dk_at dksX1_turnHome_0 9 rfl rfl)
theorem dX1_turnHome_10 : decode cX1_turnHome 10 = .ok (.getfield 415, 3) := dk_180 1 159 (dk_at dksX1_turnHome_0 10 rfl rfl)
theorem dX1_turnHome_13 : decode cX1_turnHome 13 = .ok (.aload_n 1, 1) := dk_43 (dk_at dksX1_turnHome_0 13 rfl rfl)
theorem dX1_turnHome_14 : decode cX1_turnHome 14 = .ok (.invokevirtual 418, 3) := dk_182 1 162 (dk_at dksX1_turnHome_0 14 rfl rfl)
theorem dX1_turnHome_17 : decode cX1_turnHome 17 = .ok (.invokevirtual 184, 3) := dk_182 0 184 (dk_at dksX1_turnHome_0 17 rfl rfl)
theorem dX1_turnHome_20 : decode cX1_turnHome 20 = .ok (.istore_n 2, 1) := dk_61 (dk_at dksX1_turnHome_0 20 rfl rfl)
theorem dX1_turnHome_21 : decode cX1_turnHome 21 = .ok (.aload_n 0, 1) := dk_42 (dk_at dksX1_turnHome_0 21 rfl rfl)
theorem dX1_turnHome_22 : decode cX1_turnHome 22 = .ok (.aload_n 1, 1) := dk_43 (dk_at dksX1_turnHome_0 22 rfl rfl)
theorem dX1_turnHome_23 : decode cX1_turnHome 23 = .ok (.aload_n 1, 1) := dk_43 (dk_at dksX1_turnHome_0 23 rfl rfl)
theorem dX1_turnHome_24 : decode cX1_turnHome 24 = .ok (.getfield 408, 3) := dk_180 1 152 (dk_at dksX1_turnHome_1 0 rfl rfl)
theorem dX1_turnHome_27 : decode cX1_turnHome 27 = .ok (.invokevirtual 411, 3) := dk_182 1 155 (dk_at dksX1_turnHome_1 3 rfl rfl)
theorem dX1_turnHome_30 : decode cX1_turnHome 30 = .ok (.iload_n 2, 1) := dk_28 (dk_at dksX1_turnHome_1 6 rfl rfl)
theorem dX1_turnHome_31 : decode cX1_turnHome 31 = .ok (.iconst (-1), 1) := dk_2 (dk_at dksX1_turnHome_1 7 rfl rfl)
theorem dX1_turnHome_32 : decode cX1_turnHome 32 = .ok (.if_icmp .eq 11, 3) := dk_159 0 11 (dk_at dksX1_turnHome_1 8 rfl rfl)
theorem dX1_turnHome_35 : decode cX1_turnHome 35 = .ok (.iload_n 2, 1) := dk_28 (dk_at dksX1_turnHome_1 11 rfl rfl)
theorem dX1_turnHome_36 : decode cX1_turnHome 36 = .ok (.aload_n 0, 1) := dk_42 (dk_at dksX1_turnHome_1 12 rfl rfl)
theorem dX1_turnHome_37 : decode cX1_turnHome 37 = .ok (.getfield 415, 3) := dk_180 1 159 (dk_at dksX1_turnHome_1 13 rfl rfl)
theorem dX1_turnHome_40 : decode cX1_turnHome 40 = .ok (.if_icmp .ne 4, 3) := dk_160 0 4 (dk_at dksX1_turnHome_1 16 rfl rfl)
theorem dX1_turnHome_43 : decode cX1_turnHome 43 = .ok (.return_, 1) := dk_177 (dk_at dksX1_turnHome_1 19 rfl rfl)
theorem dX1_turnHome_44 : decode cX1_turnHome 44 = .ok (.aload_n 1, 1) := dk_43 (dk_at dksX1_turnHome_1 20 rfl rfl)
theorem dX1_turnHome_45 : decode cX1_turnHome 45 = .ok (.iconst 3, 1) := dk_6 (dk_at dksX1_turnHome_1 21 rfl rfl)
theorem dX1_turnHome_46 : decode cX1_turnHome 46 = .ok (.putfield 389, 3) := dk_181 1 133 (dk_at dksX1_turnHome_2 0 rfl rfl)
theorem dX1_turnHome_49 : decode cX1_turnHome 49 = .ok (.aload_n 1, 1) := dk_43 (dk_at dksX1_turnHome_2 3 rfl rfl)
theorem dX1_turnHome_50 : decode cX1_turnHome 50 = .ok (.iload_n 2, 1) := dk_28 (dk_at dksX1_turnHome_2 4 rfl rfl)
theorem dX1_turnHome_51 : decode cX1_turnHome 51 = .ok (.putfield 398, 3) := dk_181 1 142 (dk_at dksX1_turnHome_2 5 rfl rfl)
theorem dX1_turnHome_54 : decode cX1_turnHome 54 = .ok (.return_, 1) := dk_177 (dk_at dksX1_turnHome_2 8 rfl rfl)
abbrev cX1_reach : ByteArray := prog_1_method_53_code
def yX1_reach : MethodName := ⟨RX1, "reach", "(II)I"⟩
def dkwX1_reach_2 : List UInt8 := [182, 1, 194, 167, 0, 4, 2, 172]
abbrev dktX1_reach_2 : List UInt8 := dkwX1_reach_2 ++ []
def dkwX1_reach_1 : List UInt8 := [193, 1, 190, 153, 0, 25, 42, 42, 180, 0, 48, 27, 50, 192, 1, 190, 42, 180, 0, 30, 28, 50]
abbrev dktX1_reach_1 : List UInt8 := dkwX1_reach_1 ++ dktX1_reach_2
def dkwX1_reach_0 : List UInt8 := [42, 27, 182, 1, 130, 153, 0, 45, 42, 28, 182, 0, 202, 153, 0, 37, 42, 180, 0, 48, 27, 50]
abbrev dktX1_reach_0 : List UInt8 := dkwX1_reach_0 ++ dktX1_reach_1
theorem dksX1_reach_0 : cX1_reach.data.toList.drop 0 = dktX1_reach_0 := by decide +kernel
theorem dksX1_reach_1 : cX1_reach.data.toList.drop 22 = dktX1_reach_1 := dk_seg dksX1_reach_0 22 rfl rfl
theorem dksX1_reach_2 : cX1_reach.data.toList.drop 44 = dktX1_reach_2 := dk_seg dksX1_reach_1 22 rfl rfl
theorem dX1_reach_0 : decode cX1_reach 0 = .ok (.aload_n 0, 1) := dk_42 (dk_at dksX1_reach_0 0 rfl rfl)
theorem dX1_reach_1 : decode cX1_reach 1 = .ok (.iload_n 1, 1) := dk_27 (dk_at dksX1_reach_0 1 rfl rfl)
theorem dX1_reach_2 : decode cX1_reach 2 = .ok (.invokevirtual 386, 3) := dk_182 1 130 (dk_at dksX1_reach_0 2 rfl rfl)
theorem dX1_reach_5 : decode cX1_reach 5 = .ok (.ifCond .eq 45, 3) := dk_153 0 45 (dk_at dksX1_reach_0 5 rfl rfl)
theorem dX1_reach_8 : decode cX1_reach 8 = .ok (.aload_n 0, 1) := dk_42 (dk_at dksX1_reach_0 8 rfl rfl)
theorem dX1_reach_9 : decode cX1_reach 9 = .ok (.iload_n 2, 1) := dk_28 (dk_at dksX1_reach_0 9 rfl rfl)
theorem dX1_reach_10 : decode cX1_reach 10 = .ok (.invokevirtual 202, 3) := dk_182 0 202 (dk_at dksX1_reach_0 10 rfl rfl)
theorem dX1_reach_13 : decode cX1_reach 13 = .ok (.ifCond .eq 37, 3) := dk_153 0 37 (dk_at dksX1_reach_0 13 rfl rfl)
theorem dX1_reach_16 : decode cX1_reach 16 = .ok (.aload_n 0, 1) := dk_42 (dk_at dksX1_reach_0 16 rfl rfl)
theorem dX1_reach_17 : decode cX1_reach 17 = .ok (.getfield 48, 3) := dk_180 0 48 (dk_at dksX1_reach_0 17 rfl rfl)
theorem dX1_reach_20 : decode cX1_reach 20 = .ok (.iload_n 1, 1) := dk_27 (dk_at dksX1_reach_0 20 rfl rfl)
theorem dX1_reach_21 : decode cX1_reach 21 = .ok (.aaload, 1) := dk_50 (dk_at dksX1_reach_0 21 rfl rfl)
theorem dX1_reach_22 : decode cX1_reach 22 = .ok (.instanceof 446, 3) := dk_193 1 190 (dk_at dksX1_reach_1 0 rfl rfl)
theorem dX1_reach_25 : decode cX1_reach 25 = .ok (.ifCond .eq 25, 3) := dk_153 0 25 (dk_at dksX1_reach_1 3 rfl rfl)
theorem dX1_reach_28 : decode cX1_reach 28 = .ok (.aload_n 0, 1) := dk_42 (dk_at dksX1_reach_1 6 rfl rfl)
theorem dX1_reach_29 : decode cX1_reach 29 = .ok (.aload_n 0, 1) := dk_42 (dk_at dksX1_reach_1 7 rfl rfl)
theorem dX1_reach_30 : decode cX1_reach 30 = .ok (.getfield 48, 3) := dk_180 0 48 (dk_at dksX1_reach_1 8 rfl rfl)
theorem dX1_reach_33 : decode cX1_reach 33 = .ok (.iload_n 1, 1) := dk_27 (dk_at dksX1_reach_1 11 rfl rfl)
theorem dX1_reach_34 : decode cX1_reach 34 = .ok (.aaload, 1) := dk_50 (dk_at dksX1_reach_1 12 rfl rfl)
theorem dX1_reach_35 : decode cX1_reach 35 = .ok (.checkcast 446, 3) := dk_192 1 190 (dk_at dksX1_reach_1 13 rfl rfl)
theorem dX1_reach_38 : decode cX1_reach 38 = .ok (.aload_n 0, 1) := dk_42 (dk_at dksX1_reach_1 16 rfl rfl)
theorem dX1_reach_39 : decode cX1_reach 39 = .ok (.getfield 30, 3) := dk_180 0 30 (dk_at dksX1_reach_1 17 rfl rfl)
theorem dX1_reach_42 : decode cX1_reach 42 = .ok (.iload_n 2, 1) := dk_28 (dk_at dksX1_reach_1 20 rfl rfl)
theorem dX1_reach_43 : decode cX1_reach 43 = .ok (.aaload, 1) := dk_50 (dk_at dksX1_reach_1 21 rfl rfl)
theorem dX1_reach_44 : decode cX1_reach 44 = .ok (.invokevirtual 450, 3) := dk_182 1 194 (dk_at dksX1_reach_2 0 rfl rfl)
theorem dX1_reach_47 : decode cX1_reach 47 = .ok (.goto 4, 3) := dk_167 0 4 (dk_at dksX1_reach_2 3 rfl rfl)
theorem dX1_reach_50 : decode cX1_reach 50 = .ok (.iconst (-1), 1) := dk_2 (dk_at dksX1_reach_2 6 rfl rfl)
theorem dX1_reach_51 : decode cX1_reach 51 = .ok (.ireturn, 1) := dk_172 (dk_at dksX1_reach_2 7 rfl rfl)
abbrev cX1_reachOf : ByteArray := prog_1_method_52_code
def yX1_reachOf : MethodName := ⟨RX1, "reachOf", "(LCityBrigade$Gives;LCityBrigade$House;)I"⟩
def dkwX1_reachOf_3 : List UInt8 := [167, 255, 228, 21, 5, 172]
abbrev dktX1_reachOf_3 : List UInt8 := dkwX1_reachOf_3 ++ []
def dkwX1_reachOf_2 : List UInt8 := [162, 0, 25, 16, 20, 21, 6, 4, 96, 104, 21, 4, 163, 0, 7, 21, 6, 54, 5, 132, 6, 1]
abbrev dktX1_reachOf_2 : List UInt8 := dkwX1_reachOf_2 ++ dktX1_reachOf_3
def dkwX1_reachOf_1 : List UInt8 := [180, 0, 24, 45, 180, 1, 184, 46, 104, 100, 54, 4, 2, 54, 5, 3, 54, 6, 21, 6, 44, 180, 0, 209]
abbrev dktX1_reachOf_1 : List UInt8 := dkwX1_reachOf_1 ++ dktX1_reachOf_2
def dkwX1_reachOf_0 : List UInt8 := [42, 44, 180, 1, 52, 182, 1, 185, 78, 45, 199, 0, 5, 2, 172, 43, 185, 1, 189, 1, 0, 16, 100, 42]
abbrev dktX1_reachOf_0 : List UInt8 := dkwX1_reachOf_0 ++ dktX1_reachOf_1
theorem dksX1_reachOf_0 : cX1_reachOf.data.toList.drop 0 = dktX1_reachOf_0 := by decide +kernel
theorem dksX1_reachOf_1 : cX1_reachOf.data.toList.drop 24 = dktX1_reachOf_1 := dk_seg dksX1_reachOf_0 24 rfl rfl
theorem dksX1_reachOf_2 : cX1_reachOf.data.toList.drop 48 = dktX1_reachOf_2 := dk_seg dksX1_reachOf_1 24 rfl rfl
theorem dksX1_reachOf_3 : cX1_reachOf.data.toList.drop 70 = dktX1_reachOf_3 := dk_seg dksX1_reachOf_2 22 rfl rfl
theorem dX1_reachOf_0 : decode cX1_reachOf 0 = .ok (.aload_n 0, 1) := dk_42 (dk_at dksX1_reachOf_0 0 rfl rfl)
theorem dX1_reachOf_1 : decode cX1_reachOf 1 = .ok (.aload_n 2, 1) := dk_44 (dk_at dksX1_reachOf_0 1 rfl rfl)
theorem dX1_reachOf_2 : decode cX1_reachOf 2 = .ok (.getfield 308, 3) := dk_180 1 52 (dk_at dksX1_reachOf_0 2 rfl rfl)
theorem dX1_reachOf_5 : decode cX1_reachOf 5 = .ok (.invokevirtual 441, 3) := dk_182 1 185 (dk_at dksX1_reachOf_0 5 rfl rfl)
theorem dX1_reachOf_8 : decode cX1_reachOf 8 = .ok (.astore_n 3, 1) := dk_78 (dk_at dksX1_reachOf_0 8 rfl rfl)
theorem dX1_reachOf_9 : decode cX1_reachOf 9 = .ok (.aload_n 3, 1) := dk_45 (dk_at dksX1_reachOf_0 9 rfl rfl)
theorem dX1_reachOf_10 : decode cX1_reachOf 10 = .ok (.ifnonnull 5, 3) := dk_199 0 5 (dk_at dksX1_reachOf_0 10 rfl rfl)
theorem dX1_reachOf_13 : decode cX1_reachOf 13 = .ok (.iconst (-1), 1) := dk_2 (dk_at dksX1_reachOf_0 13 rfl rfl)
theorem dX1_reachOf_14 : decode cX1_reachOf 14 = .ok (.ireturn, 1) := dk_172 (dk_at dksX1_reachOf_0 14 rfl rfl)
theorem dX1_reachOf_15 : decode cX1_reachOf 15 = .ok (.aload_n 1, 1) := dk_43 (dk_at dksX1_reachOf_0 15 rfl rfl)
theorem dX1_reachOf_16 : decode cX1_reachOf 16 = .ok (.invokeinterface 445 1, 5) := by decide +kernel
theorem dX1_reachOf_21 : decode cX1_reachOf 21 = .ok (.bipush 100, 2) := dk_16 100 (dk_at dksX1_reachOf_0 21 rfl rfl)
theorem dX1_reachOf_23 : decode cX1_reachOf 23 = .ok (.aload_n 0, 1) := dk_42 (dk_at dksX1_reachOf_0 23 rfl rfl)
theorem dX1_reachOf_24 : decode cX1_reachOf 24 = .ok (.getfield 24, 3) := dk_180 0 24 (dk_at dksX1_reachOf_1 0 rfl rfl)
theorem dX1_reachOf_27 : decode cX1_reachOf 27 = .ok (.aload_n 3, 1) := dk_45 (dk_at dksX1_reachOf_1 3 rfl rfl)
theorem dX1_reachOf_28 : decode cX1_reachOf 28 = .ok (.getfield 440, 3) := dk_180 1 184 (dk_at dksX1_reachOf_1 4 rfl rfl)
theorem dX1_reachOf_31 : decode cX1_reachOf 31 = .ok (.iaload, 1) := dk_46 (dk_at dksX1_reachOf_1 7 rfl rfl)
theorem dX1_reachOf_32 : decode cX1_reachOf 32 = .ok (.imul, 1) := dk_104 (dk_at dksX1_reachOf_1 8 rfl rfl)
theorem dX1_reachOf_33 : decode cX1_reachOf 33 = .ok (.isub, 1) := dk_100 (dk_at dksX1_reachOf_1 9 rfl rfl)
theorem dX1_reachOf_34 : decode cX1_reachOf 34 = .ok (.istore 4, 2) := dk_54 4 (dk_at dksX1_reachOf_1 10 rfl rfl)
theorem dX1_reachOf_36 : decode cX1_reachOf 36 = .ok (.iconst (-1), 1) := dk_2 (dk_at dksX1_reachOf_1 12 rfl rfl)
theorem dX1_reachOf_37 : decode cX1_reachOf 37 = .ok (.istore 5, 2) := dk_54 5 (dk_at dksX1_reachOf_1 13 rfl rfl)
theorem dX1_reachOf_39 : decode cX1_reachOf 39 = .ok (.iconst 0, 1) := dk_3 (dk_at dksX1_reachOf_1 15 rfl rfl)
theorem dX1_reachOf_40 : decode cX1_reachOf 40 = .ok (.istore 6, 2) := dk_54 6 (dk_at dksX1_reachOf_1 16 rfl rfl)
theorem dX1_reachOf_42 : decode cX1_reachOf 42 = .ok (.iload 6, 2) := dk_21 6 (dk_at dksX1_reachOf_1 18 rfl rfl)
theorem dX1_reachOf_44 : decode cX1_reachOf 44 = .ok (.aload_n 2, 1) := dk_44 (dk_at dksX1_reachOf_1 20 rfl rfl)
theorem dX1_reachOf_45 : decode cX1_reachOf 45 = .ok (.getfield 209, 3) := dk_180 0 209 (dk_at dksX1_reachOf_1 21 rfl rfl)
theorem dX1_reachOf_48 : decode cX1_reachOf 48 = .ok (.if_icmp .ge 25, 3) := dk_162 0 25 (dk_at dksX1_reachOf_2 0 rfl rfl)
theorem dX1_reachOf_51 : decode cX1_reachOf 51 = .ok (.bipush 20, 2) := dk_16 20 (dk_at dksX1_reachOf_2 3 rfl rfl)
theorem dX1_reachOf_53 : decode cX1_reachOf 53 = .ok (.iload 6, 2) := dk_21 6 (dk_at dksX1_reachOf_2 5 rfl rfl)
theorem dX1_reachOf_55 : decode cX1_reachOf 55 = .ok (.iconst 1, 1) := dk_4 (dk_at dksX1_reachOf_2 7 rfl rfl)
theorem dX1_reachOf_56 : decode cX1_reachOf 56 = .ok (.iadd, 1) := dk_96 (dk_at dksX1_reachOf_2 8 rfl rfl)
theorem dX1_reachOf_57 : decode cX1_reachOf 57 = .ok (.imul, 1) := dk_104 (dk_at dksX1_reachOf_2 9 rfl rfl)
theorem dX1_reachOf_58 : decode cX1_reachOf 58 = .ok (.iload 4, 2) := dk_21 4 (dk_at dksX1_reachOf_2 10 rfl rfl)
theorem dX1_reachOf_60 : decode cX1_reachOf 60 = .ok (.if_icmp .gt 7, 3) := dk_163 0 7 (dk_at dksX1_reachOf_2 12 rfl rfl)
theorem dX1_reachOf_63 : decode cX1_reachOf 63 = .ok (.iload 6, 2) := dk_21 6 (dk_at dksX1_reachOf_2 15 rfl rfl)
theorem dX1_reachOf_65 : decode cX1_reachOf 65 = .ok (.istore 5, 2) := dk_54 5 (dk_at dksX1_reachOf_2 17 rfl rfl)
theorem dX1_reachOf_67 : decode cX1_reachOf 67 = .ok (.iinc 6 1, 3) := dk_132 6 1 (dk_at dksX1_reachOf_2 19 rfl rfl)
theorem dX1_reachOf_70 : decode cX1_reachOf 70 = .ok (.goto (-28), 3) := dk_167 255 228 (dk_at dksX1_reachOf_3 0 rfl rfl)
theorem dX1_reachOf_73 : decode cX1_reachOf 73 = .ok (.iload 5, 2) := dk_21 5 (dk_at dksX1_reachOf_3 3 rfl rfl)
theorem dX1_reachOf_75 : decode cX1_reachOf 75 = .ok (.ireturn, 1) := dk_172 (dk_at dksX1_reachOf_3 5 rfl rfl)
abbrev cX1_headFor : ByteArray := prog_1_method_51_code
def yX1_headFor : MethodName := ⟨RX1, "headFor", "(I)LCityBrigade$Head;"⟩
def dkwX1_headFor_3 : List UInt8 := [180, 0, 42, 29, 50, 77, 132, 3, 1, 167, 255, 189, 44, 176]
abbrev dktX1_headFor_3 : List UInt8 := dkwX1_headFor_3 ++ []
def dkwX1_headFor_2 : List UInt8 := [180, 0, 42, 29, 50, 180, 1, 184, 46, 42, 180, 0, 24, 44, 180, 1, 184, 46, 162, 0, 10, 42]
abbrev dktX1_headFor_2 : List UInt8 := dkwX1_headFor_2 ++ dktX1_headFor_3
def dkwX1_headFor_1 : List UInt8 := [180, 0, 42, 29, 50, 180, 1, 184, 46, 18, 188, 162, 0, 40, 44, 198, 0, 29, 42, 180, 0, 24, 42]
abbrev dktX1_headFor_1 : List UInt8 := dkwX1_headFor_1 ++ dktX1_headFor_2
def dkwX1_headFor_0 : List UInt8 := [42, 27, 182, 0, 192, 1, 77, 3, 62, 29, 42, 180, 1, 103, 162, 0, 65, 42, 180, 0, 24, 42]
abbrev dktX1_headFor_0 : List UInt8 := dkwX1_headFor_0 ++ dktX1_headFor_1
theorem dksX1_headFor_0 : cX1_headFor.data.toList.drop 0 = dktX1_headFor_0 := by decide +kernel
theorem dksX1_headFor_1 : cX1_headFor.data.toList.drop 22 = dktX1_headFor_1 := dk_seg dksX1_headFor_0 22 rfl rfl
theorem dksX1_headFor_2 : cX1_headFor.data.toList.drop 45 = dktX1_headFor_2 := dk_seg dksX1_headFor_1 23 rfl rfl
theorem dksX1_headFor_3 : cX1_headFor.data.toList.drop 67 = dktX1_headFor_3 := dk_seg dksX1_headFor_2 22 rfl rfl
theorem dX1_headFor_0 : decode cX1_headFor 0 = .ok (.aload_n 0, 1) := dk_42 (dk_at dksX1_headFor_0 0 rfl rfl)
theorem dX1_headFor_1 : decode cX1_headFor 1 = .ok (.iload_n 1, 1) := dk_27 (dk_at dksX1_headFor_0 1 rfl rfl)
theorem dX1_headFor_2 : decode cX1_headFor 2 = .ok (.invokevirtual 192, 3) := dk_182 0 192 (dk_at dksX1_headFor_0 2 rfl rfl)
theorem dX1_headFor_5 : decode cX1_headFor 5 = .ok (.aconst_null, 1) := dk_1 (dk_at dksX1_headFor_0 5 rfl rfl)
theorem dX1_headFor_6 : decode cX1_headFor 6 = .ok (.astore_n 2, 1) := dk_77 (dk_at dksX1_headFor_0 6 rfl rfl)
theorem dX1_headFor_7 : decode cX1_headFor 7 = .ok (.iconst 0, 1) := dk_3 (dk_at dksX1_headFor_0 7 rfl rfl)
theorem dX1_headFor_8 : decode cX1_headFor 8 = .ok (.istore_n 3, 1) := dk_62 (dk_at dksX1_headFor_0 8 rfl rfl)
theorem dX1_headFor_9 : decode cX1_headFor 9 = .ok (.iload_n 3, 1) := dk_29 (dk_at dksX1_headFor_0 9 rfl rfl)
theorem dX1_headFor_10 : decode cX1_headFor 10 = .ok (.aload_n 0, 1) := dk_42 (dk_at dksX1_headFor_0 10 rfl rfl)
theorem dX1_headFor_11 : decode cX1_headFor 11 = .ok (.getfield 359, 3) := dk_180 1 103 (dk_at dksX1_headFor_0 11 rfl rfl)
theorem dX1_headFor_14 : decode cX1_headFor 14 = .ok (.if_icmp .ge 65, 3) := dk_162 0 65 (dk_at dksX1_headFor_0 14 rfl rfl)
theorem dX1_headFor_17 : decode cX1_headFor 17 = .ok (.aload_n 0, 1) := dk_42 (dk_at dksX1_headFor_0 17 rfl rfl)
theorem dX1_headFor_18 : decode cX1_headFor 18 = .ok (.getfield 24, 3) := dk_180 0 24 (dk_at dksX1_headFor_0 18 rfl rfl)
theorem dX1_headFor_21 : decode cX1_headFor 21 = .ok (.aload_n 0, 1) := dk_42 (dk_at dksX1_headFor_0 21 rfl rfl)
theorem dX1_headFor_22 : decode cX1_headFor 22 = .ok (.getfield 42, 3) := dk_180 0 42 (dk_at dksX1_headFor_1 0 rfl rfl)
theorem dX1_headFor_25 : decode cX1_headFor 25 = .ok (.iload_n 3, 1) := dk_29 (dk_at dksX1_headFor_1 3 rfl rfl)
theorem dX1_headFor_26 : decode cX1_headFor 26 = .ok (.aaload, 1) := dk_50 (dk_at dksX1_headFor_1 4 rfl rfl)
theorem dX1_headFor_27 : decode cX1_headFor 27 = .ok (.getfield 440, 3) := dk_180 1 184 (dk_at dksX1_headFor_1 5 rfl rfl)
theorem dX1_headFor_30 : decode cX1_headFor 30 = .ok (.iaload, 1) := dk_46 (dk_at dksX1_headFor_1 8 rfl rfl)
theorem dX1_headFor_31 : decode cX1_headFor 31 = .ok (.ldc 188, 2) := dk_18 188 (dk_at dksX1_headFor_1 9 rfl rfl)
theorem dX1_headFor_33 : decode cX1_headFor 33 = .ok (.if_icmp .ge 40, 3) := dk_162 0 40 (dk_at dksX1_headFor_1 11 rfl rfl)
theorem dX1_headFor_36 : decode cX1_headFor 36 = .ok (.aload_n 2, 1) := dk_44 (dk_at dksX1_headFor_1 14 rfl rfl)
theorem dX1_headFor_37 : decode cX1_headFor 37 = .ok (.ifnull 29, 3) := dk_198 0 29 (dk_at dksX1_headFor_1 15 rfl rfl)
theorem dX1_headFor_40 : decode cX1_headFor 40 = .ok (.aload_n 0, 1) := dk_42 (dk_at dksX1_headFor_1 18 rfl rfl)
theorem dX1_headFor_41 : decode cX1_headFor 41 = .ok (.getfield 24, 3) := dk_180 0 24 (dk_at dksX1_headFor_1 19 rfl rfl)
theorem dX1_headFor_44 : decode cX1_headFor 44 = .ok (.aload_n 0, 1) := dk_42 (dk_at dksX1_headFor_1 22 rfl rfl)
theorem dX1_headFor_45 : decode cX1_headFor 45 = .ok (.getfield 42, 3) := dk_180 0 42 (dk_at dksX1_headFor_2 0 rfl rfl)
theorem dX1_headFor_48 : decode cX1_headFor 48 = .ok (.iload_n 3, 1) := dk_29 (dk_at dksX1_headFor_2 3 rfl rfl)
theorem dX1_headFor_49 : decode cX1_headFor 49 = .ok (.aaload, 1) := dk_50 (dk_at dksX1_headFor_2 4 rfl rfl)
theorem dX1_headFor_50 : decode cX1_headFor 50 = .ok (.getfield 440, 3) := dk_180 1 184 (dk_at dksX1_headFor_2 5 rfl rfl)
theorem dX1_headFor_53 : decode cX1_headFor 53 = .ok (.iaload, 1) := dk_46 (dk_at dksX1_headFor_2 8 rfl rfl)
theorem dX1_headFor_54 : decode cX1_headFor 54 = .ok (.aload_n 0, 1) := dk_42 (dk_at dksX1_headFor_2 9 rfl rfl)
theorem dX1_headFor_55 : decode cX1_headFor 55 = .ok (.getfield 24, 3) := dk_180 0 24 (dk_at dksX1_headFor_2 10 rfl rfl)
theorem dX1_headFor_58 : decode cX1_headFor 58 = .ok (.aload_n 2, 1) := dk_44 (dk_at dksX1_headFor_2 13 rfl rfl)
theorem dX1_headFor_59 : decode cX1_headFor 59 = .ok (.getfield 440, 3) := dk_180 1 184 (dk_at dksX1_headFor_2 14 rfl rfl)
theorem dX1_headFor_62 : decode cX1_headFor 62 = .ok (.iaload, 1) := dk_46 (dk_at dksX1_headFor_2 17 rfl rfl)
theorem dX1_headFor_63 : decode cX1_headFor 63 = .ok (.if_icmp .ge 10, 3) := dk_162 0 10 (dk_at dksX1_headFor_2 18 rfl rfl)
theorem dX1_headFor_66 : decode cX1_headFor 66 = .ok (.aload_n 0, 1) := dk_42 (dk_at dksX1_headFor_2 21 rfl rfl)
theorem dX1_headFor_67 : decode cX1_headFor 67 = .ok (.getfield 42, 3) := dk_180 0 42 (dk_at dksX1_headFor_3 0 rfl rfl)
theorem dX1_headFor_70 : decode cX1_headFor 70 = .ok (.iload_n 3, 1) := dk_29 (dk_at dksX1_headFor_3 3 rfl rfl)
theorem dX1_headFor_71 : decode cX1_headFor 71 = .ok (.aaload, 1) := dk_50 (dk_at dksX1_headFor_3 4 rfl rfl)
theorem dX1_headFor_72 : decode cX1_headFor 72 = .ok (.astore_n 2, 1) := dk_77 (dk_at dksX1_headFor_3 5 rfl rfl)
theorem dX1_headFor_73 : decode cX1_headFor 73 = .ok (.iinc 3 1, 3) := dk_132 3 1 (dk_at dksX1_headFor_3 6 rfl rfl)
theorem dX1_headFor_76 : decode cX1_headFor 76 = .ok (.goto (-67), 3) := dk_167 255 189 (dk_at dksX1_headFor_3 9 rfl rfl)
theorem dX1_headFor_79 : decode cX1_headFor 79 = .ok (.aload_n 2, 1) := dk_44 (dk_at dksX1_headFor_3 12 rfl rfl)
theorem dX1_headFor_80 : decode cX1_headFor 80 = .ok (.areturn, 1) := dk_176 (dk_at dksX1_headFor_3 13 rfl rfl)
abbrev cX1_feed : ByteArray := prog_1_method_55_code
def yX1_feed : MethodName := ⟨RX1, "feed", "(IIIII)I"⟩
def dkwX1_feed_4 : List UInt8 := [4, 96, 181, 1, 202, 21, 8, 145, 84, 132, 7, 1, 167, 255, 208, 42, 180, 1, 202, 172]
abbrev dktX1_feed_4 : List UInt8 := dkwX1_feed_4 ++ []
def dkwX1_feed_3 : List UInt8 := [21, 5, 21, 7, 184, 1, 198, 54, 8, 21, 8, 153, 0, 22, 42, 180, 0, 62, 42, 89, 180, 1, 202, 90]
abbrev dktX1_feed_3 : List UInt8 := dkwX1_feed_3 ++ dktX1_feed_4
def dkwX1_feed_2 : List UInt8 := [17, 0, 200, 164, 0, 5, 2, 172, 3, 54, 7, 21, 7, 16, 20, 162, 0, 47, 27, 28, 29, 21, 4]
abbrev dktX1_feed_2 : List UInt8 := dkwX1_feed_2 ++ dktX1_feed_3
def dkwX1_feed_1 : List UInt8 := [184, 1, 198, 153, 0, 6, 132, 6, 1, 132, 7, 1, 167, 255, 228, 42, 180, 1, 202, 21, 6, 96]
abbrev dktX1_feed_1 : List UInt8 := dkwX1_feed_1 ++ dktX1_feed_2
def dkwX1_feed_0 : List UInt8 := [3, 54, 6, 3, 54, 7, 21, 7, 16, 20, 162, 0, 27, 27, 28, 29, 21, 4, 21, 5, 21, 7]
abbrev dktX1_feed_0 : List UInt8 := dkwX1_feed_0 ++ dktX1_feed_1
theorem dksX1_feed_0 : cX1_feed.data.toList.drop 0 = dktX1_feed_0 := by decide +kernel
theorem dksX1_feed_1 : cX1_feed.data.toList.drop 22 = dktX1_feed_1 := dk_seg dksX1_feed_0 22 rfl rfl
theorem dksX1_feed_2 : cX1_feed.data.toList.drop 44 = dktX1_feed_2 := dk_seg dksX1_feed_1 22 rfl rfl
theorem dksX1_feed_3 : cX1_feed.data.toList.drop 67 = dktX1_feed_3 := dk_seg dksX1_feed_2 23 rfl rfl
theorem dksX1_feed_4 : cX1_feed.data.toList.drop 91 = dktX1_feed_4 := dk_seg dksX1_feed_3 24 rfl rfl
theorem dX1_feed_0 : decode cX1_feed 0 = .ok (.iconst 0, 1) := dk_3 (dk_at dksX1_feed_0 0 rfl rfl)
theorem dX1_feed_1 : decode cX1_feed 1 = .ok (.istore 6, 2) := dk_54 6 (dk_at dksX1_feed_0 1 rfl rfl)
theorem dX1_feed_3 : decode cX1_feed 3 = .ok (.iconst 0, 1) := dk_3 (dk_at dksX1_feed_0 3 rfl rfl)
theorem dX1_feed_4 : decode cX1_feed 4 = .ok (.istore 7, 2) := dk_54 7 (dk_at dksX1_feed_0 4 rfl rfl)
theorem dX1_feed_6 : decode cX1_feed 6 = .ok (.iload 7, 2) := dk_21 7 (dk_at dksX1_feed_0 6 rfl rfl)
theorem dX1_feed_8 : decode cX1_feed 8 = .ok (.bipush 20, 2) := dk_16 20 (dk_at dksX1_feed_0 8 rfl rfl)
theorem dX1_feed_10 : decode cX1_feed 10 = .ok (.if_icmp .ge 27, 3) := dk_162 0 27 (dk_at dksX1_feed_0 10 rfl rfl)
theorem dX1_feed_13 : decode cX1_feed 13 = .ok (.iload_n 1, 1) := dk_27 (dk_at dksX1_feed_0 13 rfl rfl)
theorem dX1_feed_14 : decode cX1_feed 14 = .ok (.iload_n 2, 1) := dk_28 (dk_at dksX1_feed_0 14 rfl rfl)
theorem dX1_feed_15 : decode cX1_feed 15 = .ok (.iload_n 3, 1) := dk_29 (dk_at dksX1_feed_0 15 rfl rfl)
theorem dX1_feed_16 : decode cX1_feed 16 = .ok (.iload 4, 2) := dk_21 4 (dk_at dksX1_feed_0 16 rfl rfl)
theorem dX1_feed_18 : decode cX1_feed 18 = .ok (.iload 5, 2) := dk_21 5 (dk_at dksX1_feed_0 18 rfl rfl)
theorem dX1_feed_20 : decode cX1_feed 20 = .ok (.iload 7, 2) := dk_21 7 (dk_at dksX1_feed_0 20 rfl rfl)
theorem dX1_feed_22 : decode cX1_feed 22 = .ok (.invokestatic 454, 3) := dk_184 1 198 (dk_at dksX1_feed_1 0 rfl rfl)
theorem dX1_feed_25 : decode cX1_feed 25 = .ok (.ifCond .eq 6, 3) := dk_153 0 6 (dk_at dksX1_feed_1 3 rfl rfl)
theorem dX1_feed_28 : decode cX1_feed 28 = .ok (.iinc 6 1, 3) := dk_132 6 1 (dk_at dksX1_feed_1 6 rfl rfl)
theorem dX1_feed_31 : decode cX1_feed 31 = .ok (.iinc 7 1, 3) := dk_132 7 1 (dk_at dksX1_feed_1 9 rfl rfl)
theorem dX1_feed_34 : decode cX1_feed 34 = .ok (.goto (-28), 3) := dk_167 255 228 (dk_at dksX1_feed_1 12 rfl rfl)
theorem dX1_feed_37 : decode cX1_feed 37 = .ok (.aload_n 0, 1) := dk_42 (dk_at dksX1_feed_1 15 rfl rfl)
theorem dX1_feed_38 : decode cX1_feed 38 = .ok (.getfield 458, 3) := dk_180 1 202 (dk_at dksX1_feed_1 16 rfl rfl)
theorem dX1_feed_41 : decode cX1_feed 41 = .ok (.iload 6, 2) := dk_21 6 (dk_at dksX1_feed_1 19 rfl rfl)
theorem dX1_feed_43 : decode cX1_feed 43 = .ok (.iadd, 1) := dk_96 (dk_at dksX1_feed_1 21 rfl rfl)
theorem dX1_feed_44 : decode cX1_feed 44 = .ok (.sipush 200, 3) := dk_17 0 200 (dk_at dksX1_feed_2 0 rfl rfl)
theorem dX1_feed_47 : decode cX1_feed 47 = .ok (.if_icmp .le 5, 3) := dk_164 0 5 (dk_at dksX1_feed_2 3 rfl rfl)
theorem dX1_feed_50 : decode cX1_feed 50 = .ok (.iconst (-1), 1) := dk_2 (dk_at dksX1_feed_2 6 rfl rfl)
theorem dX1_feed_51 : decode cX1_feed 51 = .ok (.ireturn, 1) := dk_172 (dk_at dksX1_feed_2 7 rfl rfl)
theorem dX1_feed_52 : decode cX1_feed 52 = .ok (.iconst 0, 1) := dk_3 (dk_at dksX1_feed_2 8 rfl rfl)
theorem dX1_feed_53 : decode cX1_feed 53 = .ok (.istore 7, 2) := dk_54 7 (dk_at dksX1_feed_2 9 rfl rfl)
theorem dX1_feed_55 : decode cX1_feed 55 = .ok (.iload 7, 2) := dk_21 7 (dk_at dksX1_feed_2 11 rfl rfl)
theorem dX1_feed_57 : decode cX1_feed 57 = .ok (.bipush 20, 2) := dk_16 20 (dk_at dksX1_feed_2 13 rfl rfl)
theorem dX1_feed_59 : decode cX1_feed 59 = .ok (.if_icmp .ge 47, 3) := dk_162 0 47 (dk_at dksX1_feed_2 15 rfl rfl)
theorem dX1_feed_62 : decode cX1_feed 62 = .ok (.iload_n 1, 1) := dk_27 (dk_at dksX1_feed_2 18 rfl rfl)
theorem dX1_feed_63 : decode cX1_feed 63 = .ok (.iload_n 2, 1) := dk_28 (dk_at dksX1_feed_2 19 rfl rfl)
theorem dX1_feed_64 : decode cX1_feed 64 = .ok (.iload_n 3, 1) := dk_29 (dk_at dksX1_feed_2 20 rfl rfl)
theorem dX1_feed_65 : decode cX1_feed 65 = .ok (.iload 4, 2) := dk_21 4 (dk_at dksX1_feed_2 21 rfl rfl)
theorem dX1_feed_67 : decode cX1_feed 67 = .ok (.iload 5, 2) := dk_21 5 (dk_at dksX1_feed_3 0 rfl rfl)
theorem dX1_feed_69 : decode cX1_feed 69 = .ok (.iload 7, 2) := dk_21 7 (dk_at dksX1_feed_3 2 rfl rfl)
theorem dX1_feed_71 : decode cX1_feed 71 = .ok (.invokestatic 454, 3) := dk_184 1 198 (dk_at dksX1_feed_3 4 rfl rfl)
theorem dX1_feed_74 : decode cX1_feed 74 = .ok (.istore 8, 2) := dk_54 8 (dk_at dksX1_feed_3 7 rfl rfl)
theorem dX1_feed_76 : decode cX1_feed 76 = .ok (.iload 8, 2) := dk_21 8 (dk_at dksX1_feed_3 9 rfl rfl)
theorem dX1_feed_78 : decode cX1_feed 78 = .ok (.ifCond .eq 22, 3) := dk_153 0 22 (dk_at dksX1_feed_3 11 rfl rfl)
theorem dX1_feed_81 : decode cX1_feed 81 = .ok (.aload_n 0, 1) := dk_42 (dk_at dksX1_feed_3 14 rfl rfl)
theorem dX1_feed_82 : decode cX1_feed 82 = .ok (.getfield 62, 3) := dk_180 0 62 (dk_at dksX1_feed_3 15 rfl rfl)
theorem dX1_feed_85 : decode cX1_feed 85 = .ok (.aload_n 0, 1) := dk_42 (dk_at dksX1_feed_3 18 rfl rfl)
theorem dX1_feed_86 : decode cX1_feed 86 = .ok (.dup, 1) := dk_89 (dk_at dksX1_feed_3 19 rfl rfl)
theorem dX1_feed_87 : decode cX1_feed 87 = .ok (.getfield 458, 3) := dk_180 1 202 (dk_at dksX1_feed_3 20 rfl rfl)
theorem dX1_feed_90 : decode cX1_feed 90 = .ok (.dup_x1, 1) := dk_90 (dk_at dksX1_feed_3 23 rfl rfl)
theorem dX1_feed_91 : decode cX1_feed 91 = .ok (.iconst 1, 1) := dk_4 (dk_at dksX1_feed_4 0 rfl rfl)
theorem dX1_feed_92 : decode cX1_feed 92 = .ok (.iadd, 1) := dk_96 (dk_at dksX1_feed_4 1 rfl rfl)
theorem dX1_feed_93 : decode cX1_feed 93 = .ok (.putfield 458, 3) := dk_181 1 202 (dk_at dksX1_feed_4 2 rfl rfl)
theorem dX1_feed_96 : decode cX1_feed 96 = .ok (.iload 8, 2) := dk_21 8 (dk_at dksX1_feed_4 5 rfl rfl)
theorem dX1_feed_98 : decode cX1_feed 98 = .ok (.i2b, 1) := dk_145 (dk_at dksX1_feed_4 7 rfl rfl)
theorem dX1_feed_99 : decode cX1_feed 99 = .ok (.bastore, 1) := dk_84 (dk_at dksX1_feed_4 8 rfl rfl)
theorem dX1_feed_100 : decode cX1_feed 100 = .ok (.iinc 7 1, 3) := dk_132 7 1 (dk_at dksX1_feed_4 9 rfl rfl)
theorem dX1_feed_103 : decode cX1_feed 103 = .ok (.goto (-48), 3) := dk_167 255 208 (dk_at dksX1_feed_4 12 rfl rfl)
theorem dX1_feed_106 : decode cX1_feed 106 = .ok (.aload_n 0, 1) := dk_42 (dk_at dksX1_feed_4 15 rfl rfl)
theorem dX1_feed_107 : decode cX1_feed 107 = .ok (.getfield 458, 3) := dk_180 1 202 (dk_at dksX1_feed_4 16 rfl rfl)
theorem dX1_feed_110 : decode cX1_feed 110 = .ok (.ireturn, 1) := dk_172 (dk_at dksX1_feed_4 19 rfl rfl)
abbrev cX1_byteOf : ByteArray := prog_1_method_54_code
def yX1_byteOf : MethodName := ⟨RX1, "byteOf", "(IIIIII)I"⟩
def dkwX1_byteOf_2 : List UInt8 := [21, 6, 16, 24, 16, 8, 21, 5, 7, 112, 104, 100, 122, 17, 0, 255, 126, 172]
abbrev dktX1_byteOf_2 : List UInt8 := dkwX1_byteOf_2 ++ []
def dkwX1_byteOf_1 : List UInt8 := [16, 12, 162, 0, 7, 28, 167, 0, 16, 21, 5, 16, 16, 162, 0, 7, 29, 167, 0, 5, 21, 4, 54, 6]
abbrev dktX1_byteOf_1 : List UInt8 := dkwX1_byteOf_1 ++ dktX1_byteOf_2
def dkwX1_byteOf_0 : List UInt8 := [21, 5, 7, 162, 0, 7, 26, 167, 0, 38, 21, 5, 16, 8, 162, 0, 7, 27, 167, 0, 27, 21, 5]
abbrev dktX1_byteOf_0 : List UInt8 := dkwX1_byteOf_0 ++ dktX1_byteOf_1
theorem dksX1_byteOf_0 : cX1_byteOf.data.toList.drop 0 = dktX1_byteOf_0 := by decide +kernel
theorem dksX1_byteOf_1 : cX1_byteOf.data.toList.drop 23 = dktX1_byteOf_1 := dk_seg dksX1_byteOf_0 23 rfl rfl
theorem dksX1_byteOf_2 : cX1_byteOf.data.toList.drop 47 = dktX1_byteOf_2 := dk_seg dksX1_byteOf_1 24 rfl rfl
theorem dX1_byteOf_0 : decode cX1_byteOf 0 = .ok (.iload 5, 2) := dk_21 5 (dk_at dksX1_byteOf_0 0 rfl rfl)
theorem dX1_byteOf_2 : decode cX1_byteOf 2 = .ok (.iconst 4, 1) := dk_7 (dk_at dksX1_byteOf_0 2 rfl rfl)
theorem dX1_byteOf_3 : decode cX1_byteOf 3 = .ok (.if_icmp .ge 7, 3) := dk_162 0 7 (dk_at dksX1_byteOf_0 3 rfl rfl)
theorem dX1_byteOf_6 : decode cX1_byteOf 6 = .ok (.iload_n 0, 1) := dk_26 (dk_at dksX1_byteOf_0 6 rfl rfl)
theorem dX1_byteOf_7 : decode cX1_byteOf 7 = .ok (.goto 38, 3) := dk_167 0 38 (dk_at dksX1_byteOf_0 7 rfl rfl)
theorem dX1_byteOf_10 : decode cX1_byteOf 10 = .ok (.iload 5, 2) := dk_21 5 (dk_at dksX1_byteOf_0 10 rfl rfl)
theorem dX1_byteOf_12 : decode cX1_byteOf 12 = .ok (.bipush 8, 2) := dk_16 8 (dk_at dksX1_byteOf_0 12 rfl rfl)
theorem dX1_byteOf_14 : decode cX1_byteOf 14 = .ok (.if_icmp .ge 7, 3) := dk_162 0 7 (dk_at dksX1_byteOf_0 14 rfl rfl)
theorem dX1_byteOf_17 : decode cX1_byteOf 17 = .ok (.iload_n 1, 1) := dk_27 (dk_at dksX1_byteOf_0 17 rfl rfl)
theorem dX1_byteOf_18 : decode cX1_byteOf 18 = .ok (.goto 27, 3) := dk_167 0 27 (dk_at dksX1_byteOf_0 18 rfl rfl)
theorem dX1_byteOf_21 : decode cX1_byteOf 21 = .ok (.iload 5, 2) := dk_21 5 (dk_at dksX1_byteOf_0 21 rfl rfl)
theorem dX1_byteOf_23 : decode cX1_byteOf 23 = .ok (.bipush 12, 2) := dk_16 12 (dk_at dksX1_byteOf_1 0 rfl rfl)
theorem dX1_byteOf_25 : decode cX1_byteOf 25 = .ok (.if_icmp .ge 7, 3) := dk_162 0 7 (dk_at dksX1_byteOf_1 2 rfl rfl)
theorem dX1_byteOf_28 : decode cX1_byteOf 28 = .ok (.iload_n 2, 1) := dk_28 (dk_at dksX1_byteOf_1 5 rfl rfl)
theorem dX1_byteOf_29 : decode cX1_byteOf 29 = .ok (.goto 16, 3) := dk_167 0 16 (dk_at dksX1_byteOf_1 6 rfl rfl)
theorem dX1_byteOf_32 : decode cX1_byteOf 32 = .ok (.iload 5, 2) := dk_21 5 (dk_at dksX1_byteOf_1 9 rfl rfl)
theorem dX1_byteOf_34 : decode cX1_byteOf 34 = .ok (.bipush 16, 2) := dk_16 16 (dk_at dksX1_byteOf_1 11 rfl rfl)
theorem dX1_byteOf_36 : decode cX1_byteOf 36 = .ok (.if_icmp .ge 7, 3) := dk_162 0 7 (dk_at dksX1_byteOf_1 13 rfl rfl)
theorem dX1_byteOf_39 : decode cX1_byteOf 39 = .ok (.iload_n 3, 1) := dk_29 (dk_at dksX1_byteOf_1 16 rfl rfl)
theorem dX1_byteOf_40 : decode cX1_byteOf 40 = .ok (.goto 5, 3) := dk_167 0 5 (dk_at dksX1_byteOf_1 17 rfl rfl)
theorem dX1_byteOf_43 : decode cX1_byteOf 43 = .ok (.iload 4, 2) := dk_21 4 (dk_at dksX1_byteOf_1 20 rfl rfl)
theorem dX1_byteOf_45 : decode cX1_byteOf 45 = .ok (.istore 6, 2) := dk_54 6 (dk_at dksX1_byteOf_1 22 rfl rfl)
theorem dX1_byteOf_47 : decode cX1_byteOf 47 = .ok (.iload 6, 2) := dk_21 6 (dk_at dksX1_byteOf_2 0 rfl rfl)
theorem dX1_byteOf_49 : decode cX1_byteOf 49 = .ok (.bipush 24, 2) := dk_16 24 (dk_at dksX1_byteOf_2 2 rfl rfl)
theorem dX1_byteOf_51 : decode cX1_byteOf 51 = .ok (.bipush 8, 2) := dk_16 8 (dk_at dksX1_byteOf_2 4 rfl rfl)
theorem dX1_byteOf_53 : decode cX1_byteOf 53 = .ok (.iload 5, 2) := dk_21 5 (dk_at dksX1_byteOf_2 6 rfl rfl)
theorem dX1_byteOf_55 : decode cX1_byteOf 55 = .ok (.iconst 4, 1) := dk_7 (dk_at dksX1_byteOf_2 8 rfl rfl)
theorem dX1_byteOf_56 : decode cX1_byteOf 56 = .ok (.irem, 1) := dk_112 (dk_at dksX1_byteOf_2 9 rfl rfl)
theorem dX1_byteOf_57 : decode cX1_byteOf 57 = .ok (.imul, 1) := dk_104 (dk_at dksX1_byteOf_2 10 rfl rfl)
theorem dX1_byteOf_58 : decode cX1_byteOf 58 = .ok (.isub, 1) := dk_100 (dk_at dksX1_byteOf_2 11 rfl rfl)
theorem dX1_byteOf_59 : decode cX1_byteOf 59 = .ok (.ishr, 1) := dk_122 (dk_at dksX1_byteOf_2 12 rfl rfl)
theorem dX1_byteOf_60 : decode cX1_byteOf 60 = .ok (.sipush 255, 3) := dk_17 0 255 (dk_at dksX1_byteOf_2 13 rfl rfl)
theorem dX1_byteOf_63 : decode cX1_byteOf 63 = .ok (.iand, 1) := dk_126 (dk_at dksX1_byteOf_2 16 rfl rfl)
theorem dX1_byteOf_64 : decode cX1_byteOf 64 = .ok (.ireturn, 1) := dk_172 (dk_at dksX1_byteOf_2 17 rfl rfl)
abbrev cX1_end : ByteArray := prog_1_method_56_code
def yX1_end : MethodName := ⟨RX1, "end", "(I)Z"⟩
def dkwX1_end_0 : List UInt8 := [27, 155, 0, 11, 27, 42, 180, 1, 202, 164, 0, 5, 3, 172, 42, 27, 181, 1, 202, 4, 172]
abbrev dktX1_end_0 : List UInt8 := dkwX1_end_0 ++ []
theorem dksX1_end_0 : cX1_end.data.toList.drop 0 = dktX1_end_0 := by decide +kernel
theorem dX1_end_0 : decode cX1_end 0 = .ok (.iload_n 1, 1) := dk_27 (dk_at dksX1_end_0 0 rfl rfl)
theorem dX1_end_1 : decode cX1_end 1 = .ok (.ifCond .lt 11, 3) := dk_155 0 11 (dk_at dksX1_end_0 1 rfl rfl)
theorem dX1_end_4 : decode cX1_end 4 = .ok (.iload_n 1, 1) := dk_27 (dk_at dksX1_end_0 4 rfl rfl)
theorem dX1_end_5 : decode cX1_end 5 = .ok (.aload_n 0, 1) := dk_42 (dk_at dksX1_end_0 5 rfl rfl)
theorem dX1_end_6 : decode cX1_end 6 = .ok (.getfield 458, 3) := dk_180 1 202 (dk_at dksX1_end_0 6 rfl rfl)
theorem dX1_end_9 : decode cX1_end 9 = .ok (.if_icmp .le 5, 3) := dk_164 0 5 (dk_at dksX1_end_0 9 rfl rfl)
theorem dX1_end_12 : decode cX1_end 12 = .ok (.iconst 0, 1) := dk_3 (dk_at dksX1_end_0 12 rfl rfl)
theorem dX1_end_13 : decode cX1_end 13 = .ok (.ireturn, 1) := dk_172 (dk_at dksX1_end_0 13 rfl rfl)
theorem dX1_end_14 : decode cX1_end 14 = .ok (.aload_n 0, 1) := dk_42 (dk_at dksX1_end_0 14 rfl rfl)
theorem dX1_end_15 : decode cX1_end 15 = .ok (.iload_n 1, 1) := dk_27 (dk_at dksX1_end_0 15 rfl rfl)
theorem dX1_end_16 : decode cX1_end 16 = .ok (.putfield 458, 3) := dk_181 1 202 (dk_at dksX1_end_0 16 rfl rfl)
theorem dX1_end_19 : decode cX1_end 19 = .ok (.iconst 1, 1) := dk_4 (dk_at dksX1_end_0 19 rfl rfl)
theorem dX1_end_20 : decode cX1_end 20 = .ok (.ireturn, 1) := dk_172 (dk_at dksX1_end_0 20 rfl rfl)
abbrev cX1_fault : ByteArray := prog_1_method_75_code
def yX1_fault : MethodName := ⟨RX1, "fault", "(I)I"⟩
def dkwX1_fault_1 : List UInt8 := [167, 0, 9, 42, 27, 182, 2, 64, 87, 2, 172, 77, 42, 180, 1, 205, 172]
abbrev dktX1_fault_1 : List UInt8 := dkwX1_fault_1 ++ []
def dkwX1_fault_0 : List UInt8 := [27, 3, 5, 184, 0, 3, 154, 0, 6, 16, 254, 172, 27, 4, 160, 0, 11, 42, 182, 2, 61, 87]
abbrev dktX1_fault_0 : List UInt8 := dkwX1_fault_0 ++ dktX1_fault_1
theorem dksX1_fault_0 : cX1_fault.data.toList.drop 0 = dktX1_fault_0 := by decide +kernel
theorem dksX1_fault_1 : cX1_fault.data.toList.drop 22 = dktX1_fault_1 := dk_seg dksX1_fault_0 22 rfl rfl
theorem dX1_fault_0 : decode cX1_fault 0 = .ok (.iload_n 1, 1) := dk_27 (dk_at dksX1_fault_0 0 rfl rfl)
theorem dX1_fault_1 : decode cX1_fault 1 = .ok (.iconst 0, 1) := dk_3 (dk_at dksX1_fault_0 1 rfl rfl)
theorem dX1_fault_2 : decode cX1_fault 2 = .ok (.iconst 2, 1) := dk_5 (dk_at dksX1_fault_0 2 rfl rfl)
theorem dX1_fault_3 : decode cX1_fault 3 = .ok (.invokestatic 3, 3) := dk_184 0 3 (dk_at dksX1_fault_0 3 rfl rfl)
theorem dX1_fault_6 : decode cX1_fault 6 = .ok (.ifCond .ne 6, 3) := dk_154 0 6 (dk_at dksX1_fault_0 6 rfl rfl)
theorem dX1_fault_9 : decode cX1_fault 9 = .ok (.bipush (-2), 2) := dk_16 254 (dk_at dksX1_fault_0 9 rfl rfl)
theorem dX1_fault_11 : decode cX1_fault 11 = .ok (.ireturn, 1) := dk_172 (dk_at dksX1_fault_0 11 rfl rfl)
theorem dX1_fault_12 : decode cX1_fault 12 = .ok (.iload_n 1, 1) := dk_27 (dk_at dksX1_fault_0 12 rfl rfl)
theorem dX1_fault_13 : decode cX1_fault 13 = .ok (.iconst 1, 1) := dk_4 (dk_at dksX1_fault_0 13 rfl rfl)
theorem dX1_fault_14 : decode cX1_fault 14 = .ok (.if_icmp .ne 11, 3) := dk_160 0 11 (dk_at dksX1_fault_0 14 rfl rfl)
theorem dX1_fault_17 : decode cX1_fault 17 = .ok (.aload_n 0, 1) := dk_42 (dk_at dksX1_fault_0 17 rfl rfl)
theorem dX1_fault_18 : decode cX1_fault 18 = .ok (.invokevirtual 573, 3) := dk_182 2 61 (dk_at dksX1_fault_0 18 rfl rfl)
theorem dX1_fault_21 : decode cX1_fault 21 = .ok (.pop, 1) := dk_87 (dk_at dksX1_fault_0 21 rfl rfl)
theorem dX1_fault_22 : decode cX1_fault 22 = .ok (.goto 9, 3) := dk_167 0 9 (dk_at dksX1_fault_1 0 rfl rfl)
theorem dX1_fault_25 : decode cX1_fault 25 = .ok (.aload_n 0, 1) := dk_42 (dk_at dksX1_fault_1 3 rfl rfl)
theorem dX1_fault_26 : decode cX1_fault 26 = .ok (.iload_n 1, 1) := dk_27 (dk_at dksX1_fault_1 4 rfl rfl)
theorem dX1_fault_27 : decode cX1_fault 27 = .ok (.invokevirtual 576, 3) := dk_182 2 64 (dk_at dksX1_fault_1 5 rfl rfl)
theorem dX1_fault_30 : decode cX1_fault 30 = .ok (.pop, 1) := dk_87 (dk_at dksX1_fault_1 8 rfl rfl)
theorem dX1_fault_31 : decode cX1_fault 31 = .ok (.iconst (-1), 1) := dk_2 (dk_at dksX1_fault_1 9 rfl rfl)
theorem dX1_fault_32 : decode cX1_fault 32 = .ok (.ireturn, 1) := dk_172 (dk_at dksX1_fault_1 10 rfl rfl)
theorem dX1_fault_33 : decode cX1_fault 33 = .ok (.astore_n 2, 1) := dk_77 (dk_at dksX1_fault_1 11 rfl rfl)
theorem dX1_fault_34 : decode cX1_fault 34 = .ok (.aload_n 0, 1) := dk_42 (dk_at dksX1_fault_1 12 rfl rfl)
theorem dX1_fault_35 : decode cX1_fault 35 = .ok (.getfield 461, 3) := dk_180 1 205 (dk_at dksX1_fault_1 13 rfl rfl)
theorem dX1_fault_38 : decode cX1_fault 38 = .ok (.ireturn, 1) := dk_172 (dk_at dksX1_fault_1 16 rfl rfl)
abbrev cX1_alone : ByteArray := prog_1_method_74_code
def yX1_alone : MethodName := ⟨RX1, "alone", "()LCityBrigade$Test;"⟩
def dkwX1_alone_1 : List UInt8 := [182, 1, 220, 43, 176]
abbrev dktX1_alone_1 : List UInt8 := dkwX1_alone_1 ++ []
def dkwX1_alone_0 : List UInt8 := [42, 4, 182, 2, 50, 42, 182, 2, 23, 76, 42, 42, 182, 1, 214, 2, 160, 0, 7, 4, 167, 0, 4, 3]
abbrev dktX1_alone_0 : List UInt8 := dkwX1_alone_0 ++ dktX1_alone_1
theorem dksX1_alone_0 : cX1_alone.data.toList.drop 0 = dktX1_alone_0 := by decide +kernel
theorem dksX1_alone_1 : cX1_alone.data.toList.drop 24 = dktX1_alone_1 := dk_seg dksX1_alone_0 24 rfl rfl
theorem dX1_alone_0 : decode cX1_alone 0 = .ok (.aload_n 0, 1) := dk_42 (dk_at dksX1_alone_0 0 rfl rfl)
theorem dX1_alone_1 : decode cX1_alone 1 = .ok (.iconst 1, 1) := dk_4 (dk_at dksX1_alone_0 1 rfl rfl)
theorem dX1_alone_2 : decode cX1_alone 2 = .ok (.invokevirtual 562, 3) := dk_182 2 50 (dk_at dksX1_alone_0 2 rfl rfl)
theorem dX1_alone_5 : decode cX1_alone 5 = .ok (.aload_n 0, 1) := dk_42 (dk_at dksX1_alone_0 5 rfl rfl)
theorem dX1_alone_6 : decode cX1_alone 6 = .ok (.invokevirtual 535, 3) := dk_182 2 23 (dk_at dksX1_alone_0 6 rfl rfl)
theorem dX1_alone_9 : decode cX1_alone 9 = .ok (.astore_n 1, 1) := dk_76 (dk_at dksX1_alone_0 9 rfl rfl)
theorem dX1_alone_10 : decode cX1_alone 10 = .ok (.aload_n 0, 1) := dk_42 (dk_at dksX1_alone_0 10 rfl rfl)
theorem dX1_alone_11 : decode cX1_alone 11 = .ok (.aload_n 0, 1) := dk_42 (dk_at dksX1_alone_0 11 rfl rfl)
theorem dX1_alone_12 : decode cX1_alone 12 = .ok (.invokevirtual 470, 3) := dk_182 1 214 (dk_at dksX1_alone_0 12 rfl rfl)
theorem dX1_alone_15 : decode cX1_alone 15 = .ok (.iconst (-1), 1) := dk_2 (dk_at dksX1_alone_0 15 rfl rfl)
theorem dX1_alone_16 : decode cX1_alone 16 = .ok (.if_icmp .ne 7, 3) := dk_160 0 7 (dk_at dksX1_alone_0 16 rfl rfl)
theorem dX1_alone_19 : decode cX1_alone 19 = .ok (.iconst 1, 1) := dk_4 (dk_at dksX1_alone_0 19 rfl rfl)
theorem dX1_alone_20 : decode cX1_alone 20 = .ok (.goto 4, 3) := dk_167 0 4 (dk_at dksX1_alone_0 20 rfl rfl)
theorem dX1_alone_23 : decode cX1_alone 23 = .ok (.iconst 0, 1) := dk_3 (dk_at dksX1_alone_0 23 rfl rfl)
theorem dX1_alone_24 : decode cX1_alone 24 = .ok (.invokevirtual 476, 3) := dk_182 1 220 (dk_at dksX1_alone_1 0 rfl rfl)
theorem dX1_alone_27 : decode cX1_alone 27 = .ok (.aload_n 1, 1) := dk_43 (dk_at dksX1_alone_1 3 rfl rfl)
theorem dX1_alone_28 : decode cX1_alone 28 = .ok (.areturn, 1) := dk_176 (dk_at dksX1_alone_1 4 rfl rfl)
abbrev cX1_begin : ByteArray := prog_1_method_72_code
def yX1_begin : MethodName := ⟨RX1, "begin", "(I)V"⟩
def dkwX1_begin_0 : List UInt8 := [42, 27, 181, 1, 237, 42, 3, 181, 1, 205, 42, 3, 181, 1, 224, 177]
abbrev dktX1_begin_0 : List UInt8 := dkwX1_begin_0 ++ []
theorem dksX1_begin_0 : cX1_begin.data.toList.drop 0 = dktX1_begin_0 := by decide +kernel
theorem dX1_begin_0 : decode cX1_begin 0 = .ok (.aload_n 0, 1) := dk_42 (dk_at dksX1_begin_0 0 rfl rfl)
theorem dX1_begin_1 : decode cX1_begin 1 = .ok (.iload_n 1, 1) := dk_27 (dk_at dksX1_begin_0 1 rfl rfl)
theorem dX1_begin_2 : decode cX1_begin 2 = .ok (.putfield 493, 3) := dk_181 1 237 (dk_at dksX1_begin_0 2 rfl rfl)
theorem dX1_begin_5 : decode cX1_begin 5 = .ok (.aload_n 0, 1) := dk_42 (dk_at dksX1_begin_0 5 rfl rfl)
theorem dX1_begin_6 : decode cX1_begin 6 = .ok (.iconst 0, 1) := dk_3 (dk_at dksX1_begin_0 6 rfl rfl)
theorem dX1_begin_7 : decode cX1_begin 7 = .ok (.putfield 461, 3) := dk_181 1 205 (dk_at dksX1_begin_0 7 rfl rfl)
theorem dX1_begin_10 : decode cX1_begin 10 = .ok (.aload_n 0, 1) := dk_42 (dk_at dksX1_begin_0 10 rfl rfl)
theorem dX1_begin_11 : decode cX1_begin 11 = .ok (.iconst 0, 1) := dk_3 (dk_at dksX1_begin_0 11 rfl rfl)
theorem dX1_begin_12 : decode cX1_begin 12 = .ok (.putfield 480, 3) := dk_181 1 224 (dk_at dksX1_begin_0 12 rfl rfl)
theorem dX1_begin_15 : decode cX1_begin 15 = .ok (.return_, 1) := dk_177 (dk_at dksX1_begin_0 15 rfl rfl)
abbrev cX1_condition : ByteArray := prog_1_method_69_code
def yX1_condition : MethodName := ⟨RX1, "condition", "()LCityBrigade$Test;"⟩
def dkwX1_condition_1 : List UInt8 := [187, 2, 29, 89, 3, 43, 42, 182, 2, 34, 183, 2, 31, 76, 167, 255, 223, 43, 176]
abbrev dktX1_condition_1 : List UInt8 := dkwX1_condition_1 ++ []
def dkwX1_condition_0 : List UInt8 := [42, 182, 2, 34, 76, 42, 182, 1, 214, 16, 124, 160, 0, 30, 42, 89, 180, 1, 205, 4, 96, 181, 1, 205]
abbrev dktX1_condition_0 : List UInt8 := dkwX1_condition_0 ++ dktX1_condition_1
theorem dksX1_condition_0 : cX1_condition.data.toList.drop 0 = dktX1_condition_0 := by decide +kernel
theorem dksX1_condition_1 : cX1_condition.data.toList.drop 24 = dktX1_condition_1 := dk_seg dksX1_condition_0 24 rfl rfl
theorem dX1_condition_0 : decode cX1_condition 0 = .ok (.aload_n 0, 1) := dk_42 (dk_at dksX1_condition_0 0 rfl rfl)
theorem dX1_condition_1 : decode cX1_condition 1 = .ok (.invokevirtual 546, 3) := dk_182 2 34 (dk_at dksX1_condition_0 1 rfl rfl)
theorem dX1_condition_4 : decode cX1_condition 4 = .ok (.astore_n 1, 1) := dk_76 (dk_at dksX1_condition_0 4 rfl rfl)
theorem dX1_condition_5 : decode cX1_condition 5 = .ok (.aload_n 0, 1) := dk_42 (dk_at dksX1_condition_0 5 rfl rfl)
theorem dX1_condition_6 : decode cX1_condition 6 = .ok (.invokevirtual 470, 3) := dk_182 1 214 (dk_at dksX1_condition_0 6 rfl rfl)
theorem dX1_condition_9 : decode cX1_condition 9 = .ok (.bipush 124, 2) := dk_16 124 (dk_at dksX1_condition_0 9 rfl rfl)
theorem dX1_condition_11 : decode cX1_condition 11 = .ok (.if_icmp .ne 30, 3) := dk_160 0 30 (dk_at dksX1_condition_0 11 rfl rfl)
theorem dX1_condition_14 : decode cX1_condition 14 = .ok (.aload_n 0, 1) := dk_42 (dk_at dksX1_condition_0 14 rfl rfl)
theorem dX1_condition_15 : decode cX1_condition 15 = .ok (.dup, 1) := dk_89 (dk_at dksX1_condition_0 15 rfl rfl)
theorem dX1_condition_16 : decode cX1_condition 16 = .ok (.getfield 461, 3) := dk_180 1 205 (dk_at dksX1_condition_0 16 rfl rfl)
theorem dX1_condition_19 : decode cX1_condition 19 = .ok (.iconst 1, 1) := dk_4 (dk_at dksX1_condition_0 19 rfl rfl)
theorem dX1_condition_20 : decode cX1_condition 20 = .ok (.iadd, 1) := dk_96 (dk_at dksX1_condition_0 20 rfl rfl)
theorem dX1_condition_21 : decode cX1_condition 21 = .ok (.putfield 461, 3) := dk_181 1 205 (dk_at dksX1_condition_0 21 rfl rfl)
theorem dX1_condition_24 : decode cX1_condition 24 = .ok (.new 541, 3) := dk_187 2 29 (dk_at dksX1_condition_1 0 rfl rfl)
theorem dX1_condition_27 : decode cX1_condition 27 = .ok (.dup, 1) := dk_89 (dk_at dksX1_condition_1 3 rfl rfl)
theorem dX1_condition_28 : decode cX1_condition 28 = .ok (.iconst 0, 1) := dk_3 (dk_at dksX1_condition_1 4 rfl rfl)
theorem dX1_condition_29 : decode cX1_condition 29 = .ok (.aload_n 1, 1) := dk_43 (dk_at dksX1_condition_1 5 rfl rfl)
theorem dX1_condition_30 : decode cX1_condition 30 = .ok (.aload_n 0, 1) := dk_42 (dk_at dksX1_condition_1 6 rfl rfl)
theorem dX1_condition_31 : decode cX1_condition 31 = .ok (.invokevirtual 546, 3) := dk_182 2 34 (dk_at dksX1_condition_1 7 rfl rfl)
theorem dX1_condition_34 : decode cX1_condition 34 = .ok (.invokespecial 543, 3) := dk_183 2 31 (dk_at dksX1_condition_1 10 rfl rfl)
theorem dX1_condition_37 : decode cX1_condition 37 = .ok (.astore_n 1, 1) := dk_76 (dk_at dksX1_condition_1 13 rfl rfl)
theorem dX1_condition_38 : decode cX1_condition 38 = .ok (.goto (-33), 3) := dk_167 255 223 (dk_at dksX1_condition_1 14 rfl rfl)
theorem dX1_condition_41 : decode cX1_condition 41 = .ok (.aload_n 1, 1) := dk_43 (dk_at dksX1_condition_1 17 rfl rfl)
theorem dX1_condition_42 : decode cX1_condition 42 = .ok (.areturn, 1) := dk_176 (dk_at dksX1_condition_1 18 rfl rfl)
abbrev cX1_part : ByteArray := prog_1_method_68_code
def yX1_part : MethodName := ⟨RX1, "part", "()LCityBrigade$Test;"⟩
def dkwX1_part_1 : List UInt8 := [187, 2, 29, 89, 4, 43, 42, 182, 2, 14, 183, 2, 31, 76, 167, 255, 223, 43, 176]
abbrev dktX1_part_1 : List UInt8 := dkwX1_part_1 ++ []
def dkwX1_part_0 : List UInt8 := [42, 182, 2, 14, 76, 42, 182, 1, 214, 16, 38, 160, 0, 30, 42, 89, 180, 1, 205, 4, 96, 181, 1, 205]
abbrev dktX1_part_0 : List UInt8 := dkwX1_part_0 ++ dktX1_part_1
theorem dksX1_part_0 : cX1_part.data.toList.drop 0 = dktX1_part_0 := by decide +kernel
theorem dksX1_part_1 : cX1_part.data.toList.drop 24 = dktX1_part_1 := dk_seg dksX1_part_0 24 rfl rfl
theorem dX1_part_0 : decode cX1_part 0 = .ok (.aload_n 0, 1) := dk_42 (dk_at dksX1_part_0 0 rfl rfl)
theorem dX1_part_1 : decode cX1_part 1 = .ok (.invokevirtual 526, 3) := dk_182 2 14 (dk_at dksX1_part_0 1 rfl rfl)
theorem dX1_part_4 : decode cX1_part 4 = .ok (.astore_n 1, 1) := dk_76 (dk_at dksX1_part_0 4 rfl rfl)
theorem dX1_part_5 : decode cX1_part 5 = .ok (.aload_n 0, 1) := dk_42 (dk_at dksX1_part_0 5 rfl rfl)
theorem dX1_part_6 : decode cX1_part 6 = .ok (.invokevirtual 470, 3) := dk_182 1 214 (dk_at dksX1_part_0 6 rfl rfl)
theorem dX1_part_9 : decode cX1_part 9 = .ok (.bipush 38, 2) := dk_16 38 (dk_at dksX1_part_0 9 rfl rfl)
theorem dX1_part_11 : decode cX1_part 11 = .ok (.if_icmp .ne 30, 3) := dk_160 0 30 (dk_at dksX1_part_0 11 rfl rfl)
theorem dX1_part_14 : decode cX1_part 14 = .ok (.aload_n 0, 1) := dk_42 (dk_at dksX1_part_0 14 rfl rfl)
theorem dX1_part_15 : decode cX1_part 15 = .ok (.dup, 1) := dk_89 (dk_at dksX1_part_0 15 rfl rfl)
theorem dX1_part_16 : decode cX1_part 16 = .ok (.getfield 461, 3) := dk_180 1 205 (dk_at dksX1_part_0 16 rfl rfl)
theorem dX1_part_19 : decode cX1_part 19 = .ok (.iconst 1, 1) := dk_4 (dk_at dksX1_part_0 19 rfl rfl)
theorem dX1_part_20 : decode cX1_part 20 = .ok (.iadd, 1) := dk_96 (dk_at dksX1_part_0 20 rfl rfl)
theorem dX1_part_21 : decode cX1_part 21 = .ok (.putfield 461, 3) := dk_181 1 205 (dk_at dksX1_part_0 21 rfl rfl)
theorem dX1_part_24 : decode cX1_part 24 = .ok (.new 541, 3) := dk_187 2 29 (dk_at dksX1_part_1 0 rfl rfl)
theorem dX1_part_27 : decode cX1_part 27 = .ok (.dup, 1) := dk_89 (dk_at dksX1_part_1 3 rfl rfl)
theorem dX1_part_28 : decode cX1_part 28 = .ok (.iconst 1, 1) := dk_4 (dk_at dksX1_part_1 4 rfl rfl)
theorem dX1_part_29 : decode cX1_part 29 = .ok (.aload_n 1, 1) := dk_43 (dk_at dksX1_part_1 5 rfl rfl)
theorem dX1_part_30 : decode cX1_part 30 = .ok (.aload_n 0, 1) := dk_42 (dk_at dksX1_part_1 6 rfl rfl)
theorem dX1_part_31 : decode cX1_part 31 = .ok (.invokevirtual 526, 3) := dk_182 2 14 (dk_at dksX1_part_1 7 rfl rfl)
theorem dX1_part_34 : decode cX1_part 34 = .ok (.invokespecial 543, 3) := dk_183 2 31 (dk_at dksX1_part_1 10 rfl rfl)
theorem dX1_part_37 : decode cX1_part 37 = .ok (.astore_n 1, 1) := dk_76 (dk_at dksX1_part_1 13 rfl rfl)
theorem dX1_part_38 : decode cX1_part 38 = .ok (.goto (-33), 3) := dk_167 255 223 (dk_at dksX1_part_1 14 rfl rfl)
theorem dX1_part_41 : decode cX1_part 41 = .ok (.aload_n 1, 1) := dk_43 (dk_at dksX1_part_1 17 rfl rfl)
theorem dX1_part_42 : decode cX1_part 42 = .ok (.areturn, 1) := dk_176 (dk_at dksX1_part_1 18 rfl rfl)
abbrev cX1_unit : ByteArray := prog_1_method_67_code
def yX1_unit : MethodName := ⟨RX1, "unit", "()LCityBrigade$Test;"⟩
def dkwX1_unit_5 : List UInt8 := [182, 1, 230, 183, 2, 28, 176]
abbrev dktX1_unit_5 : List UInt8 := dkwX1_unit_5 ++ []
def dkwX1_unit_4 : List UInt8 := [167, 0, 4, 3, 182, 1, 220, 42, 89, 180, 1, 205, 4, 96, 181, 1, 205, 187, 2, 26, 89, 29, 44, 42]
abbrev dktX1_unit_4 : List UInt8 := dkwX1_unit_4 ++ dktX1_unit_5
def dkwX1_unit_3 : List UInt8 := [182, 1, 214, 62, 42, 29, 16, 61, 159, 0, 15, 29, 16, 60, 159, 0, 9, 29, 16, 62, 160, 0, 7, 4]
abbrev dktX1_unit_3 : List UInt8 := dkwX1_unit_3 ++ dktX1_unit_4
def dkwX1_unit_2 : List UInt8 := [182, 1, 227, 42, 182, 2, 23, 77, 42, 16, 41, 182, 1, 234, 44, 176, 42, 182, 1, 230, 77, 42]
abbrev dktX1_unit_2 : List UInt8 := dkwX1_unit_2 ++ dktX1_unit_3
def dkwX1_unit_1 : List UInt8 := [180, 1, 224, 4, 100, 181, 1, 224, 187, 2, 18, 89, 44, 183, 2, 20, 176, 27, 16, 40, 160, 0, 20, 42]
abbrev dktX1_unit_1 : List UInt8 := dkwX1_unit_1 ++ dktX1_unit_2
def dkwX1_unit_0 : List UInt8 := [42, 182, 1, 214, 60, 27, 16, 33, 160, 0, 31, 42, 182, 1, 227, 42, 182, 2, 14, 77, 42, 89]
abbrev dktX1_unit_0 : List UInt8 := dkwX1_unit_0 ++ dktX1_unit_1
theorem dksX1_unit_0 : cX1_unit.data.toList.drop 0 = dktX1_unit_0 := by decide +kernel
theorem dksX1_unit_1 : cX1_unit.data.toList.drop 22 = dktX1_unit_1 := dk_seg dksX1_unit_0 22 rfl rfl
theorem dksX1_unit_2 : cX1_unit.data.toList.drop 46 = dktX1_unit_2 := dk_seg dksX1_unit_1 24 rfl rfl
theorem dksX1_unit_3 : cX1_unit.data.toList.drop 68 = dktX1_unit_3 := dk_seg dksX1_unit_2 22 rfl rfl
theorem dksX1_unit_4 : cX1_unit.data.toList.drop 92 = dktX1_unit_4 := dk_seg dksX1_unit_3 24 rfl rfl
theorem dksX1_unit_5 : cX1_unit.data.toList.drop 116 = dktX1_unit_5 := dk_seg dksX1_unit_4 24 rfl rfl
theorem dX1_unit_0 : decode cX1_unit 0 = .ok (.aload_n 0, 1) := dk_42 (dk_at dksX1_unit_0 0 rfl rfl)
theorem dX1_unit_1 : decode cX1_unit 1 = .ok (.invokevirtual 470, 3) := dk_182 1 214 (dk_at dksX1_unit_0 1 rfl rfl)
theorem dX1_unit_4 : decode cX1_unit 4 = .ok (.istore_n 1, 1) := dk_60 (dk_at dksX1_unit_0 4 rfl rfl)
theorem dX1_unit_5 : decode cX1_unit 5 = .ok (.iload_n 1, 1) := dk_27 (dk_at dksX1_unit_0 5 rfl rfl)
theorem dX1_unit_6 : decode cX1_unit 6 = .ok (.bipush 33, 2) := dk_16 33 (dk_at dksX1_unit_0 6 rfl rfl)
theorem dX1_unit_8 : decode cX1_unit 8 = .ok (.if_icmp .ne 31, 3) := dk_160 0 31 (dk_at dksX1_unit_0 8 rfl rfl)
theorem dX1_unit_11 : decode cX1_unit 11 = .ok (.aload_n 0, 1) := dk_42 (dk_at dksX1_unit_0 11 rfl rfl)
theorem dX1_unit_12 : decode cX1_unit 12 = .ok (.invokevirtual 483, 3) := dk_182 1 227 (dk_at dksX1_unit_0 12 rfl rfl)
theorem dX1_unit_15 : decode cX1_unit 15 = .ok (.aload_n 0, 1) := dk_42 (dk_at dksX1_unit_0 15 rfl rfl)
theorem dX1_unit_16 : decode cX1_unit 16 = .ok (.invokevirtual 526, 3) := dk_182 2 14 (dk_at dksX1_unit_0 16 rfl rfl)
theorem dX1_unit_19 : decode cX1_unit 19 = .ok (.astore_n 2, 1) := dk_77 (dk_at dksX1_unit_0 19 rfl rfl)
theorem dX1_unit_20 : decode cX1_unit 20 = .ok (.aload_n 0, 1) := dk_42 (dk_at dksX1_unit_0 20 rfl rfl)
theorem dX1_unit_21 : decode cX1_unit 21 = .ok (.dup, 1) := dk_89 (dk_at dksX1_unit_0 21 rfl rfl)
theorem dX1_unit_22 : decode cX1_unit 22 = .ok (.getfield 480, 3) := dk_180 1 224 (dk_at dksX1_unit_1 0 rfl rfl)
theorem dX1_unit_25 : decode cX1_unit 25 = .ok (.iconst 1, 1) := dk_4 (dk_at dksX1_unit_1 3 rfl rfl)
theorem dX1_unit_26 : decode cX1_unit 26 = .ok (.isub, 1) := dk_100 (dk_at dksX1_unit_1 4 rfl rfl)
theorem dX1_unit_27 : decode cX1_unit 27 = .ok (.putfield 480, 3) := dk_181 1 224 (dk_at dksX1_unit_1 5 rfl rfl)
theorem dX1_unit_30 : decode cX1_unit 30 = .ok (.new 530, 3) := dk_187 2 18 (dk_at dksX1_unit_1 8 rfl rfl)
theorem dX1_unit_33 : decode cX1_unit 33 = .ok (.dup, 1) := dk_89 (dk_at dksX1_unit_1 11 rfl rfl)
theorem dX1_unit_34 : decode cX1_unit 34 = .ok (.aload_n 2, 1) := dk_44 (dk_at dksX1_unit_1 12 rfl rfl)
theorem dX1_unit_35 : decode cX1_unit 35 = .ok (.invokespecial 532, 3) := dk_183 2 20 (dk_at dksX1_unit_1 13 rfl rfl)
theorem dX1_unit_38 : decode cX1_unit 38 = .ok (.areturn, 1) := dk_176 (dk_at dksX1_unit_1 16 rfl rfl)
theorem dX1_unit_39 : decode cX1_unit 39 = .ok (.iload_n 1, 1) := dk_27 (dk_at dksX1_unit_1 17 rfl rfl)
theorem dX1_unit_40 : decode cX1_unit 40 = .ok (.bipush 40, 2) := dk_16 40 (dk_at dksX1_unit_1 18 rfl rfl)
theorem dX1_unit_42 : decode cX1_unit 42 = .ok (.if_icmp .ne 20, 3) := dk_160 0 20 (dk_at dksX1_unit_1 20 rfl rfl)
theorem dX1_unit_45 : decode cX1_unit 45 = .ok (.aload_n 0, 1) := dk_42 (dk_at dksX1_unit_1 23 rfl rfl)
theorem dX1_unit_46 : decode cX1_unit 46 = .ok (.invokevirtual 483, 3) := dk_182 1 227 (dk_at dksX1_unit_2 0 rfl rfl)
theorem dX1_unit_49 : decode cX1_unit 49 = .ok (.aload_n 0, 1) := dk_42 (dk_at dksX1_unit_2 3 rfl rfl)
theorem dX1_unit_50 : decode cX1_unit 50 = .ok (.invokevirtual 535, 3) := dk_182 2 23 (dk_at dksX1_unit_2 4 rfl rfl)
theorem dX1_unit_53 : decode cX1_unit 53 = .ok (.astore_n 2, 1) := dk_77 (dk_at dksX1_unit_2 7 rfl rfl)
theorem dX1_unit_54 : decode cX1_unit 54 = .ok (.aload_n 0, 1) := dk_42 (dk_at dksX1_unit_2 8 rfl rfl)
theorem dX1_unit_55 : decode cX1_unit 55 = .ok (.bipush 41, 2) := dk_16 41 (dk_at dksX1_unit_2 9 rfl rfl)
theorem dX1_unit_57 : decode cX1_unit 57 = .ok (.invokevirtual 490, 3) := dk_182 1 234 (dk_at dksX1_unit_2 11 rfl rfl)
theorem dX1_unit_60 : decode cX1_unit 60 = .ok (.aload_n 2, 1) := dk_44 (dk_at dksX1_unit_2 14 rfl rfl)
theorem dX1_unit_61 : decode cX1_unit 61 = .ok (.areturn, 1) := dk_176 (dk_at dksX1_unit_2 15 rfl rfl)
theorem dX1_unit_62 : decode cX1_unit 62 = .ok (.aload_n 0, 1) := dk_42 (dk_at dksX1_unit_2 16 rfl rfl)
theorem dX1_unit_63 : decode cX1_unit 63 = .ok (.invokevirtual 486, 3) := dk_182 1 230 (dk_at dksX1_unit_2 17 rfl rfl)
theorem dX1_unit_66 : decode cX1_unit 66 = .ok (.astore_n 2, 1) := dk_77 (dk_at dksX1_unit_2 20 rfl rfl)
theorem dX1_unit_67 : decode cX1_unit 67 = .ok (.aload_n 0, 1) := dk_42 (dk_at dksX1_unit_2 21 rfl rfl)
theorem dX1_unit_68 : decode cX1_unit 68 = .ok (.invokevirtual 470, 3) := dk_182 1 214 (dk_at dksX1_unit_3 0 rfl rfl)
theorem dX1_unit_71 : decode cX1_unit 71 = .ok (.istore_n 3, 1) := dk_62 (dk_at dksX1_unit_3 3 rfl rfl)
theorem dX1_unit_72 : decode cX1_unit 72 = .ok (.aload_n 0, 1) := dk_42 (dk_at dksX1_unit_3 4 rfl rfl)
theorem dX1_unit_73 : decode cX1_unit 73 = .ok (.iload_n 3, 1) := dk_29 (dk_at dksX1_unit_3 5 rfl rfl)
theorem dX1_unit_74 : decode cX1_unit 74 = .ok (.bipush 61, 2) := dk_16 61 (dk_at dksX1_unit_3 6 rfl rfl)
theorem dX1_unit_76 : decode cX1_unit 76 = .ok (.if_icmp .eq 15, 3) := dk_159 0 15 (dk_at dksX1_unit_3 8 rfl rfl)
theorem dX1_unit_79 : decode cX1_unit 79 = .ok (.iload_n 3, 1) := dk_29 (dk_at dksX1_unit_3 11 rfl rfl)
theorem dX1_unit_80 : decode cX1_unit 80 = .ok (.bipush 60, 2) := dk_16 60 (dk_at dksX1_unit_3 12 rfl rfl)
theorem dX1_unit_82 : decode cX1_unit 82 = .ok (.if_icmp .eq 9, 3) := dk_159 0 9 (dk_at dksX1_unit_3 14 rfl rfl)
theorem dX1_unit_85 : decode cX1_unit 85 = .ok (.iload_n 3, 1) := dk_29 (dk_at dksX1_unit_3 17 rfl rfl)
theorem dX1_unit_86 : decode cX1_unit 86 = .ok (.bipush 62, 2) := dk_16 62 (dk_at dksX1_unit_3 18 rfl rfl)
theorem dX1_unit_88 : decode cX1_unit 88 = .ok (.if_icmp .ne 7, 3) := dk_160 0 7 (dk_at dksX1_unit_3 20 rfl rfl)
theorem dX1_unit_91 : decode cX1_unit 91 = .ok (.iconst 1, 1) := dk_4 (dk_at dksX1_unit_3 23 rfl rfl)
theorem dX1_unit_92 : decode cX1_unit 92 = .ok (.goto 4, 3) := dk_167 0 4 (dk_at dksX1_unit_4 0 rfl rfl)
theorem dX1_unit_95 : decode cX1_unit 95 = .ok (.iconst 0, 1) := dk_3 (dk_at dksX1_unit_4 3 rfl rfl)
theorem dX1_unit_96 : decode cX1_unit 96 = .ok (.invokevirtual 476, 3) := dk_182 1 220 (dk_at dksX1_unit_4 4 rfl rfl)
theorem dX1_unit_99 : decode cX1_unit 99 = .ok (.aload_n 0, 1) := dk_42 (dk_at dksX1_unit_4 7 rfl rfl)
theorem dX1_unit_100 : decode cX1_unit 100 = .ok (.dup, 1) := dk_89 (dk_at dksX1_unit_4 8 rfl rfl)
theorem dX1_unit_101 : decode cX1_unit 101 = .ok (.getfield 461, 3) := dk_180 1 205 (dk_at dksX1_unit_4 9 rfl rfl)
theorem dX1_unit_104 : decode cX1_unit 104 = .ok (.iconst 1, 1) := dk_4 (dk_at dksX1_unit_4 12 rfl rfl)
theorem dX1_unit_105 : decode cX1_unit 105 = .ok (.iadd, 1) := dk_96 (dk_at dksX1_unit_4 13 rfl rfl)
theorem dX1_unit_106 : decode cX1_unit 106 = .ok (.putfield 461, 3) := dk_181 1 205 (dk_at dksX1_unit_4 14 rfl rfl)
theorem dX1_unit_109 : decode cX1_unit 109 = .ok (.new 538, 3) := dk_187 2 26 (dk_at dksX1_unit_4 17 rfl rfl)
theorem dX1_unit_112 : decode cX1_unit 112 = .ok (.dup, 1) := dk_89 (dk_at dksX1_unit_4 20 rfl rfl)
theorem dX1_unit_113 : decode cX1_unit 113 = .ok (.iload_n 3, 1) := dk_29 (dk_at dksX1_unit_4 21 rfl rfl)
theorem dX1_unit_114 : decode cX1_unit 114 = .ok (.aload_n 2, 1) := dk_44 (dk_at dksX1_unit_4 22 rfl rfl)
theorem dX1_unit_115 : decode cX1_unit 115 = .ok (.aload_n 0, 1) := dk_42 (dk_at dksX1_unit_4 23 rfl rfl)
theorem dX1_unit_116 : decode cX1_unit 116 = .ok (.invokevirtual 486, 3) := dk_182 1 230 (dk_at dksX1_unit_5 0 rfl rfl)
theorem dX1_unit_119 : decode cX1_unit 119 = .ok (.invokespecial 540, 3) := dk_183 2 28 (dk_at dksX1_unit_5 3 rfl rfl)
theorem dX1_unit_122 : decode cX1_unit 122 = .ok (.areturn, 1) := dk_176 (dk_at dksX1_unit_5 6 rfl rfl)
abbrev cX1_look : ByteArray := prog_1_method_57_code
def yX1_look : MethodName := ⟨RX1, "look", "()I"⟩
def dkwX1_look_2 : List UInt8 := [162, 0, 19, 42, 180, 0, 62, 42, 180, 1, 205, 51, 17, 0, 255, 126, 167, 0, 4, 2, 172]
abbrev dktX1_look_2 : List UInt8 := dkwX1_look_2 ++ []
def dkwX1_look_1 : List UInt8 := [160, 0, 16, 42, 89, 180, 1, 205, 4, 96, 181, 1, 205, 167, 255, 221, 42, 180, 1, 205, 42, 180, 1, 202]
abbrev dktX1_look_1 : List UInt8 := dkwX1_look_1 ++ dktX1_look_2
def dkwX1_look_0 : List UInt8 := [42, 180, 1, 205, 42, 180, 1, 202, 162, 0, 30, 42, 180, 0, 62, 42, 180, 1, 205, 51, 16, 32]
abbrev dktX1_look_0 : List UInt8 := dkwX1_look_0 ++ dktX1_look_1
theorem dksX1_look_0 : cX1_look.data.toList.drop 0 = dktX1_look_0 := by decide +kernel
theorem dksX1_look_1 : cX1_look.data.toList.drop 22 = dktX1_look_1 := dk_seg dksX1_look_0 22 rfl rfl
theorem dksX1_look_2 : cX1_look.data.toList.drop 46 = dktX1_look_2 := dk_seg dksX1_look_1 24 rfl rfl
theorem dX1_look_0 : decode cX1_look 0 = .ok (.aload_n 0, 1) := dk_42 (dk_at dksX1_look_0 0 rfl rfl)
theorem dX1_look_1 : decode cX1_look 1 = .ok (.getfield 461, 3) := dk_180 1 205 (dk_at dksX1_look_0 1 rfl rfl)
theorem dX1_look_4 : decode cX1_look 4 = .ok (.aload_n 0, 1) := dk_42 (dk_at dksX1_look_0 4 rfl rfl)
theorem dX1_look_5 : decode cX1_look 5 = .ok (.getfield 458, 3) := dk_180 1 202 (dk_at dksX1_look_0 5 rfl rfl)
theorem dX1_look_8 : decode cX1_look 8 = .ok (.if_icmp .ge 30, 3) := dk_162 0 30 (dk_at dksX1_look_0 8 rfl rfl)
theorem dX1_look_11 : decode cX1_look 11 = .ok (.aload_n 0, 1) := dk_42 (dk_at dksX1_look_0 11 rfl rfl)
theorem dX1_look_12 : decode cX1_look 12 = .ok (.getfield 62, 3) := dk_180 0 62 (dk_at dksX1_look_0 12 rfl rfl)
theorem dX1_look_15 : decode cX1_look 15 = .ok (.aload_n 0, 1) := dk_42 (dk_at dksX1_look_0 15 rfl rfl)
theorem dX1_look_16 : decode cX1_look 16 = .ok (.getfield 461, 3) := dk_180 1 205 (dk_at dksX1_look_0 16 rfl rfl)
theorem dX1_look_19 : decode cX1_look 19 = .ok (.baload, 1) := dk_51 (dk_at dksX1_look_0 19 rfl rfl)
theorem dX1_look_20 : decode cX1_look 20 = .ok (.bipush 32, 2) := dk_16 32 (dk_at dksX1_look_0 20 rfl rfl)
theorem dX1_look_22 : decode cX1_look 22 = .ok (.if_icmp .ne 16, 3) := dk_160 0 16 (dk_at dksX1_look_1 0 rfl rfl)
theorem dX1_look_25 : decode cX1_look 25 = .ok (.aload_n 0, 1) := dk_42 (dk_at dksX1_look_1 3 rfl rfl)
theorem dX1_look_26 : decode cX1_look 26 = .ok (.dup, 1) := dk_89 (dk_at dksX1_look_1 4 rfl rfl)
theorem dX1_look_27 : decode cX1_look 27 = .ok (.getfield 461, 3) := dk_180 1 205 (dk_at dksX1_look_1 5 rfl rfl)
theorem dX1_look_30 : decode cX1_look 30 = .ok (.iconst 1, 1) := dk_4 (dk_at dksX1_look_1 8 rfl rfl)
theorem dX1_look_31 : decode cX1_look 31 = .ok (.iadd, 1) := dk_96 (dk_at dksX1_look_1 9 rfl rfl)
theorem dX1_look_32 : decode cX1_look 32 = .ok (.putfield 461, 3) := dk_181 1 205 (dk_at dksX1_look_1 10 rfl rfl)
theorem dX1_look_35 : decode cX1_look 35 = .ok (.goto (-35), 3) := dk_167 255 221 (dk_at dksX1_look_1 13 rfl rfl)
theorem dX1_look_38 : decode cX1_look 38 = .ok (.aload_n 0, 1) := dk_42 (dk_at dksX1_look_1 16 rfl rfl)
theorem dX1_look_39 : decode cX1_look 39 = .ok (.getfield 461, 3) := dk_180 1 205 (dk_at dksX1_look_1 17 rfl rfl)
theorem dX1_look_42 : decode cX1_look 42 = .ok (.aload_n 0, 1) := dk_42 (dk_at dksX1_look_1 20 rfl rfl)
theorem dX1_look_43 : decode cX1_look 43 = .ok (.getfield 458, 3) := dk_180 1 202 (dk_at dksX1_look_1 21 rfl rfl)
theorem dX1_look_46 : decode cX1_look 46 = .ok (.if_icmp .ge 19, 3) := dk_162 0 19 (dk_at dksX1_look_2 0 rfl rfl)
theorem dX1_look_49 : decode cX1_look 49 = .ok (.aload_n 0, 1) := dk_42 (dk_at dksX1_look_2 3 rfl rfl)
theorem dX1_look_50 : decode cX1_look 50 = .ok (.getfield 62, 3) := dk_180 0 62 (dk_at dksX1_look_2 4 rfl rfl)
theorem dX1_look_53 : decode cX1_look 53 = .ok (.aload_n 0, 1) := dk_42 (dk_at dksX1_look_2 7 rfl rfl)
theorem dX1_look_54 : decode cX1_look 54 = .ok (.getfield 461, 3) := dk_180 1 205 (dk_at dksX1_look_2 8 rfl rfl)
theorem dX1_look_57 : decode cX1_look 57 = .ok (.baload, 1) := dk_51 (dk_at dksX1_look_2 11 rfl rfl)
theorem dX1_look_58 : decode cX1_look 58 = .ok (.sipush 255, 3) := dk_17 0 255 (dk_at dksX1_look_2 12 rfl rfl)
theorem dX1_look_61 : decode cX1_look 61 = .ok (.iand, 1) := dk_126 (dk_at dksX1_look_2 15 rfl rfl)
theorem dX1_look_62 : decode cX1_look 62 = .ok (.goto 4, 3) := dk_167 0 4 (dk_at dksX1_look_2 16 rfl rfl)
theorem dX1_look_65 : decode cX1_look 65 = .ok (.iconst (-1), 1) := dk_2 (dk_at dksX1_look_2 19 rfl rfl)
theorem dX1_look_66 : decode cX1_look 66 = .ok (.ireturn, 1) := dk_172 (dk_at dksX1_look_2 20 rfl rfl)
abbrev cX1_opens : ByteArray := prog_1_method_62_code
def yX1_opens : MethodName := ⟨RX1, "opens", "()V"⟩
def dkwX1_opens_1 : List UInt8 := [96, 181, 1, 224, 42, 89, 180, 1, 205, 4, 96, 181, 1, 205, 177]
abbrev dktX1_opens_1 : List UInt8 := dkwX1_opens_1 ++ []
def dkwX1_opens_0 : List UInt8 := [42, 42, 180, 1, 224, 16, 8, 162, 0, 7, 4, 167, 0, 4, 3, 182, 1, 220, 42, 89, 180, 1, 224, 4]
abbrev dktX1_opens_0 : List UInt8 := dkwX1_opens_0 ++ dktX1_opens_1
theorem dksX1_opens_0 : cX1_opens.data.toList.drop 0 = dktX1_opens_0 := by decide +kernel
theorem dksX1_opens_1 : cX1_opens.data.toList.drop 24 = dktX1_opens_1 := dk_seg dksX1_opens_0 24 rfl rfl
theorem dX1_opens_0 : decode cX1_opens 0 = .ok (.aload_n 0, 1) := dk_42 (dk_at dksX1_opens_0 0 rfl rfl)
theorem dX1_opens_1 : decode cX1_opens 1 = .ok (.aload_n 0, 1) := dk_42 (dk_at dksX1_opens_0 1 rfl rfl)
theorem dX1_opens_2 : decode cX1_opens 2 = .ok (.getfield 480, 3) := dk_180 1 224 (dk_at dksX1_opens_0 2 rfl rfl)
theorem dX1_opens_5 : decode cX1_opens 5 = .ok (.bipush 8, 2) := dk_16 8 (dk_at dksX1_opens_0 5 rfl rfl)
theorem dX1_opens_7 : decode cX1_opens 7 = .ok (.if_icmp .ge 7, 3) := dk_162 0 7 (dk_at dksX1_opens_0 7 rfl rfl)
theorem dX1_opens_10 : decode cX1_opens 10 = .ok (.iconst 1, 1) := dk_4 (dk_at dksX1_opens_0 10 rfl rfl)
theorem dX1_opens_11 : decode cX1_opens 11 = .ok (.goto 4, 3) := dk_167 0 4 (dk_at dksX1_opens_0 11 rfl rfl)
theorem dX1_opens_14 : decode cX1_opens 14 = .ok (.iconst 0, 1) := dk_3 (dk_at dksX1_opens_0 14 rfl rfl)
theorem dX1_opens_15 : decode cX1_opens 15 = .ok (.invokevirtual 476, 3) := dk_182 1 220 (dk_at dksX1_opens_0 15 rfl rfl)
theorem dX1_opens_18 : decode cX1_opens 18 = .ok (.aload_n 0, 1) := dk_42 (dk_at dksX1_opens_0 18 rfl rfl)
theorem dX1_opens_19 : decode cX1_opens 19 = .ok (.dup, 1) := dk_89 (dk_at dksX1_opens_0 19 rfl rfl)
theorem dX1_opens_20 : decode cX1_opens 20 = .ok (.getfield 480, 3) := dk_180 1 224 (dk_at dksX1_opens_0 20 rfl rfl)
theorem dX1_opens_23 : decode cX1_opens 23 = .ok (.iconst 1, 1) := dk_4 (dk_at dksX1_opens_0 23 rfl rfl)
theorem dX1_opens_24 : decode cX1_opens 24 = .ok (.iadd, 1) := dk_96 (dk_at dksX1_opens_1 0 rfl rfl)
theorem dX1_opens_25 : decode cX1_opens 25 = .ok (.putfield 480, 3) := dk_181 1 224 (dk_at dksX1_opens_1 1 rfl rfl)
theorem dX1_opens_28 : decode cX1_opens 28 = .ok (.aload_n 0, 1) := dk_42 (dk_at dksX1_opens_1 4 rfl rfl)
theorem dX1_opens_29 : decode cX1_opens 29 = .ok (.dup, 1) := dk_89 (dk_at dksX1_opens_1 5 rfl rfl)
theorem dX1_opens_30 : decode cX1_opens 30 = .ok (.getfield 461, 3) := dk_180 1 205 (dk_at dksX1_opens_1 6 rfl rfl)
theorem dX1_opens_33 : decode cX1_opens 33 = .ok (.iconst 1, 1) := dk_4 (dk_at dksX1_opens_1 9 rfl rfl)
theorem dX1_opens_34 : decode cX1_opens 34 = .ok (.iadd, 1) := dk_96 (dk_at dksX1_opens_1 10 rfl rfl)
theorem dX1_opens_35 : decode cX1_opens 35 = .ok (.putfield 461, 3) := dk_181 1 205 (dk_at dksX1_opens_1 11 rfl rfl)
theorem dX1_opens_38 : decode cX1_opens 38 = .ok (.return_, 1) := dk_177 (dk_at dksX1_opens_1 14 rfl rfl)
abbrev cX1_need : ByteArray := prog_1_method_60_code
def yX1_need : MethodName := ⟨RX1, "need", "(Z)V"⟩
def dkwX1_need_0 : List UInt8 := [27, 154, 0, 8, 42, 180, 0, 58, 191, 177]
abbrev dktX1_need_0 : List UInt8 := dkwX1_need_0 ++ []
theorem dksX1_need_0 : cX1_need.data.toList.drop 0 = dktX1_need_0 := by decide +kernel
theorem dX1_need_0 : decode cX1_need 0 = .ok (.iload_n 1, 1) := dk_27 (dk_at dksX1_need_0 0 rfl rfl)
theorem dX1_need_1 : decode cX1_need 1 = .ok (.ifCond .ne 8, 3) := dk_154 0 8 (dk_at dksX1_need_0 1 rfl rfl)
theorem dX1_need_4 : decode cX1_need 4 = .ok (.aload_n 0, 1) := dk_42 (dk_at dksX1_need_0 4 rfl rfl)
theorem dX1_need_5 : decode cX1_need 5 = .ok (.getfield 58, 3) := dk_180 0 58 (dk_at dksX1_need_0 5 rfl rfl)
theorem dX1_need_8 : decode cX1_need 8 = .ok (.athrow, 1) := dk_191 (dk_at dksX1_need_0 8 rfl rfl)
theorem dX1_need_9 : decode cX1_need 9 = .ok (.return_, 1) := dk_177 (dk_at dksX1_need_0 9 rfl rfl)
abbrev cX1_closes : ByteArray := prog_1_method_63_code
def yX1_closes : MethodName := ⟨RX1, "closes", "(I)V"⟩
def dkwX1_closes_1 : List UInt8 := [181, 1, 205, 42, 89, 180, 1, 224, 4, 100, 181, 1, 224, 177]
abbrev dktX1_closes_1 : List UInt8 := dkwX1_closes_1 ++ []
def dkwX1_closes_0 : List UInt8 := [42, 42, 182, 1, 214, 27, 160, 0, 7, 4, 167, 0, 4, 3, 182, 1, 220, 42, 89, 180, 1, 205, 4, 96]
abbrev dktX1_closes_0 : List UInt8 := dkwX1_closes_0 ++ dktX1_closes_1
theorem dksX1_closes_0 : cX1_closes.data.toList.drop 0 = dktX1_closes_0 := by decide +kernel
theorem dksX1_closes_1 : cX1_closes.data.toList.drop 24 = dktX1_closes_1 := dk_seg dksX1_closes_0 24 rfl rfl
theorem dX1_closes_0 : decode cX1_closes 0 = .ok (.aload_n 0, 1) := dk_42 (dk_at dksX1_closes_0 0 rfl rfl)
theorem dX1_closes_1 : decode cX1_closes 1 = .ok (.aload_n 0, 1) := dk_42 (dk_at dksX1_closes_0 1 rfl rfl)
theorem dX1_closes_2 : decode cX1_closes 2 = .ok (.invokevirtual 470, 3) := dk_182 1 214 (dk_at dksX1_closes_0 2 rfl rfl)
theorem dX1_closes_5 : decode cX1_closes 5 = .ok (.iload_n 1, 1) := dk_27 (dk_at dksX1_closes_0 5 rfl rfl)
theorem dX1_closes_6 : decode cX1_closes 6 = .ok (.if_icmp .ne 7, 3) := dk_160 0 7 (dk_at dksX1_closes_0 6 rfl rfl)
theorem dX1_closes_9 : decode cX1_closes 9 = .ok (.iconst 1, 1) := dk_4 (dk_at dksX1_closes_0 9 rfl rfl)
theorem dX1_closes_10 : decode cX1_closes 10 = .ok (.goto 4, 3) := dk_167 0 4 (dk_at dksX1_closes_0 10 rfl rfl)
theorem dX1_closes_13 : decode cX1_closes 13 = .ok (.iconst 0, 1) := dk_3 (dk_at dksX1_closes_0 13 rfl rfl)
theorem dX1_closes_14 : decode cX1_closes 14 = .ok (.invokevirtual 476, 3) := dk_182 1 220 (dk_at dksX1_closes_0 14 rfl rfl)
theorem dX1_closes_17 : decode cX1_closes 17 = .ok (.aload_n 0, 1) := dk_42 (dk_at dksX1_closes_0 17 rfl rfl)
theorem dX1_closes_18 : decode cX1_closes 18 = .ok (.dup, 1) := dk_89 (dk_at dksX1_closes_0 18 rfl rfl)
theorem dX1_closes_19 : decode cX1_closes 19 = .ok (.getfield 461, 3) := dk_180 1 205 (dk_at dksX1_closes_0 19 rfl rfl)
theorem dX1_closes_22 : decode cX1_closes 22 = .ok (.iconst 1, 1) := dk_4 (dk_at dksX1_closes_0 22 rfl rfl)
theorem dX1_closes_23 : decode cX1_closes 23 = .ok (.iadd, 1) := dk_96 (dk_at dksX1_closes_0 23 rfl rfl)
theorem dX1_closes_24 : decode cX1_closes 24 = .ok (.putfield 461, 3) := dk_181 1 205 (dk_at dksX1_closes_1 0 rfl rfl)
theorem dX1_closes_27 : decode cX1_closes 27 = .ok (.aload_n 0, 1) := dk_42 (dk_at dksX1_closes_1 3 rfl rfl)
theorem dX1_closes_28 : decode cX1_closes 28 = .ok (.dup, 1) := dk_89 (dk_at dksX1_closes_1 4 rfl rfl)
theorem dX1_closes_29 : decode cX1_closes 29 = .ok (.getfield 480, 3) := dk_180 1 224 (dk_at dksX1_closes_1 5 rfl rfl)
theorem dX1_closes_32 : decode cX1_closes 32 = .ok (.iconst 1, 1) := dk_4 (dk_at dksX1_closes_1 8 rfl rfl)
theorem dX1_closes_33 : decode cX1_closes 33 = .ok (.isub, 1) := dk_100 (dk_at dksX1_closes_1 9 rfl rfl)
theorem dX1_closes_34 : decode cX1_closes 34 = .ok (.putfield 480, 3) := dk_181 1 224 (dk_at dksX1_closes_1 10 rfl rfl)
theorem dX1_closes_37 : decode cX1_closes 37 = .ok (.return_, 1) := dk_177 (dk_at dksX1_closes_1 13 rfl rfl)
abbrev cX1_sum : ByteArray := prog_1_method_66_code
def yX1_sum : MethodName := ⟨RX1, "sum", "()LCityBrigade$Sum;"⟩
def dkwX1_sum_2 : List UInt8 := [182, 1, 214, 61, 167, 255, 215, 43, 176]
abbrev dktX1_sum_2 : List UInt8 := dkwX1_sum_2 ++ []
def dkwX1_sum_1 : List UInt8 := [180, 1, 205, 4, 96, 181, 1, 205, 187, 2, 6, 89, 28, 43, 42, 182, 2, 11, 183, 2, 8, 76, 42]
abbrev dktX1_sum_1 : List UInt8 := dkwX1_sum_1 ++ dktX1_sum_2
def dkwX1_sum_0 : List UInt8 := [42, 182, 2, 11, 76, 42, 182, 1, 214, 61, 28, 16, 43, 159, 0, 9, 28, 16, 45, 160, 0, 35, 42, 89]
abbrev dktX1_sum_0 : List UInt8 := dkwX1_sum_0 ++ dktX1_sum_1
theorem dksX1_sum_0 : cX1_sum.data.toList.drop 0 = dktX1_sum_0 := by decide +kernel
theorem dksX1_sum_1 : cX1_sum.data.toList.drop 24 = dktX1_sum_1 := dk_seg dksX1_sum_0 24 rfl rfl
theorem dksX1_sum_2 : cX1_sum.data.toList.drop 47 = dktX1_sum_2 := dk_seg dksX1_sum_1 23 rfl rfl
theorem dX1_sum_0 : decode cX1_sum 0 = .ok (.aload_n 0, 1) := dk_42 (dk_at dksX1_sum_0 0 rfl rfl)
theorem dX1_sum_1 : decode cX1_sum 1 = .ok (.invokevirtual 523, 3) := dk_182 2 11 (dk_at dksX1_sum_0 1 rfl rfl)
theorem dX1_sum_4 : decode cX1_sum 4 = .ok (.astore_n 1, 1) := dk_76 (dk_at dksX1_sum_0 4 rfl rfl)
theorem dX1_sum_5 : decode cX1_sum 5 = .ok (.aload_n 0, 1) := dk_42 (dk_at dksX1_sum_0 5 rfl rfl)
theorem dX1_sum_6 : decode cX1_sum 6 = .ok (.invokevirtual 470, 3) := dk_182 1 214 (dk_at dksX1_sum_0 6 rfl rfl)
theorem dX1_sum_9 : decode cX1_sum 9 = .ok (.istore_n 2, 1) := dk_61 (dk_at dksX1_sum_0 9 rfl rfl)
theorem dX1_sum_10 : decode cX1_sum 10 = .ok (.iload_n 2, 1) := dk_28 (dk_at dksX1_sum_0 10 rfl rfl)
theorem dX1_sum_11 : decode cX1_sum 11 = .ok (.bipush 43, 2) := dk_16 43 (dk_at dksX1_sum_0 11 rfl rfl)
theorem dX1_sum_13 : decode cX1_sum 13 = .ok (.if_icmp .eq 9, 3) := dk_159 0 9 (dk_at dksX1_sum_0 13 rfl rfl)
theorem dX1_sum_16 : decode cX1_sum 16 = .ok (.iload_n 2, 1) := dk_28 (dk_at dksX1_sum_0 16 rfl rfl)
theorem dX1_sum_17 : decode cX1_sum 17 = .ok (.bipush 45, 2) := dk_16 45 (dk_at dksX1_sum_0 17 rfl rfl)
theorem dX1_sum_19 : decode cX1_sum 19 = .ok (.if_icmp .ne 35, 3) := dk_160 0 35 (dk_at dksX1_sum_0 19 rfl rfl)
theorem dX1_sum_22 : decode cX1_sum 22 = .ok (.aload_n 0, 1) := dk_42 (dk_at dksX1_sum_0 22 rfl rfl)
theorem dX1_sum_23 : decode cX1_sum 23 = .ok (.dup, 1) := dk_89 (dk_at dksX1_sum_0 23 rfl rfl)
theorem dX1_sum_24 : decode cX1_sum 24 = .ok (.getfield 461, 3) := dk_180 1 205 (dk_at dksX1_sum_1 0 rfl rfl)
theorem dX1_sum_27 : decode cX1_sum 27 = .ok (.iconst 1, 1) := dk_4 (dk_at dksX1_sum_1 3 rfl rfl)
theorem dX1_sum_28 : decode cX1_sum 28 = .ok (.iadd, 1) := dk_96 (dk_at dksX1_sum_1 4 rfl rfl)
theorem dX1_sum_29 : decode cX1_sum 29 = .ok (.putfield 461, 3) := dk_181 1 205 (dk_at dksX1_sum_1 5 rfl rfl)
theorem dX1_sum_32 : decode cX1_sum 32 = .ok (.new 518, 3) := dk_187 2 6 (dk_at dksX1_sum_1 8 rfl rfl)
theorem dX1_sum_35 : decode cX1_sum 35 = .ok (.dup, 1) := dk_89 (dk_at dksX1_sum_1 11 rfl rfl)
theorem dX1_sum_36 : decode cX1_sum 36 = .ok (.iload_n 2, 1) := dk_28 (dk_at dksX1_sum_1 12 rfl rfl)
theorem dX1_sum_37 : decode cX1_sum 37 = .ok (.aload_n 1, 1) := dk_43 (dk_at dksX1_sum_1 13 rfl rfl)
theorem dX1_sum_38 : decode cX1_sum 38 = .ok (.aload_n 0, 1) := dk_42 (dk_at dksX1_sum_1 14 rfl rfl)
theorem dX1_sum_39 : decode cX1_sum 39 = .ok (.invokevirtual 523, 3) := dk_182 2 11 (dk_at dksX1_sum_1 15 rfl rfl)
theorem dX1_sum_42 : decode cX1_sum 42 = .ok (.invokespecial 520, 3) := dk_183 2 8 (dk_at dksX1_sum_1 18 rfl rfl)
theorem dX1_sum_45 : decode cX1_sum 45 = .ok (.astore_n 1, 1) := dk_76 (dk_at dksX1_sum_1 21 rfl rfl)
theorem dX1_sum_46 : decode cX1_sum 46 = .ok (.aload_n 0, 1) := dk_42 (dk_at dksX1_sum_1 22 rfl rfl)
theorem dX1_sum_47 : decode cX1_sum 47 = .ok (.invokevirtual 470, 3) := dk_182 1 214 (dk_at dksX1_sum_2 0 rfl rfl)
theorem dX1_sum_50 : decode cX1_sum 50 = .ok (.istore_n 2, 1) := dk_61 (dk_at dksX1_sum_2 3 rfl rfl)
theorem dX1_sum_51 : decode cX1_sum 51 = .ok (.goto (-41), 3) := dk_167 255 215 (dk_at dksX1_sum_2 4 rfl rfl)
theorem dX1_sum_54 : decode cX1_sum 54 = .ok (.aload_n 1, 1) := dk_43 (dk_at dksX1_sum_2 7 rfl rfl)
theorem dX1_sum_55 : decode cX1_sum 55 = .ok (.areturn, 1) := dk_176 (dk_at dksX1_sum_2 8 rfl rfl)
abbrev cX1_term : ByteArray := prog_1_method_65_code
def yX1_term : MethodName := ⟨RX1, "term", "()LCityBrigade$Sum;"⟩
def dkwX1_term_1 : List UInt8 := [187, 2, 6, 89, 16, 42, 43, 42, 182, 2, 3, 183, 2, 8, 76, 167, 255, 222, 43, 176]
abbrev dktX1_term_1 : List UInt8 := dkwX1_term_1 ++ []
def dkwX1_term_0 : List UInt8 := [42, 182, 2, 3, 76, 42, 182, 1, 214, 16, 42, 160, 0, 31, 42, 89, 180, 1, 205, 4, 96, 181, 1, 205]
abbrev dktX1_term_0 : List UInt8 := dkwX1_term_0 ++ dktX1_term_1
theorem dksX1_term_0 : cX1_term.data.toList.drop 0 = dktX1_term_0 := by decide +kernel
theorem dksX1_term_1 : cX1_term.data.toList.drop 24 = dktX1_term_1 := dk_seg dksX1_term_0 24 rfl rfl
theorem dX1_term_0 : decode cX1_term 0 = .ok (.aload_n 0, 1) := dk_42 (dk_at dksX1_term_0 0 rfl rfl)
theorem dX1_term_1 : decode cX1_term 1 = .ok (.invokevirtual 515, 3) := dk_182 2 3 (dk_at dksX1_term_0 1 rfl rfl)
theorem dX1_term_4 : decode cX1_term 4 = .ok (.astore_n 1, 1) := dk_76 (dk_at dksX1_term_0 4 rfl rfl)
theorem dX1_term_5 : decode cX1_term 5 = .ok (.aload_n 0, 1) := dk_42 (dk_at dksX1_term_0 5 rfl rfl)
theorem dX1_term_6 : decode cX1_term 6 = .ok (.invokevirtual 470, 3) := dk_182 1 214 (dk_at dksX1_term_0 6 rfl rfl)
theorem dX1_term_9 : decode cX1_term 9 = .ok (.bipush 42, 2) := dk_16 42 (dk_at dksX1_term_0 9 rfl rfl)
theorem dX1_term_11 : decode cX1_term 11 = .ok (.if_icmp .ne 31, 3) := dk_160 0 31 (dk_at dksX1_term_0 11 rfl rfl)
theorem dX1_term_14 : decode cX1_term 14 = .ok (.aload_n 0, 1) := dk_42 (dk_at dksX1_term_0 14 rfl rfl)
theorem dX1_term_15 : decode cX1_term 15 = .ok (.dup, 1) := dk_89 (dk_at dksX1_term_0 15 rfl rfl)
theorem dX1_term_16 : decode cX1_term 16 = .ok (.getfield 461, 3) := dk_180 1 205 (dk_at dksX1_term_0 16 rfl rfl)
theorem dX1_term_19 : decode cX1_term 19 = .ok (.iconst 1, 1) := dk_4 (dk_at dksX1_term_0 19 rfl rfl)
theorem dX1_term_20 : decode cX1_term 20 = .ok (.iadd, 1) := dk_96 (dk_at dksX1_term_0 20 rfl rfl)
theorem dX1_term_21 : decode cX1_term 21 = .ok (.putfield 461, 3) := dk_181 1 205 (dk_at dksX1_term_0 21 rfl rfl)
theorem dX1_term_24 : decode cX1_term 24 = .ok (.new 518, 3) := dk_187 2 6 (dk_at dksX1_term_1 0 rfl rfl)
theorem dX1_term_27 : decode cX1_term 27 = .ok (.dup, 1) := dk_89 (dk_at dksX1_term_1 3 rfl rfl)
theorem dX1_term_28 : decode cX1_term 28 = .ok (.bipush 42, 2) := dk_16 42 (dk_at dksX1_term_1 4 rfl rfl)
theorem dX1_term_30 : decode cX1_term 30 = .ok (.aload_n 1, 1) := dk_43 (dk_at dksX1_term_1 6 rfl rfl)
theorem dX1_term_31 : decode cX1_term 31 = .ok (.aload_n 0, 1) := dk_42 (dk_at dksX1_term_1 7 rfl rfl)
theorem dX1_term_32 : decode cX1_term 32 = .ok (.invokevirtual 515, 3) := dk_182 2 3 (dk_at dksX1_term_1 8 rfl rfl)
theorem dX1_term_35 : decode cX1_term 35 = .ok (.invokespecial 520, 3) := dk_183 2 8 (dk_at dksX1_term_1 11 rfl rfl)
theorem dX1_term_38 : decode cX1_term 38 = .ok (.astore_n 1, 1) := dk_76 (dk_at dksX1_term_1 14 rfl rfl)
theorem dX1_term_39 : decode cX1_term 39 = .ok (.goto (-34), 3) := dk_167 255 222 (dk_at dksX1_term_1 15 rfl rfl)
theorem dX1_term_42 : decode cX1_term 42 = .ok (.aload_n 1, 1) := dk_43 (dk_at dksX1_term_1 18 rfl rfl)
theorem dX1_term_43 : decode cX1_term 43 = .ok (.areturn, 1) := dk_176 (dk_at dksX1_term_1 19 rfl rfl)
abbrev cX1_atom : ByteArray := prog_1_method_64_code
def yX1_atom : MethodName := ⟨RX1, "atom", "()LCityBrigade$Sum;"⟩
def dkwX1_atom_3 : List UInt8 := [182, 1, 255, 183, 2, 2, 176]
abbrev dktX1_atom_3 : List UInt8 := dkwX1_atom_3 ++ []
def dkwX1_atom_2 : List UInt8 := [89, 180, 1, 205, 4, 96, 181, 1, 205, 187, 1, 249, 89, 27, 183, 1, 251, 176, 187, 1, 253, 89, 42, 7]
abbrev dktX1_atom_2 : List UInt8 := dkwX1_atom_2 ++ dktX1_atom_3
def dkwX1_atom_1 : List UInt8 := [182, 1, 234, 44, 176, 27, 158, 0, 36, 42, 180, 1, 237, 184, 1, 240, 27, 182, 1, 244, 155, 0, 22, 42]
abbrev dktX1_atom_1 : List UInt8 := dkwX1_atom_1 ++ dktX1_atom_2
def dkwX1_atom_0 : List UInt8 := [42, 182, 1, 214, 60, 27, 16, 91, 160, 0, 20, 42, 182, 1, 227, 42, 182, 1, 230, 77, 42, 16, 93]
abbrev dktX1_atom_0 : List UInt8 := dkwX1_atom_0 ++ dktX1_atom_1
theorem dksX1_atom_0 : cX1_atom.data.toList.drop 0 = dktX1_atom_0 := by decide +kernel
theorem dksX1_atom_1 : cX1_atom.data.toList.drop 23 = dktX1_atom_1 := dk_seg dksX1_atom_0 23 rfl rfl
theorem dksX1_atom_2 : cX1_atom.data.toList.drop 47 = dktX1_atom_2 := dk_seg dksX1_atom_1 24 rfl rfl
theorem dksX1_atom_3 : cX1_atom.data.toList.drop 71 = dktX1_atom_3 := dk_seg dksX1_atom_2 24 rfl rfl
theorem dX1_atom_0 : decode cX1_atom 0 = .ok (.aload_n 0, 1) := dk_42 (dk_at dksX1_atom_0 0 rfl rfl)
theorem dX1_atom_1 : decode cX1_atom 1 = .ok (.invokevirtual 470, 3) := dk_182 1 214 (dk_at dksX1_atom_0 1 rfl rfl)
theorem dX1_atom_4 : decode cX1_atom 4 = .ok (.istore_n 1, 1) := dk_60 (dk_at dksX1_atom_0 4 rfl rfl)
theorem dX1_atom_5 : decode cX1_atom 5 = .ok (.iload_n 1, 1) := dk_27 (dk_at dksX1_atom_0 5 rfl rfl)
theorem dX1_atom_6 : decode cX1_atom 6 = .ok (.bipush 91, 2) := dk_16 91 (dk_at dksX1_atom_0 6 rfl rfl)
theorem dX1_atom_8 : decode cX1_atom 8 = .ok (.if_icmp .ne 20, 3) := dk_160 0 20 (dk_at dksX1_atom_0 8 rfl rfl)
theorem dX1_atom_11 : decode cX1_atom 11 = .ok (.aload_n 0, 1) := dk_42 (dk_at dksX1_atom_0 11 rfl rfl)
theorem dX1_atom_12 : decode cX1_atom 12 = .ok (.invokevirtual 483, 3) := dk_182 1 227 (dk_at dksX1_atom_0 12 rfl rfl)
theorem dX1_atom_15 : decode cX1_atom 15 = .ok (.aload_n 0, 1) := dk_42 (dk_at dksX1_atom_0 15 rfl rfl)
theorem dX1_atom_16 : decode cX1_atom 16 = .ok (.invokevirtual 486, 3) := dk_182 1 230 (dk_at dksX1_atom_0 16 rfl rfl)
theorem dX1_atom_19 : decode cX1_atom 19 = .ok (.astore_n 2, 1) := dk_77 (dk_at dksX1_atom_0 19 rfl rfl)
theorem dX1_atom_20 : decode cX1_atom 20 = .ok (.aload_n 0, 1) := dk_42 (dk_at dksX1_atom_0 20 rfl rfl)
theorem dX1_atom_21 : decode cX1_atom 21 = .ok (.bipush 93, 2) := dk_16 93 (dk_at dksX1_atom_0 21 rfl rfl)
theorem dX1_atom_23 : decode cX1_atom 23 = .ok (.invokevirtual 490, 3) := dk_182 1 234 (dk_at dksX1_atom_1 0 rfl rfl)
theorem dX1_atom_26 : decode cX1_atom 26 = .ok (.aload_n 2, 1) := dk_44 (dk_at dksX1_atom_1 3 rfl rfl)
theorem dX1_atom_27 : decode cX1_atom 27 = .ok (.areturn, 1) := dk_176 (dk_at dksX1_atom_1 4 rfl rfl)
theorem dX1_atom_28 : decode cX1_atom 28 = .ok (.iload_n 1, 1) := dk_27 (dk_at dksX1_atom_1 5 rfl rfl)
theorem dX1_atom_29 : decode cX1_atom 29 = .ok (.ifCond .le 36, 3) := dk_158 0 36 (dk_at dksX1_atom_1 6 rfl rfl)
theorem dX1_atom_32 : decode cX1_atom 32 = .ok (.aload_n 0, 1) := dk_42 (dk_at dksX1_atom_1 9 rfl rfl)
theorem dX1_atom_33 : decode cX1_atom 33 = .ok (.getfield 493, 3) := dk_180 1 237 (dk_at dksX1_atom_1 10 rfl rfl)
theorem dX1_atom_36 : decode cX1_atom 36 = .ok (.invokestatic 496, 3) := dk_184 1 240 (dk_at dksX1_atom_1 13 rfl rfl)
theorem dX1_atom_39 : decode cX1_atom 39 = .ok (.iload_n 1, 1) := dk_27 (dk_at dksX1_atom_1 16 rfl rfl)
theorem dX1_atom_40 : decode cX1_atom 40 = .ok (.invokevirtual 500, 3) := dk_182 1 244 (dk_at dksX1_atom_1 17 rfl rfl)
theorem dX1_atom_43 : decode cX1_atom 43 = .ok (.ifCond .lt 22, 3) := dk_155 0 22 (dk_at dksX1_atom_1 20 rfl rfl)
theorem dX1_atom_46 : decode cX1_atom 46 = .ok (.aload_n 0, 1) := dk_42 (dk_at dksX1_atom_1 23 rfl rfl)
theorem dX1_atom_47 : decode cX1_atom 47 = .ok (.dup, 1) := dk_89 (dk_at dksX1_atom_2 0 rfl rfl)
theorem dX1_atom_48 : decode cX1_atom 48 = .ok (.getfield 461, 3) := dk_180 1 205 (dk_at dksX1_atom_2 1 rfl rfl)
theorem dX1_atom_51 : decode cX1_atom 51 = .ok (.iconst 1, 1) := dk_4 (dk_at dksX1_atom_2 4 rfl rfl)
theorem dX1_atom_52 : decode cX1_atom 52 = .ok (.iadd, 1) := dk_96 (dk_at dksX1_atom_2 5 rfl rfl)
theorem dX1_atom_53 : decode cX1_atom 53 = .ok (.putfield 461, 3) := dk_181 1 205 (dk_at dksX1_atom_2 6 rfl rfl)
theorem dX1_atom_56 : decode cX1_atom 56 = .ok (.new 505, 3) := dk_187 1 249 (dk_at dksX1_atom_2 9 rfl rfl)
theorem dX1_atom_59 : decode cX1_atom 59 = .ok (.dup, 1) := dk_89 (dk_at dksX1_atom_2 12 rfl rfl)
theorem dX1_atom_60 : decode cX1_atom 60 = .ok (.iload_n 1, 1) := dk_27 (dk_at dksX1_atom_2 13 rfl rfl)
theorem dX1_atom_61 : decode cX1_atom 61 = .ok (.invokespecial 507, 3) := dk_183 1 251 (dk_at dksX1_atom_2 14 rfl rfl)
theorem dX1_atom_64 : decode cX1_atom 64 = .ok (.areturn, 1) := dk_176 (dk_at dksX1_atom_2 17 rfl rfl)
theorem dX1_atom_65 : decode cX1_atom 65 = .ok (.new 509, 3) := dk_187 1 253 (dk_at dksX1_atom_2 18 rfl rfl)
theorem dX1_atom_68 : decode cX1_atom 68 = .ok (.dup, 1) := dk_89 (dk_at dksX1_atom_2 21 rfl rfl)
theorem dX1_atom_69 : decode cX1_atom 69 = .ok (.aload_n 0, 1) := dk_42 (dk_at dksX1_atom_2 22 rfl rfl)
theorem dX1_atom_70 : decode cX1_atom 70 = .ok (.iconst 4, 1) := dk_7 (dk_at dksX1_atom_2 23 rfl rfl)
theorem dX1_atom_71 : decode cX1_atom 71 = .ok (.invokevirtual 511, 3) := dk_182 1 255 (dk_at dksX1_atom_3 0 rfl rfl)
theorem dX1_atom_74 : decode cX1_atom 74 = .ok (.invokespecial 514, 3) := dk_183 2 2 (dk_at dksX1_atom_3 3 rfl rfl)
theorem dX1_atom_77 : decode cX1_atom 77 = .ok (.areturn, 1) := dk_176 (dk_at dksX1_atom_3 6 rfl rfl)
abbrev cX1_lettersOf : ByteArray := prog_1_method_58_code
def yX1_lettersOf : MethodName := ⟨RX1, "lettersOf", "(I)Ljava/lang/String;"⟩
def dkwX1_lettersOf_1 : List UInt8 := [176]
abbrev dktX1_lettersOf_1 : List UInt8 := dkwX1_lettersOf_1 ++ []
def dkwX1_lettersOf_0 : List UInt8 := [26, 154, 0, 9, 19, 1, 208, 167, 0, 17, 26, 4, 160, 0, 9, 19, 1, 210, 167, 0, 6, 19, 1, 212]
abbrev dktX1_lettersOf_0 : List UInt8 := dkwX1_lettersOf_0 ++ dktX1_lettersOf_1
theorem dksX1_lettersOf_0 : cX1_lettersOf.data.toList.drop 0 = dktX1_lettersOf_0 := by decide +kernel
theorem dksX1_lettersOf_1 : cX1_lettersOf.data.toList.drop 24 = dktX1_lettersOf_1 := dk_seg dksX1_lettersOf_0 24 rfl rfl
theorem dX1_lettersOf_0 : decode cX1_lettersOf 0 = .ok (.iload_n 0, 1) := dk_26 (dk_at dksX1_lettersOf_0 0 rfl rfl)
theorem dX1_lettersOf_1 : decode cX1_lettersOf 1 = .ok (.ifCond .ne 9, 3) := dk_154 0 9 (dk_at dksX1_lettersOf_0 1 rfl rfl)
theorem dX1_lettersOf_4 : decode cX1_lettersOf 4 = .ok (.ldc_w 464, 3) := dk_19 1 208 (dk_at dksX1_lettersOf_0 4 rfl rfl)
theorem dX1_lettersOf_7 : decode cX1_lettersOf 7 = .ok (.goto 17, 3) := dk_167 0 17 (dk_at dksX1_lettersOf_0 7 rfl rfl)
theorem dX1_lettersOf_10 : decode cX1_lettersOf 10 = .ok (.iload_n 0, 1) := dk_26 (dk_at dksX1_lettersOf_0 10 rfl rfl)
theorem dX1_lettersOf_11 : decode cX1_lettersOf 11 = .ok (.iconst 1, 1) := dk_4 (dk_at dksX1_lettersOf_0 11 rfl rfl)
theorem dX1_lettersOf_12 : decode cX1_lettersOf 12 = .ok (.if_icmp .ne 9, 3) := dk_160 0 9 (dk_at dksX1_lettersOf_0 12 rfl rfl)
theorem dX1_lettersOf_15 : decode cX1_lettersOf 15 = .ok (.ldc_w 466, 3) := dk_19 1 210 (dk_at dksX1_lettersOf_0 15 rfl rfl)
theorem dX1_lettersOf_18 : decode cX1_lettersOf 18 = .ok (.goto 6, 3) := dk_167 0 6 (dk_at dksX1_lettersOf_0 18 rfl rfl)
theorem dX1_lettersOf_21 : decode cX1_lettersOf 21 = .ok (.ldc_w 468, 3) := dk_19 1 212 (dk_at dksX1_lettersOf_0 21 rfl rfl)
theorem dX1_lettersOf_24 : decode cX1_lettersOf 24 = .ok (.areturn, 1) := dk_176 (dk_at dksX1_lettersOf_1 0 rfl rfl)
abbrev cX1_number : ByteArray := prog_1_method_61_code
def yX1_number : MethodName := ⟨RX1, "number", "(I)I"⟩
def dkwX1_number_3 : List UInt8 := [100, 61, 42, 89, 180, 1, 205, 4, 96, 181, 1, 205, 132, 3, 1, 167, 255, 185, 28, 172]
abbrev dktX1_number_3 : List UInt8 := dkwX1_number_3 ++ []
def dkwX1_number_2 : List UInt8 := [4, 167, 0, 4, 3, 182, 1, 220, 16, 10, 28, 104, 42, 180, 0, 62, 42, 180, 1, 205, 51, 96, 16, 48]
abbrev dktX1_number_2 : List UInt8 := dkwX1_number_2 ++ dktX1_number_3
def dkwX1_number_1 : List UInt8 := [162, 0, 66, 42, 180, 0, 62, 42, 180, 1, 205, 51, 184, 1, 217, 153, 0, 51, 42, 29, 27, 162, 0, 7]
abbrev dktX1_number_1 : List UInt8 := dkwX1_number_1 ++ dktX1_number_2
def dkwX1_number_0 : List UInt8 := [42, 42, 182, 1, 214, 184, 1, 217, 182, 1, 220, 3, 61, 3, 62, 42, 180, 1, 205, 42, 180, 1, 202]
abbrev dktX1_number_0 : List UInt8 := dkwX1_number_0 ++ dktX1_number_1
theorem dksX1_number_0 : cX1_number.data.toList.drop 0 = dktX1_number_0 := by decide +kernel
theorem dksX1_number_1 : cX1_number.data.toList.drop 23 = dktX1_number_1 := dk_seg dksX1_number_0 23 rfl rfl
theorem dksX1_number_2 : cX1_number.data.toList.drop 47 = dktX1_number_2 := dk_seg dksX1_number_1 24 rfl rfl
theorem dksX1_number_3 : cX1_number.data.toList.drop 71 = dktX1_number_3 := dk_seg dksX1_number_2 24 rfl rfl
theorem dX1_number_0 : decode cX1_number 0 = .ok (.aload_n 0, 1) := dk_42 (dk_at dksX1_number_0 0 rfl rfl)
theorem dX1_number_1 : decode cX1_number 1 = .ok (.aload_n 0, 1) := dk_42 (dk_at dksX1_number_0 1 rfl rfl)
theorem dX1_number_2 : decode cX1_number 2 = .ok (.invokevirtual 470, 3) := dk_182 1 214 (dk_at dksX1_number_0 2 rfl rfl)
theorem dX1_number_5 : decode cX1_number 5 = .ok (.invokestatic 473, 3) := dk_184 1 217 (dk_at dksX1_number_0 5 rfl rfl)
theorem dX1_number_8 : decode cX1_number 8 = .ok (.invokevirtual 476, 3) := dk_182 1 220 (dk_at dksX1_number_0 8 rfl rfl)
theorem dX1_number_11 : decode cX1_number 11 = .ok (.iconst 0, 1) := dk_3 (dk_at dksX1_number_0 11 rfl rfl)
theorem dX1_number_12 : decode cX1_number 12 = .ok (.istore_n 2, 1) := dk_61 (dk_at dksX1_number_0 12 rfl rfl)
theorem dX1_number_13 : decode cX1_number 13 = .ok (.iconst 0, 1) := dk_3 (dk_at dksX1_number_0 13 rfl rfl)
theorem dX1_number_14 : decode cX1_number 14 = .ok (.istore_n 3, 1) := dk_62 (dk_at dksX1_number_0 14 rfl rfl)
theorem dX1_number_15 : decode cX1_number 15 = .ok (.aload_n 0, 1) := dk_42 (dk_at dksX1_number_0 15 rfl rfl)
theorem dX1_number_16 : decode cX1_number 16 = .ok (.getfield 461, 3) := dk_180 1 205 (dk_at dksX1_number_0 16 rfl rfl)
theorem dX1_number_19 : decode cX1_number 19 = .ok (.aload_n 0, 1) := dk_42 (dk_at dksX1_number_0 19 rfl rfl)
theorem dX1_number_20 : decode cX1_number 20 = .ok (.getfield 458, 3) := dk_180 1 202 (dk_at dksX1_number_0 20 rfl rfl)
theorem dX1_number_23 : decode cX1_number 23 = .ok (.if_icmp .ge 66, 3) := dk_162 0 66 (dk_at dksX1_number_1 0 rfl rfl)
theorem dX1_number_26 : decode cX1_number 26 = .ok (.aload_n 0, 1) := dk_42 (dk_at dksX1_number_1 3 rfl rfl)
theorem dX1_number_27 : decode cX1_number 27 = .ok (.getfield 62, 3) := dk_180 0 62 (dk_at dksX1_number_1 4 rfl rfl)
theorem dX1_number_30 : decode cX1_number 30 = .ok (.aload_n 0, 1) := dk_42 (dk_at dksX1_number_1 7 rfl rfl)
theorem dX1_number_31 : decode cX1_number 31 = .ok (.getfield 461, 3) := dk_180 1 205 (dk_at dksX1_number_1 8 rfl rfl)
theorem dX1_number_34 : decode cX1_number 34 = .ok (.baload, 1) := dk_51 (dk_at dksX1_number_1 11 rfl rfl)
theorem dX1_number_35 : decode cX1_number 35 = .ok (.invokestatic 473, 3) := dk_184 1 217 (dk_at dksX1_number_1 12 rfl rfl)
theorem dX1_number_38 : decode cX1_number 38 = .ok (.ifCond .eq 51, 3) := dk_153 0 51 (dk_at dksX1_number_1 15 rfl rfl)
theorem dX1_number_41 : decode cX1_number 41 = .ok (.aload_n 0, 1) := dk_42 (dk_at dksX1_number_1 18 rfl rfl)
theorem dX1_number_42 : decode cX1_number 42 = .ok (.iload_n 3, 1) := dk_29 (dk_at dksX1_number_1 19 rfl rfl)
theorem dX1_number_43 : decode cX1_number 43 = .ok (.iload_n 1, 1) := dk_27 (dk_at dksX1_number_1 20 rfl rfl)
theorem dX1_number_44 : decode cX1_number 44 = .ok (.if_icmp .ge 7, 3) := dk_162 0 7 (dk_at dksX1_number_1 21 rfl rfl)
theorem dX1_number_47 : decode cX1_number 47 = .ok (.iconst 1, 1) := dk_4 (dk_at dksX1_number_2 0 rfl rfl)
theorem dX1_number_48 : decode cX1_number 48 = .ok (.goto 4, 3) := dk_167 0 4 (dk_at dksX1_number_2 1 rfl rfl)
theorem dX1_number_51 : decode cX1_number 51 = .ok (.iconst 0, 1) := dk_3 (dk_at dksX1_number_2 4 rfl rfl)
theorem dX1_number_52 : decode cX1_number 52 = .ok (.invokevirtual 476, 3) := dk_182 1 220 (dk_at dksX1_number_2 5 rfl rfl)
theorem dX1_number_55 : decode cX1_number 55 = .ok (.bipush 10, 2) := dk_16 10 (dk_at dksX1_number_2 8 rfl rfl)
theorem dX1_number_57 : decode cX1_number 57 = .ok (.iload_n 2, 1) := dk_28 (dk_at dksX1_number_2 10 rfl rfl)
theorem dX1_number_58 : decode cX1_number 58 = .ok (.imul, 1) := dk_104 (dk_at dksX1_number_2 11 rfl rfl)
theorem dX1_number_59 : decode cX1_number 59 = .ok (.aload_n 0, 1) := dk_42 (dk_at dksX1_number_2 12 rfl rfl)
theorem dX1_number_60 : decode cX1_number 60 = .ok (.getfield 62, 3) := dk_180 0 62 (dk_at dksX1_number_2 13 rfl rfl)
theorem dX1_number_63 : decode cX1_number 63 = .ok (.aload_n 0, 1) := dk_42 (dk_at dksX1_number_2 16 rfl rfl)
theorem dX1_number_64 : decode cX1_number 64 = .ok (.getfield 461, 3) := dk_180 1 205 (dk_at dksX1_number_2 17 rfl rfl)
theorem dX1_number_67 : decode cX1_number 67 = .ok (.baload, 1) := dk_51 (dk_at dksX1_number_2 20 rfl rfl)
theorem dX1_number_68 : decode cX1_number 68 = .ok (.iadd, 1) := dk_96 (dk_at dksX1_number_2 21 rfl rfl)
theorem dX1_number_69 : decode cX1_number 69 = .ok (.bipush 48, 2) := dk_16 48 (dk_at dksX1_number_2 22 rfl rfl)
theorem dX1_number_71 : decode cX1_number 71 = .ok (.isub, 1) := dk_100 (dk_at dksX1_number_3 0 rfl rfl)
theorem dX1_number_72 : decode cX1_number 72 = .ok (.istore_n 2, 1) := dk_61 (dk_at dksX1_number_3 1 rfl rfl)
theorem dX1_number_73 : decode cX1_number 73 = .ok (.aload_n 0, 1) := dk_42 (dk_at dksX1_number_3 2 rfl rfl)
theorem dX1_number_74 : decode cX1_number 74 = .ok (.dup, 1) := dk_89 (dk_at dksX1_number_3 3 rfl rfl)
theorem dX1_number_75 : decode cX1_number 75 = .ok (.getfield 461, 3) := dk_180 1 205 (dk_at dksX1_number_3 4 rfl rfl)
theorem dX1_number_78 : decode cX1_number 78 = .ok (.iconst 1, 1) := dk_4 (dk_at dksX1_number_3 7 rfl rfl)
theorem dX1_number_79 : decode cX1_number 79 = .ok (.iadd, 1) := dk_96 (dk_at dksX1_number_3 8 rfl rfl)
theorem dX1_number_80 : decode cX1_number 80 = .ok (.putfield 461, 3) := dk_181 1 205 (dk_at dksX1_number_3 9 rfl rfl)
theorem dX1_number_83 : decode cX1_number 83 = .ok (.iinc 3 1, 3) := dk_132 3 1 (dk_at dksX1_number_3 12 rfl rfl)
theorem dX1_number_86 : decode cX1_number 86 = .ok (.goto (-71), 3) := dk_167 255 185 (dk_at dksX1_number_3 15 rfl rfl)
theorem dX1_number_89 : decode cX1_number 89 = .ok (.iload_n 2, 1) := dk_28 (dk_at dksX1_number_3 18 rfl rfl)
theorem dX1_number_90 : decode cX1_number 90 = .ok (.ireturn, 1) := dk_172 (dk_at dksX1_number_3 19 rfl rfl)
abbrev cX1_isDigit : ByteArray := prog_1_method_59_code
def yX1_isDigit : MethodName := ⟨RX1, "isDigit", "(I)Z"⟩
def dkwX1_isDigit_0 : List UInt8 := [26, 16, 48, 161, 0, 13, 26, 16, 57, 163, 0, 7, 4, 167, 0, 4, 3, 172]
abbrev dktX1_isDigit_0 : List UInt8 := dkwX1_isDigit_0 ++ []
theorem dksX1_isDigit_0 : cX1_isDigit.data.toList.drop 0 = dktX1_isDigit_0 := by decide +kernel
theorem dX1_isDigit_0 : decode cX1_isDigit 0 = .ok (.iload_n 0, 1) := dk_26 (dk_at dksX1_isDigit_0 0 rfl rfl)
theorem dX1_isDigit_1 : decode cX1_isDigit 1 = .ok (.bipush 48, 2) := dk_16 48 (dk_at dksX1_isDigit_0 1 rfl rfl)
theorem dX1_isDigit_3 : decode cX1_isDigit 3 = .ok (.if_icmp .lt 13, 3) := dk_161 0 13 (dk_at dksX1_isDigit_0 3 rfl rfl)
theorem dX1_isDigit_6 : decode cX1_isDigit 6 = .ok (.iload_n 0, 1) := dk_26 (dk_at dksX1_isDigit_0 6 rfl rfl)
theorem dX1_isDigit_7 : decode cX1_isDigit 7 = .ok (.bipush 57, 2) := dk_16 57 (dk_at dksX1_isDigit_0 7 rfl rfl)
theorem dX1_isDigit_9 : decode cX1_isDigit 9 = .ok (.if_icmp .gt 7, 3) := dk_163 0 7 (dk_at dksX1_isDigit_0 9 rfl rfl)
theorem dX1_isDigit_12 : decode cX1_isDigit 12 = .ok (.iconst 1, 1) := dk_4 (dk_at dksX1_isDigit_0 12 rfl rfl)
theorem dX1_isDigit_13 : decode cX1_isDigit 13 = .ok (.goto 4, 3) := dk_167 0 4 (dk_at dksX1_isDigit_0 13 rfl rfl)
theorem dX1_isDigit_16 : decode cX1_isDigit 16 = .ok (.iconst 0, 1) := dk_3 (dk_at dksX1_isDigit_0 16 rfl rfl)
theorem dX1_isDigit_17 : decode cX1_isDigit 17 = .ok (.ireturn, 1) := dk_172 (dk_at dksX1_isDigit_0 17 rfl rfl)
abbrev cX1_whole : ByteArray := prog_1_method_73_code
def yX1_whole : MethodName := ⟨RX1, "whole", "(I)LCityBrigade$Clause;"⟩
def dkwX1_whole_2 : List UInt8 := [42, 42, 182, 1, 214, 2, 160, 0, 7, 4, 167, 0, 4, 3, 182, 1, 220, 44, 176]
abbrev dktX1_whole_2 : List UInt8 := dkwX1_whole_2 ++ []
def dkwX1_whole_1 : List UInt8 := [180, 1, 205, 4, 96, 181, 1, 205, 45, 42, 182, 2, 53, 181, 2, 57, 45, 180, 2, 57, 78, 167, 255, 224]
abbrev dktX1_whole_1 : List UInt8 := dkwX1_whole_1 ++ dktX1_whole_2
def dkwX1_whole_0 : List UInt8 := [42, 27, 182, 2, 50, 42, 182, 2, 53, 77, 44, 78, 42, 182, 1, 214, 16, 59, 160, 0, 29, 42, 89]
abbrev dktX1_whole_0 : List UInt8 := dkwX1_whole_0 ++ dktX1_whole_1
theorem dksX1_whole_0 : cX1_whole.data.toList.drop 0 = dktX1_whole_0 := by decide +kernel
theorem dksX1_whole_1 : cX1_whole.data.toList.drop 23 = dktX1_whole_1 := dk_seg dksX1_whole_0 23 rfl rfl
theorem dksX1_whole_2 : cX1_whole.data.toList.drop 47 = dktX1_whole_2 := dk_seg dksX1_whole_1 24 rfl rfl
theorem dX1_whole_0 : decode cX1_whole 0 = .ok (.aload_n 0, 1) := dk_42 (dk_at dksX1_whole_0 0 rfl rfl)
theorem dX1_whole_1 : decode cX1_whole 1 = .ok (.iload_n 1, 1) := dk_27 (dk_at dksX1_whole_0 1 rfl rfl)
theorem dX1_whole_2 : decode cX1_whole 2 = .ok (.invokevirtual 562, 3) := dk_182 2 50 (dk_at dksX1_whole_0 2 rfl rfl)
theorem dX1_whole_5 : decode cX1_whole 5 = .ok (.aload_n 0, 1) := dk_42 (dk_at dksX1_whole_0 5 rfl rfl)
theorem dX1_whole_6 : decode cX1_whole 6 = .ok (.invokevirtual 565, 3) := dk_182 2 53 (dk_at dksX1_whole_0 6 rfl rfl)
theorem dX1_whole_9 : decode cX1_whole 9 = .ok (.astore_n 2, 1) := dk_77 (dk_at dksX1_whole_0 9 rfl rfl)
theorem dX1_whole_10 : decode cX1_whole 10 = .ok (.aload_n 2, 1) := dk_44 (dk_at dksX1_whole_0 10 rfl rfl)
theorem dX1_whole_11 : decode cX1_whole 11 = .ok (.astore_n 3, 1) := dk_78 (dk_at dksX1_whole_0 11 rfl rfl)
theorem dX1_whole_12 : decode cX1_whole 12 = .ok (.aload_n 0, 1) := dk_42 (dk_at dksX1_whole_0 12 rfl rfl)
theorem dX1_whole_13 : decode cX1_whole 13 = .ok (.invokevirtual 470, 3) := dk_182 1 214 (dk_at dksX1_whole_0 13 rfl rfl)
theorem dX1_whole_16 : decode cX1_whole 16 = .ok (.bipush 59, 2) := dk_16 59 (dk_at dksX1_whole_0 16 rfl rfl)
theorem dX1_whole_18 : decode cX1_whole 18 = .ok (.if_icmp .ne 29, 3) := dk_160 0 29 (dk_at dksX1_whole_0 18 rfl rfl)
theorem dX1_whole_21 : decode cX1_whole 21 = .ok (.aload_n 0, 1) := dk_42 (dk_at dksX1_whole_0 21 rfl rfl)
theorem dX1_whole_22 : decode cX1_whole 22 = .ok (.dup, 1) := dk_89 (dk_at dksX1_whole_0 22 rfl rfl)
theorem dX1_whole_23 : decode cX1_whole 23 = .ok (.getfield 461, 3) := dk_180 1 205 (dk_at dksX1_whole_1 0 rfl rfl)
theorem dX1_whole_26 : decode cX1_whole 26 = .ok (.iconst 1, 1) := dk_4 (dk_at dksX1_whole_1 3 rfl rfl)
theorem dX1_whole_27 : decode cX1_whole 27 = .ok (.iadd, 1) := dk_96 (dk_at dksX1_whole_1 4 rfl rfl)
theorem dX1_whole_28 : decode cX1_whole 28 = .ok (.putfield 461, 3) := dk_181 1 205 (dk_at dksX1_whole_1 5 rfl rfl)
theorem dX1_whole_31 : decode cX1_whole 31 = .ok (.aload_n 3, 1) := dk_45 (dk_at dksX1_whole_1 8 rfl rfl)
theorem dX1_whole_32 : decode cX1_whole 32 = .ok (.aload_n 0, 1) := dk_42 (dk_at dksX1_whole_1 9 rfl rfl)
theorem dX1_whole_33 : decode cX1_whole 33 = .ok (.invokevirtual 565, 3) := dk_182 2 53 (dk_at dksX1_whole_1 10 rfl rfl)
theorem dX1_whole_36 : decode cX1_whole 36 = .ok (.putfield 569, 3) := dk_181 2 57 (dk_at dksX1_whole_1 13 rfl rfl)
theorem dX1_whole_39 : decode cX1_whole 39 = .ok (.aload_n 3, 1) := dk_45 (dk_at dksX1_whole_1 16 rfl rfl)
theorem dX1_whole_40 : decode cX1_whole 40 = .ok (.getfield 569, 3) := dk_180 2 57 (dk_at dksX1_whole_1 17 rfl rfl)
theorem dX1_whole_43 : decode cX1_whole 43 = .ok (.astore_n 3, 1) := dk_78 (dk_at dksX1_whole_1 20 rfl rfl)
theorem dX1_whole_44 : decode cX1_whole 44 = .ok (.goto (-32), 3) := dk_167 255 224 (dk_at dksX1_whole_1 21 rfl rfl)
theorem dX1_whole_47 : decode cX1_whole 47 = .ok (.aload_n 0, 1) := dk_42 (dk_at dksX1_whole_2 0 rfl rfl)
theorem dX1_whole_48 : decode cX1_whole 48 = .ok (.aload_n 0, 1) := dk_42 (dk_at dksX1_whole_2 1 rfl rfl)
theorem dX1_whole_49 : decode cX1_whole 49 = .ok (.invokevirtual 470, 3) := dk_182 1 214 (dk_at dksX1_whole_2 2 rfl rfl)
theorem dX1_whole_52 : decode cX1_whole 52 = .ok (.iconst (-1), 1) := dk_2 (dk_at dksX1_whole_2 5 rfl rfl)
theorem dX1_whole_53 : decode cX1_whole 53 = .ok (.if_icmp .ne 7, 3) := dk_160 0 7 (dk_at dksX1_whole_2 6 rfl rfl)
theorem dX1_whole_56 : decode cX1_whole 56 = .ok (.iconst 1, 1) := dk_4 (dk_at dksX1_whole_2 9 rfl rfl)
theorem dX1_whole_57 : decode cX1_whole 57 = .ok (.goto 4, 3) := dk_167 0 4 (dk_at dksX1_whole_2 10 rfl rfl)
theorem dX1_whole_60 : decode cX1_whole 60 = .ok (.iconst 0, 1) := dk_3 (dk_at dksX1_whole_2 13 rfl rfl)
theorem dX1_whole_61 : decode cX1_whole 61 = .ok (.invokevirtual 476, 3) := dk_182 1 220 (dk_at dksX1_whole_2 14 rfl rfl)
theorem dX1_whole_64 : decode cX1_whole 64 = .ok (.aload_n 2, 1) := dk_44 (dk_at dksX1_whole_2 17 rfl rfl)
theorem dX1_whole_65 : decode cX1_whole 65 = .ok (.areturn, 1) := dk_176 (dk_at dksX1_whole_2 18 rfl rfl)
abbrev cX1_clause : ByteArray := prog_1_method_71_code
def yX1_clause : MethodName := ⟨RX1, "clause", "()LCityBrigade$Clause;"⟩
def dkwX1_clause_6 : List UInt8 := [79, 167, 255, 183, 43, 176]
abbrev dktX1_clause_6 : List UInt8 := dkwX1_clause_6 ++ []
def dkwX1_clause_5 : List UInt8 := [181, 1, 205, 43, 180, 2, 47, 28, 16, 9, 43, 180, 2, 47, 28, 46, 29, 96, 16, 48, 100, 184, 1, 86]
abbrev dktX1_clause_5 : List UInt8 := dkwX1_clause_5 ++ dktX1_clause_6
def dkwX1_clause_4 : List UInt8 := [181, 1, 205, 42, 182, 1, 214, 62, 42, 29, 184, 1, 217, 182, 1, 220, 42, 89, 180, 1, 205, 4, 96]
abbrev dktX1_clause_4 : List UInt8 := dkwX1_clause_4 ++ dktX1_clause_5
def dkwX1_clause_3 : List UInt8 := [182, 2, 43, 153, 0, 72, 19, 2, 37, 42, 182, 1, 214, 182, 1, 244, 61, 42, 89, 180, 1, 205, 4, 96]
abbrev dktX1_clause_3 : List UInt8 := dkwX1_clause_3 ++ dktX1_clause_4
def dkwX1_clause_2 : List UInt8 := [160, 0, 14, 43, 42, 6, 182, 1, 255, 181, 2, 40, 43, 176, 42, 42, 182, 2, 43, 182, 1, 220, 42]
abbrev dktX1_clause_2 : List UInt8 := dkwX1_clause_2 ++ dktX1_clause_3
def dkwX1_clause_1 : List UInt8 := [167, 0, 4, 3, 182, 1, 220, 42, 89, 180, 1, 205, 4, 96, 181, 1, 205, 42, 180, 1, 237, 5]
abbrev dktX1_clause_1 : List UInt8 := dkwX1_clause_1 ++ dktX1_clause_2
def dkwX1_clause_0 : List UInt8 := [187, 0, 66, 89, 42, 182, 2, 23, 183, 2, 39, 76, 42, 42, 182, 1, 214, 16, 63, 160, 0, 7, 4]
abbrev dktX1_clause_0 : List UInt8 := dkwX1_clause_0 ++ dktX1_clause_1
theorem dksX1_clause_0 : cX1_clause.data.toList.drop 0 = dktX1_clause_0 := by decide +kernel
theorem dksX1_clause_1 : cX1_clause.data.toList.drop 23 = dktX1_clause_1 := dk_seg dksX1_clause_0 23 rfl rfl
theorem dksX1_clause_2 : cX1_clause.data.toList.drop 45 = dktX1_clause_2 := dk_seg dksX1_clause_1 22 rfl rfl
theorem dksX1_clause_3 : cX1_clause.data.toList.drop 68 = dktX1_clause_3 := dk_seg dksX1_clause_2 23 rfl rfl
theorem dksX1_clause_4 : cX1_clause.data.toList.drop 92 = dktX1_clause_4 := dk_seg dksX1_clause_3 24 rfl rfl
theorem dksX1_clause_5 : cX1_clause.data.toList.drop 115 = dktX1_clause_5 := dk_seg dksX1_clause_4 23 rfl rfl
theorem dksX1_clause_6 : cX1_clause.data.toList.drop 139 = dktX1_clause_6 := dk_seg dksX1_clause_5 24 rfl rfl
theorem dX1_clause_0 : decode cX1_clause 0 = .ok (.new 66, 3) := dk_187 0 66 (dk_at dksX1_clause_0 0 rfl rfl)
theorem dX1_clause_3 : decode cX1_clause 3 = .ok (.dup, 1) := dk_89 (dk_at dksX1_clause_0 3 rfl rfl)
theorem dX1_clause_4 : decode cX1_clause 4 = .ok (.aload_n 0, 1) := dk_42 (dk_at dksX1_clause_0 4 rfl rfl)
theorem dX1_clause_5 : decode cX1_clause 5 = .ok (.invokevirtual 535, 3) := dk_182 2 23 (dk_at dksX1_clause_0 5 rfl rfl)
theorem dX1_clause_8 : decode cX1_clause 8 = .ok (.invokespecial 551, 3) := dk_183 2 39 (dk_at dksX1_clause_0 8 rfl rfl)
theorem dX1_clause_11 : decode cX1_clause 11 = .ok (.astore_n 1, 1) := dk_76 (dk_at dksX1_clause_0 11 rfl rfl)
theorem dX1_clause_12 : decode cX1_clause 12 = .ok (.aload_n 0, 1) := dk_42 (dk_at dksX1_clause_0 12 rfl rfl)
theorem dX1_clause_13 : decode cX1_clause 13 = .ok (.aload_n 0, 1) := dk_42 (dk_at dksX1_clause_0 13 rfl rfl)
theorem dX1_clause_14 : decode cX1_clause 14 = .ok (.invokevirtual 470, 3) := dk_182 1 214 (dk_at dksX1_clause_0 14 rfl rfl)
theorem dX1_clause_17 : decode cX1_clause 17 = .ok (.bipush 63, 2) := dk_16 63 (dk_at dksX1_clause_0 17 rfl rfl)
theorem dX1_clause_19 : decode cX1_clause 19 = .ok (.if_icmp .ne 7, 3) := dk_160 0 7 (dk_at dksX1_clause_0 19 rfl rfl)
theorem dX1_clause_22 : decode cX1_clause 22 = .ok (.iconst 1, 1) := dk_4 (dk_at dksX1_clause_0 22 rfl rfl)
theorem dX1_clause_23 : decode cX1_clause 23 = .ok (.goto 4, 3) := dk_167 0 4 (dk_at dksX1_clause_1 0 rfl rfl)
theorem dX1_clause_26 : decode cX1_clause 26 = .ok (.iconst 0, 1) := dk_3 (dk_at dksX1_clause_1 3 rfl rfl)
theorem dX1_clause_27 : decode cX1_clause 27 = .ok (.invokevirtual 476, 3) := dk_182 1 220 (dk_at dksX1_clause_1 4 rfl rfl)
theorem dX1_clause_30 : decode cX1_clause 30 = .ok (.aload_n 0, 1) := dk_42 (dk_at dksX1_clause_1 7 rfl rfl)
theorem dX1_clause_31 : decode cX1_clause 31 = .ok (.dup, 1) := dk_89 (dk_at dksX1_clause_1 8 rfl rfl)
theorem dX1_clause_32 : decode cX1_clause 32 = .ok (.getfield 461, 3) := dk_180 1 205 (dk_at dksX1_clause_1 9 rfl rfl)
theorem dX1_clause_35 : decode cX1_clause 35 = .ok (.iconst 1, 1) := dk_4 (dk_at dksX1_clause_1 12 rfl rfl)
theorem dX1_clause_36 : decode cX1_clause 36 = .ok (.iadd, 1) := dk_96 (dk_at dksX1_clause_1 13 rfl rfl)
theorem dX1_clause_37 : decode cX1_clause 37 = .ok (.putfield 461, 3) := dk_181 1 205 (dk_at dksX1_clause_1 14 rfl rfl)
theorem dX1_clause_40 : decode cX1_clause 40 = .ok (.aload_n 0, 1) := dk_42 (dk_at dksX1_clause_1 17 rfl rfl)
theorem dX1_clause_41 : decode cX1_clause 41 = .ok (.getfield 493, 3) := dk_180 1 237 (dk_at dksX1_clause_1 18 rfl rfl)
theorem dX1_clause_44 : decode cX1_clause 44 = .ok (.iconst 2, 1) := dk_5 (dk_at dksX1_clause_1 21 rfl rfl)
theorem dX1_clause_45 : decode cX1_clause 45 = .ok (.if_icmp .ne 14, 3) := dk_160 0 14 (dk_at dksX1_clause_2 0 rfl rfl)
theorem dX1_clause_48 : decode cX1_clause 48 = .ok (.aload_n 1, 1) := dk_43 (dk_at dksX1_clause_2 3 rfl rfl)
theorem dX1_clause_49 : decode cX1_clause 49 = .ok (.aload_n 0, 1) := dk_42 (dk_at dksX1_clause_2 4 rfl rfl)
theorem dX1_clause_50 : decode cX1_clause 50 = .ok (.iconst 3, 1) := dk_6 (dk_at dksX1_clause_2 5 rfl rfl)
theorem dX1_clause_51 : decode cX1_clause 51 = .ok (.invokevirtual 511, 3) := dk_182 1 255 (dk_at dksX1_clause_2 6 rfl rfl)
theorem dX1_clause_54 : decode cX1_clause 54 = .ok (.putfield 552, 3) := dk_181 2 40 (dk_at dksX1_clause_2 9 rfl rfl)
theorem dX1_clause_57 : decode cX1_clause 57 = .ok (.aload_n 1, 1) := dk_43 (dk_at dksX1_clause_2 12 rfl rfl)
theorem dX1_clause_58 : decode cX1_clause 58 = .ok (.areturn, 1) := dk_176 (dk_at dksX1_clause_2 13 rfl rfl)
theorem dX1_clause_59 : decode cX1_clause 59 = .ok (.aload_n 0, 1) := dk_42 (dk_at dksX1_clause_2 14 rfl rfl)
theorem dX1_clause_60 : decode cX1_clause 60 = .ok (.aload_n 0, 1) := dk_42 (dk_at dksX1_clause_2 15 rfl rfl)
theorem dX1_clause_61 : decode cX1_clause 61 = .ok (.invokevirtual 555, 3) := dk_182 2 43 (dk_at dksX1_clause_2 16 rfl rfl)
theorem dX1_clause_64 : decode cX1_clause 64 = .ok (.invokevirtual 476, 3) := dk_182 1 220 (dk_at dksX1_clause_2 19 rfl rfl)
theorem dX1_clause_67 : decode cX1_clause 67 = .ok (.aload_n 0, 1) := dk_42 (dk_at dksX1_clause_2 22 rfl rfl)
theorem dX1_clause_68 : decode cX1_clause 68 = .ok (.invokevirtual 555, 3) := dk_182 2 43 (dk_at dksX1_clause_3 0 rfl rfl)
theorem dX1_clause_71 : decode cX1_clause 71 = .ok (.ifCond .eq 72, 3) := dk_153 0 72 (dk_at dksX1_clause_3 3 rfl rfl)
theorem dX1_clause_74 : decode cX1_clause 74 = .ok (.ldc_w 549, 3) := dk_19 2 37 (dk_at dksX1_clause_3 6 rfl rfl)
theorem dX1_clause_77 : decode cX1_clause 77 = .ok (.aload_n 0, 1) := dk_42 (dk_at dksX1_clause_3 9 rfl rfl)
theorem dX1_clause_78 : decode cX1_clause 78 = .ok (.invokevirtual 470, 3) := dk_182 1 214 (dk_at dksX1_clause_3 10 rfl rfl)
theorem dX1_clause_81 : decode cX1_clause 81 = .ok (.invokevirtual 500, 3) := dk_182 1 244 (dk_at dksX1_clause_3 13 rfl rfl)
theorem dX1_clause_84 : decode cX1_clause 84 = .ok (.istore_n 2, 1) := dk_61 (dk_at dksX1_clause_3 16 rfl rfl)
theorem dX1_clause_85 : decode cX1_clause 85 = .ok (.aload_n 0, 1) := dk_42 (dk_at dksX1_clause_3 17 rfl rfl)
theorem dX1_clause_86 : decode cX1_clause 86 = .ok (.dup, 1) := dk_89 (dk_at dksX1_clause_3 18 rfl rfl)
theorem dX1_clause_87 : decode cX1_clause 87 = .ok (.getfield 461, 3) := dk_180 1 205 (dk_at dksX1_clause_3 19 rfl rfl)
theorem dX1_clause_90 : decode cX1_clause 90 = .ok (.iconst 1, 1) := dk_4 (dk_at dksX1_clause_3 22 rfl rfl)
theorem dX1_clause_91 : decode cX1_clause 91 = .ok (.iadd, 1) := dk_96 (dk_at dksX1_clause_3 23 rfl rfl)
theorem dX1_clause_92 : decode cX1_clause 92 = .ok (.putfield 461, 3) := dk_181 1 205 (dk_at dksX1_clause_4 0 rfl rfl)
theorem dX1_clause_95 : decode cX1_clause 95 = .ok (.aload_n 0, 1) := dk_42 (dk_at dksX1_clause_4 3 rfl rfl)
theorem dX1_clause_96 : decode cX1_clause 96 = .ok (.invokevirtual 470, 3) := dk_182 1 214 (dk_at dksX1_clause_4 4 rfl rfl)
theorem dX1_clause_99 : decode cX1_clause 99 = .ok (.istore_n 3, 1) := dk_62 (dk_at dksX1_clause_4 7 rfl rfl)
theorem dX1_clause_100 : decode cX1_clause 100 = .ok (.aload_n 0, 1) := dk_42 (dk_at dksX1_clause_4 8 rfl rfl)
theorem dX1_clause_101 : decode cX1_clause 101 = .ok (.iload_n 3, 1) := dk_29 (dk_at dksX1_clause_4 9 rfl rfl)
theorem dX1_clause_102 : decode cX1_clause 102 = .ok (.invokestatic 473, 3) := dk_184 1 217 (dk_at dksX1_clause_4 10 rfl rfl)
theorem dX1_clause_105 : decode cX1_clause 105 = .ok (.invokevirtual 476, 3) := dk_182 1 220 (dk_at dksX1_clause_4 13 rfl rfl)
theorem dX1_clause_108 : decode cX1_clause 108 = .ok (.aload_n 0, 1) := dk_42 (dk_at dksX1_clause_4 16 rfl rfl)
theorem dX1_clause_109 : decode cX1_clause 109 = .ok (.dup, 1) := dk_89 (dk_at dksX1_clause_4 17 rfl rfl)
theorem dX1_clause_110 : decode cX1_clause 110 = .ok (.getfield 461, 3) := dk_180 1 205 (dk_at dksX1_clause_4 18 rfl rfl)
theorem dX1_clause_113 : decode cX1_clause 113 = .ok (.iconst 1, 1) := dk_4 (dk_at dksX1_clause_4 21 rfl rfl)
theorem dX1_clause_114 : decode cX1_clause 114 = .ok (.iadd, 1) := dk_96 (dk_at dksX1_clause_4 22 rfl rfl)
theorem dX1_clause_115 : decode cX1_clause 115 = .ok (.putfield 461, 3) := dk_181 1 205 (dk_at dksX1_clause_5 0 rfl rfl)
theorem dX1_clause_118 : decode cX1_clause 118 = .ok (.aload_n 1, 1) := dk_43 (dk_at dksX1_clause_5 3 rfl rfl)
theorem dX1_clause_119 : decode cX1_clause 119 = .ok (.getfield 559, 3) := dk_180 2 47 (dk_at dksX1_clause_5 4 rfl rfl)
theorem dX1_clause_122 : decode cX1_clause 122 = .ok (.iload_n 2, 1) := dk_28 (dk_at dksX1_clause_5 7 rfl rfl)
theorem dX1_clause_123 : decode cX1_clause 123 = .ok (.bipush 9, 2) := dk_16 9 (dk_at dksX1_clause_5 8 rfl rfl)
theorem dX1_clause_125 : decode cX1_clause 125 = .ok (.aload_n 1, 1) := dk_43 (dk_at dksX1_clause_5 10 rfl rfl)
theorem dX1_clause_126 : decode cX1_clause 126 = .ok (.getfield 559, 3) := dk_180 2 47 (dk_at dksX1_clause_5 11 rfl rfl)
theorem dX1_clause_129 : decode cX1_clause 129 = .ok (.iload_n 2, 1) := dk_28 (dk_at dksX1_clause_5 14 rfl rfl)
theorem dX1_clause_130 : decode cX1_clause 130 = .ok (.iaload, 1) := dk_46 (dk_at dksX1_clause_5 15 rfl rfl)
theorem dX1_clause_131 : decode cX1_clause 131 = .ok (.iload_n 3, 1) := dk_29 (dk_at dksX1_clause_5 16 rfl rfl)
theorem dX1_clause_132 : decode cX1_clause 132 = .ok (.iadd, 1) := dk_96 (dk_at dksX1_clause_5 17 rfl rfl)
theorem dX1_clause_133 : decode cX1_clause 133 = .ok (.bipush 48, 2) := dk_16 48 (dk_at dksX1_clause_5 18 rfl rfl)
theorem dX1_clause_135 : decode cX1_clause 135 = .ok (.isub, 1) := dk_100 (dk_at dksX1_clause_5 20 rfl rfl)
theorem dX1_clause_136 : decode cX1_clause 136 = .ok (.invokestatic 342, 3) := dk_184 1 86 (dk_at dksX1_clause_5 21 rfl rfl)
theorem dX1_clause_139 : decode cX1_clause 139 = .ok (.iastore, 1) := dk_79 (dk_at dksX1_clause_6 0 rfl rfl)
theorem dX1_clause_140 : decode cX1_clause 140 = .ok (.goto (-73), 3) := dk_167 255 183 (dk_at dksX1_clause_6 1 rfl rfl)
theorem dX1_clause_143 : decode cX1_clause 143 = .ok (.aload_n 1, 1) := dk_43 (dk_at dksX1_clause_6 4 rfl rfl)
theorem dX1_clause_144 : decode cX1_clause 144 = .ok (.areturn, 1) := dk_176 (dk_at dksX1_clause_6 5 rfl rfl)
abbrev cX1_isAction : ByteArray := prog_1_method_70_code
def yX1_isAction : MethodName := ⟨RX1, "isAction", "()Z"⟩
def dkwX1_isAction_1 : List UInt8 := [172]
abbrev dktX1_isAction_1 : List UInt8 := dkwX1_isAction_1 ++ []
def dkwX1_isAction_0 : List UInt8 := [42, 182, 1, 214, 60, 27, 158, 0, 17, 19, 2, 37, 27, 182, 1, 244, 155, 0, 7, 4, 167, 0, 4, 3]
abbrev dktX1_isAction_0 : List UInt8 := dkwX1_isAction_0 ++ dktX1_isAction_1
theorem dksX1_isAction_0 : cX1_isAction.data.toList.drop 0 = dktX1_isAction_0 := by decide +kernel
theorem dksX1_isAction_1 : cX1_isAction.data.toList.drop 24 = dktX1_isAction_1 := dk_seg dksX1_isAction_0 24 rfl rfl
theorem dX1_isAction_0 : decode cX1_isAction 0 = .ok (.aload_n 0, 1) := dk_42 (dk_at dksX1_isAction_0 0 rfl rfl)
theorem dX1_isAction_1 : decode cX1_isAction 1 = .ok (.invokevirtual 470, 3) := dk_182 1 214 (dk_at dksX1_isAction_0 1 rfl rfl)
theorem dX1_isAction_4 : decode cX1_isAction 4 = .ok (.istore_n 1, 1) := dk_60 (dk_at dksX1_isAction_0 4 rfl rfl)
theorem dX1_isAction_5 : decode cX1_isAction 5 = .ok (.iload_n 1, 1) := dk_27 (dk_at dksX1_isAction_0 5 rfl rfl)
theorem dX1_isAction_6 : decode cX1_isAction 6 = .ok (.ifCond .le 17, 3) := dk_158 0 17 (dk_at dksX1_isAction_0 6 rfl rfl)
theorem dX1_isAction_9 : decode cX1_isAction 9 = .ok (.ldc_w 549, 3) := dk_19 2 37 (dk_at dksX1_isAction_0 9 rfl rfl)
theorem dX1_isAction_12 : decode cX1_isAction 12 = .ok (.iload_n 1, 1) := dk_27 (dk_at dksX1_isAction_0 12 rfl rfl)
theorem dX1_isAction_13 : decode cX1_isAction 13 = .ok (.invokevirtual 500, 3) := dk_182 1 244 (dk_at dksX1_isAction_0 13 rfl rfl)
theorem dX1_isAction_16 : decode cX1_isAction 16 = .ok (.ifCond .lt 7, 3) := dk_155 0 7 (dk_at dksX1_isAction_0 16 rfl rfl)
theorem dX1_isAction_19 : decode cX1_isAction 19 = .ok (.iconst 1, 1) := dk_4 (dk_at dksX1_isAction_0 19 rfl rfl)
theorem dX1_isAction_20 : decode cX1_isAction 20 = .ok (.goto 4, 3) := dk_167 0 4 (dk_at dksX1_isAction_0 20 rfl rfl)
theorem dX1_isAction_23 : decode cX1_isAction 23 = .ok (.iconst 0, 1) := dk_3 (dk_at dksX1_isAction_0 23 rfl rfl)
theorem dX1_isAction_24 : decode cX1_isAction 24 = .ok (.ireturn, 1) := dk_172 (dk_at dksX1_isAction_1 0 rfl rfl)
abbrev cX1_orders : ByteArray := prog_1_method_76_code
def yX1_orders : MethodName := ⟨RX1, "orders", "()I"⟩
def dkwX1_orders_2 : List UInt8 := [180, 2, 68, 4, 100, 172]
abbrev dktX1_orders_2 : List UInt8 := dkwX1_orders_2 ++ []
def dkwX1_orders_1 : List UInt8 := [83, 167, 0, 6, 76, 2, 172, 42, 89, 180, 2, 68, 4, 96, 181, 2, 68, 42, 3, 181, 1, 202, 42]
abbrev dktX1_orders_1 : List UInt8 := dkwX1_orders_1 ++ dktX1_orders_2
def dkwX1_orders_0 : List UInt8 := [42, 180, 2, 68, 16, 20, 160, 0, 5, 2, 172, 42, 180, 0, 68, 42, 180, 2, 68, 42, 3, 182, 2, 64]
abbrev dktX1_orders_0 : List UInt8 := dkwX1_orders_0 ++ dktX1_orders_1
theorem dksX1_orders_0 : cX1_orders.data.toList.drop 0 = dktX1_orders_0 := by decide +kernel
theorem dksX1_orders_1 : cX1_orders.data.toList.drop 24 = dktX1_orders_1 := dk_seg dksX1_orders_0 24 rfl rfl
theorem dksX1_orders_2 : cX1_orders.data.toList.drop 47 = dktX1_orders_2 := dk_seg dksX1_orders_1 23 rfl rfl
theorem dX1_orders_0 : decode cX1_orders 0 = .ok (.aload_n 0, 1) := dk_42 (dk_at dksX1_orders_0 0 rfl rfl)
theorem dX1_orders_1 : decode cX1_orders 1 = .ok (.getfield 580, 3) := dk_180 2 68 (dk_at dksX1_orders_0 1 rfl rfl)
theorem dX1_orders_4 : decode cX1_orders 4 = .ok (.bipush 20, 2) := dk_16 20 (dk_at dksX1_orders_0 4 rfl rfl)
theorem dX1_orders_6 : decode cX1_orders 6 = .ok (.if_icmp .ne 5, 3) := dk_160 0 5 (dk_at dksX1_orders_0 6 rfl rfl)
theorem dX1_orders_9 : decode cX1_orders 9 = .ok (.iconst (-1), 1) := dk_2 (dk_at dksX1_orders_0 9 rfl rfl)
theorem dX1_orders_10 : decode cX1_orders 10 = .ok (.ireturn, 1) := dk_172 (dk_at dksX1_orders_0 10 rfl rfl)
theorem dX1_orders_11 : decode cX1_orders 11 = .ok (.aload_n 0, 1) := dk_42 (dk_at dksX1_orders_0 11 rfl rfl)
theorem dX1_orders_12 : decode cX1_orders 12 = .ok (.getfield 68, 3) := dk_180 0 68 (dk_at dksX1_orders_0 12 rfl rfl)
theorem dX1_orders_15 : decode cX1_orders 15 = .ok (.aload_n 0, 1) := dk_42 (dk_at dksX1_orders_0 15 rfl rfl)
theorem dX1_orders_16 : decode cX1_orders 16 = .ok (.getfield 580, 3) := dk_180 2 68 (dk_at dksX1_orders_0 16 rfl rfl)
theorem dX1_orders_19 : decode cX1_orders 19 = .ok (.aload_n 0, 1) := dk_42 (dk_at dksX1_orders_0 19 rfl rfl)
theorem dX1_orders_20 : decode cX1_orders 20 = .ok (.iconst 0, 1) := dk_3 (dk_at dksX1_orders_0 20 rfl rfl)
theorem dX1_orders_21 : decode cX1_orders 21 = .ok (.invokevirtual 576, 3) := dk_182 2 64 (dk_at dksX1_orders_0 21 rfl rfl)
theorem dX1_orders_24 : decode cX1_orders 24 = .ok (.aastore, 1) := dk_83 (dk_at dksX1_orders_1 0 rfl rfl)
theorem dX1_orders_25 : decode cX1_orders 25 = .ok (.goto 6, 3) := dk_167 0 6 (dk_at dksX1_orders_1 1 rfl rfl)
theorem dX1_orders_28 : decode cX1_orders 28 = .ok (.astore_n 1, 1) := dk_76 (dk_at dksX1_orders_1 4 rfl rfl)
theorem dX1_orders_29 : decode cX1_orders 29 = .ok (.iconst (-1), 1) := dk_2 (dk_at dksX1_orders_1 5 rfl rfl)
theorem dX1_orders_30 : decode cX1_orders 30 = .ok (.ireturn, 1) := dk_172 (dk_at dksX1_orders_1 6 rfl rfl)
theorem dX1_orders_31 : decode cX1_orders 31 = .ok (.aload_n 0, 1) := dk_42 (dk_at dksX1_orders_1 7 rfl rfl)
theorem dX1_orders_32 : decode cX1_orders 32 = .ok (.dup, 1) := dk_89 (dk_at dksX1_orders_1 8 rfl rfl)
theorem dX1_orders_33 : decode cX1_orders 33 = .ok (.getfield 580, 3) := dk_180 2 68 (dk_at dksX1_orders_1 9 rfl rfl)
theorem dX1_orders_36 : decode cX1_orders 36 = .ok (.iconst 1, 1) := dk_4 (dk_at dksX1_orders_1 12 rfl rfl)
theorem dX1_orders_37 : decode cX1_orders 37 = .ok (.iadd, 1) := dk_96 (dk_at dksX1_orders_1 13 rfl rfl)
theorem dX1_orders_38 : decode cX1_orders 38 = .ok (.putfield 580, 3) := dk_181 2 68 (dk_at dksX1_orders_1 14 rfl rfl)
theorem dX1_orders_41 : decode cX1_orders 41 = .ok (.aload_n 0, 1) := dk_42 (dk_at dksX1_orders_1 17 rfl rfl)
theorem dX1_orders_42 : decode cX1_orders 42 = .ok (.iconst 0, 1) := dk_3 (dk_at dksX1_orders_1 18 rfl rfl)
theorem dX1_orders_43 : decode cX1_orders 43 = .ok (.putfield 458, 3) := dk_181 1 202 (dk_at dksX1_orders_1 19 rfl rfl)
theorem dX1_orders_46 : decode cX1_orders 46 = .ok (.aload_n 0, 1) := dk_42 (dk_at dksX1_orders_1 22 rfl rfl)
theorem dX1_orders_47 : decode cX1_orders 47 = .ok (.getfield 580, 3) := dk_180 2 68 (dk_at dksX1_orders_2 0 rfl rfl)
theorem dX1_orders_50 : decode cX1_orders 50 = .ok (.iconst 1, 1) := dk_4 (dk_at dksX1_orders_2 3 rfl rfl)
theorem dX1_orders_51 : decode cX1_orders 51 = .ok (.isub, 1) := dk_100 (dk_at dksX1_orders_2 4 rfl rfl)
theorem dX1_orders_52 : decode cX1_orders 52 = .ok (.ireturn, 1) := dk_172 (dk_at dksX1_orders_2 5 rfl rfl)
abbrev cX1_leaving : ByteArray := prog_1_method_77_code
def yX1_leaving : MethodName := ⟨RX1, "leaving", "()Z"⟩
def dkwX1_leaving_0 : List UInt8 := [42, 42, 182, 2, 61, 181, 2, 71, 167, 0, 6, 76, 3, 172, 42, 3, 181, 1, 202, 4, 172]
abbrev dktX1_leaving_0 : List UInt8 := dkwX1_leaving_0 ++ []
theorem dksX1_leaving_0 : cX1_leaving.data.toList.drop 0 = dktX1_leaving_0 := by decide +kernel
theorem dX1_leaving_0 : decode cX1_leaving 0 = .ok (.aload_n 0, 1) := dk_42 (dk_at dksX1_leaving_0 0 rfl rfl)
theorem dX1_leaving_1 : decode cX1_leaving 1 = .ok (.aload_n 0, 1) := dk_42 (dk_at dksX1_leaving_0 1 rfl rfl)
theorem dX1_leaving_2 : decode cX1_leaving 2 = .ok (.invokevirtual 573, 3) := dk_182 2 61 (dk_at dksX1_leaving_0 2 rfl rfl)
theorem dX1_leaving_5 : decode cX1_leaving 5 = .ok (.putfield 583, 3) := dk_181 2 71 (dk_at dksX1_leaving_0 5 rfl rfl)
theorem dX1_leaving_8 : decode cX1_leaving 8 = .ok (.goto 6, 3) := dk_167 0 6 (dk_at dksX1_leaving_0 8 rfl rfl)
theorem dX1_leaving_11 : decode cX1_leaving 11 = .ok (.astore_n 1, 1) := dk_76 (dk_at dksX1_leaving_0 11 rfl rfl)
theorem dX1_leaving_12 : decode cX1_leaving 12 = .ok (.iconst 0, 1) := dk_3 (dk_at dksX1_leaving_0 12 rfl rfl)
theorem dX1_leaving_13 : decode cX1_leaving 13 = .ok (.ireturn, 1) := dk_172 (dk_at dksX1_leaving_0 13 rfl rfl)
theorem dX1_leaving_14 : decode cX1_leaving 14 = .ok (.aload_n 0, 1) := dk_42 (dk_at dksX1_leaving_0 14 rfl rfl)
theorem dX1_leaving_15 : decode cX1_leaving 15 = .ok (.iconst 0, 1) := dk_3 (dk_at dksX1_leaving_0 15 rfl rfl)
theorem dX1_leaving_16 : decode cX1_leaving 16 = .ok (.putfield 458, 3) := dk_181 1 202 (dk_at dksX1_leaving_0 16 rfl rfl)
theorem dX1_leaving_19 : decode cX1_leaving 19 = .ok (.iconst 1, 1) := dk_4 (dk_at dksX1_leaving_0 19 rfl rfl)
theorem dX1_leaving_20 : decode cX1_leaving 20 = .ok (.ireturn, 1) := dk_172 (dk_at dksX1_leaving_0 20 rfl rfl)
abbrev cX1_falses : ByteArray := prog_1_method_81_code
def yX1_falses : MethodName := ⟨RX1, "falses", "(II)I"⟩
def dkwX1_falses_1 : List UInt8 := [167, 0, 4, 2, 172]
abbrev dktX1_falses_1 : List UInt8 := dkwX1_falses_1 ++ []
def dkwX1_falses_0 : List UInt8 := [27, 184, 0, 143, 153, 0, 21, 28, 3, 6, 184, 0, 3, 153, 0, 12, 42, 27, 28, 182, 2, 94]
abbrev dktX1_falses_0 : List UInt8 := dkwX1_falses_0 ++ dktX1_falses_1
theorem dksX1_falses_0 : cX1_falses.data.toList.drop 0 = dktX1_falses_0 := by decide +kernel
theorem dksX1_falses_1 : cX1_falses.data.toList.drop 22 = dktX1_falses_1 := dk_seg dksX1_falses_0 22 rfl rfl
theorem dX1_falses_0 : decode cX1_falses 0 = .ok (.iload_n 1, 1) := dk_27 (dk_at dksX1_falses_0 0 rfl rfl)
theorem dX1_falses_1 : decode cX1_falses 1 = .ok (.invokestatic 143, 3) := dk_184 0 143 (dk_at dksX1_falses_0 1 rfl rfl)
theorem dX1_falses_4 : decode cX1_falses 4 = .ok (.ifCond .eq 21, 3) := dk_153 0 21 (dk_at dksX1_falses_0 4 rfl rfl)
theorem dX1_falses_7 : decode cX1_falses 7 = .ok (.iload_n 2, 1) := dk_28 (dk_at dksX1_falses_0 7 rfl rfl)
theorem dX1_falses_8 : decode cX1_falses 8 = .ok (.iconst 0, 1) := dk_3 (dk_at dksX1_falses_0 8 rfl rfl)
theorem dX1_falses_9 : decode cX1_falses 9 = .ok (.iconst 3, 1) := dk_6 (dk_at dksX1_falses_0 9 rfl rfl)
theorem dX1_falses_10 : decode cX1_falses 10 = .ok (.invokestatic 3, 3) := dk_184 0 3 (dk_at dksX1_falses_0 10 rfl rfl)
theorem dX1_falses_13 : decode cX1_falses 13 = .ok (.ifCond .eq 12, 3) := dk_153 0 12 (dk_at dksX1_falses_0 13 rfl rfl)
theorem dX1_falses_16 : decode cX1_falses 16 = .ok (.aload_n 0, 1) := dk_42 (dk_at dksX1_falses_0 16 rfl rfl)
theorem dX1_falses_17 : decode cX1_falses 17 = .ok (.iload_n 1, 1) := dk_27 (dk_at dksX1_falses_0 17 rfl rfl)
theorem dX1_falses_18 : decode cX1_falses 18 = .ok (.iload_n 2, 1) := dk_28 (dk_at dksX1_falses_0 18 rfl rfl)
theorem dX1_falses_19 : decode cX1_falses 19 = .ok (.invokevirtual 606, 3) := dk_182 2 94 (dk_at dksX1_falses_0 19 rfl rfl)
theorem dX1_falses_22 : decode cX1_falses 22 = .ok (.goto 4, 3) := dk_167 0 4 (dk_at dksX1_falses_1 0 rfl rfl)
theorem dX1_falses_25 : decode cX1_falses 25 = .ok (.iconst (-1), 1) := dk_2 (dk_at dksX1_falses_1 3 rfl rfl)
theorem dX1_falses_26 : decode cX1_falses 26 = .ok (.ireturn, 1) := dk_172 (dk_at dksX1_falses_1 4 rfl rfl)
abbrev cX1_falsely : ByteArray := prog_1_method_80_code
def yX1_falsely : MethodName := ⟨RX1, "falsely", "(II)I"⟩
def dkwX1_falsely_4 : List UInt8 := [21, 4, 104, 29, 108, 172]
abbrev dktX1_falsely_4 : List UInt8 := dkwX1_falsely_4 ++ []
def dkwX1_falsely_3 : List UInt8 := [4, 167, 0, 4, 3, 96, 54, 4, 132, 5, 1, 167, 255, 181, 29, 154, 0, 7, 3, 167, 0, 10, 16, 100]
abbrev dktX1_falsely_3 : List UInt8 := dkwX1_falsely_3 ++ dktX1_falsely_4
def dkwX1_falsely_2 : List UInt8 := [184, 2, 91, 28, 159, 0, 6, 167, 0, 25, 132, 3, 1, 21, 4, 25, 6, 180, 2, 79, 5, 160, 0, 7]
abbrev dktX1_falsely_2 : List UInt8 := dkwX1_falsely_2 ++ dktX1_falsely_3
def dkwX1_falsely_1 : List UInt8 := [58, 6, 25, 6, 180, 2, 78, 27, 160, 0, 48, 25, 6, 180, 2, 79, 153, 0, 40, 25, 6, 180, 2, 88]
abbrev dktX1_falsely_1 : List UInt8 := dkwX1_falsely_1 ++ dktX1_falsely_2
def dkwX1_falsely_0 : List UInt8 := [3, 62, 3, 54, 4, 3, 54, 5, 21, 5, 42, 180, 2, 75, 162, 0, 72, 42, 180, 0, 74, 21, 5, 50]
abbrev dktX1_falsely_0 : List UInt8 := dkwX1_falsely_0 ++ dktX1_falsely_1
theorem dksX1_falsely_0 : cX1_falsely.data.toList.drop 0 = dktX1_falsely_0 := by decide +kernel
theorem dksX1_falsely_1 : cX1_falsely.data.toList.drop 24 = dktX1_falsely_1 := dk_seg dksX1_falsely_0 24 rfl rfl
theorem dksX1_falsely_2 : cX1_falsely.data.toList.drop 48 = dktX1_falsely_2 := dk_seg dksX1_falsely_1 24 rfl rfl
theorem dksX1_falsely_3 : cX1_falsely.data.toList.drop 72 = dktX1_falsely_3 := dk_seg dksX1_falsely_2 24 rfl rfl
theorem dksX1_falsely_4 : cX1_falsely.data.toList.drop 96 = dktX1_falsely_4 := dk_seg dksX1_falsely_3 24 rfl rfl
theorem dX1_falsely_0 : decode cX1_falsely 0 = .ok (.iconst 0, 1) := dk_3 (dk_at dksX1_falsely_0 0 rfl rfl)
theorem dX1_falsely_1 : decode cX1_falsely 1 = .ok (.istore_n 3, 1) := dk_62 (dk_at dksX1_falsely_0 1 rfl rfl)
theorem dX1_falsely_2 : decode cX1_falsely 2 = .ok (.iconst 0, 1) := dk_3 (dk_at dksX1_falsely_0 2 rfl rfl)
theorem dX1_falsely_3 : decode cX1_falsely 3 = .ok (.istore 4, 2) := dk_54 4 (dk_at dksX1_falsely_0 3 rfl rfl)
theorem dX1_falsely_5 : decode cX1_falsely 5 = .ok (.iconst 0, 1) := dk_3 (dk_at dksX1_falsely_0 5 rfl rfl)
theorem dX1_falsely_6 : decode cX1_falsely 6 = .ok (.istore 5, 2) := dk_54 5 (dk_at dksX1_falsely_0 6 rfl rfl)
theorem dX1_falsely_8 : decode cX1_falsely 8 = .ok (.iload 5, 2) := dk_21 5 (dk_at dksX1_falsely_0 8 rfl rfl)
theorem dX1_falsely_10 : decode cX1_falsely 10 = .ok (.aload_n 0, 1) := dk_42 (dk_at dksX1_falsely_0 10 rfl rfl)
theorem dX1_falsely_11 : decode cX1_falsely 11 = .ok (.getfield 587, 3) := dk_180 2 75 (dk_at dksX1_falsely_0 11 rfl rfl)
theorem dX1_falsely_14 : decode cX1_falsely 14 = .ok (.if_icmp .ge 72, 3) := dk_162 0 72 (dk_at dksX1_falsely_0 14 rfl rfl)
theorem dX1_falsely_17 : decode cX1_falsely 17 = .ok (.aload_n 0, 1) := dk_42 (dk_at dksX1_falsely_0 17 rfl rfl)
theorem dX1_falsely_18 : decode cX1_falsely 18 = .ok (.getfield 74, 3) := dk_180 0 74 (dk_at dksX1_falsely_0 18 rfl rfl)
theorem dX1_falsely_21 : decode cX1_falsely 21 = .ok (.iload 5, 2) := dk_21 5 (dk_at dksX1_falsely_0 21 rfl rfl)
theorem dX1_falsely_23 : decode cX1_falsely 23 = .ok (.aaload, 1) := dk_50 (dk_at dksX1_falsely_0 23 rfl rfl)
theorem dX1_falsely_24 : decode cX1_falsely 24 = .ok (.astore 6, 2) := dk_58 6 (dk_at dksX1_falsely_1 0 rfl rfl)
theorem dX1_falsely_26 : decode cX1_falsely 26 = .ok (.aload 6, 2) := dk_25 6 (dk_at dksX1_falsely_1 2 rfl rfl)
theorem dX1_falsely_28 : decode cX1_falsely 28 = .ok (.getfield 590, 3) := dk_180 2 78 (dk_at dksX1_falsely_1 4 rfl rfl)
theorem dX1_falsely_31 : decode cX1_falsely 31 = .ok (.iload_n 1, 1) := dk_27 (dk_at dksX1_falsely_1 7 rfl rfl)
theorem dX1_falsely_32 : decode cX1_falsely 32 = .ok (.if_icmp .ne 48, 3) := dk_160 0 48 (dk_at dksX1_falsely_1 8 rfl rfl)
theorem dX1_falsely_35 : decode cX1_falsely 35 = .ok (.aload 6, 2) := dk_25 6 (dk_at dksX1_falsely_1 11 rfl rfl)
theorem dX1_falsely_37 : decode cX1_falsely 37 = .ok (.getfield 591, 3) := dk_180 2 79 (dk_at dksX1_falsely_1 13 rfl rfl)
theorem dX1_falsely_40 : decode cX1_falsely 40 = .ok (.ifCond .eq 40, 3) := dk_153 0 40 (dk_at dksX1_falsely_1 16 rfl rfl)
theorem dX1_falsely_43 : decode cX1_falsely 43 = .ok (.aload 6, 2) := dk_25 6 (dk_at dksX1_falsely_1 19 rfl rfl)
theorem dX1_falsely_45 : decode cX1_falsely 45 = .ok (.getfield 600, 3) := dk_180 2 88 (dk_at dksX1_falsely_1 21 rfl rfl)
theorem dX1_falsely_48 : decode cX1_falsely 48 = .ok (.invokestatic 603, 3) := dk_184 2 91 (dk_at dksX1_falsely_2 0 rfl rfl)
theorem dX1_falsely_51 : decode cX1_falsely 51 = .ok (.iload_n 2, 1) := dk_28 (dk_at dksX1_falsely_2 3 rfl rfl)
theorem dX1_falsely_52 : decode cX1_falsely 52 = .ok (.if_icmp .eq 6, 3) := dk_159 0 6 (dk_at dksX1_falsely_2 4 rfl rfl)
theorem dX1_falsely_55 : decode cX1_falsely 55 = .ok (.goto 25, 3) := dk_167 0 25 (dk_at dksX1_falsely_2 7 rfl rfl)
theorem dX1_falsely_58 : decode cX1_falsely 58 = .ok (.iinc 3 1, 3) := dk_132 3 1 (dk_at dksX1_falsely_2 10 rfl rfl)
theorem dX1_falsely_61 : decode cX1_falsely 61 = .ok (.iload 4, 2) := dk_21 4 (dk_at dksX1_falsely_2 13 rfl rfl)
theorem dX1_falsely_63 : decode cX1_falsely 63 = .ok (.aload 6, 2) := dk_25 6 (dk_at dksX1_falsely_2 15 rfl rfl)
theorem dX1_falsely_65 : decode cX1_falsely 65 = .ok (.getfield 591, 3) := dk_180 2 79 (dk_at dksX1_falsely_2 17 rfl rfl)
theorem dX1_falsely_68 : decode cX1_falsely 68 = .ok (.iconst 2, 1) := dk_5 (dk_at dksX1_falsely_2 20 rfl rfl)
theorem dX1_falsely_69 : decode cX1_falsely 69 = .ok (.if_icmp .ne 7, 3) := dk_160 0 7 (dk_at dksX1_falsely_2 21 rfl rfl)
theorem dX1_falsely_72 : decode cX1_falsely 72 = .ok (.iconst 1, 1) := dk_4 (dk_at dksX1_falsely_3 0 rfl rfl)
theorem dX1_falsely_73 : decode cX1_falsely 73 = .ok (.goto 4, 3) := dk_167 0 4 (dk_at dksX1_falsely_3 1 rfl rfl)
theorem dX1_falsely_76 : decode cX1_falsely 76 = .ok (.iconst 0, 1) := dk_3 (dk_at dksX1_falsely_3 4 rfl rfl)
theorem dX1_falsely_77 : decode cX1_falsely 77 = .ok (.iadd, 1) := dk_96 (dk_at dksX1_falsely_3 5 rfl rfl)
theorem dX1_falsely_78 : decode cX1_falsely 78 = .ok (.istore 4, 2) := dk_54 4 (dk_at dksX1_falsely_3 6 rfl rfl)
theorem dX1_falsely_80 : decode cX1_falsely 80 = .ok (.iinc 5 1, 3) := dk_132 5 1 (dk_at dksX1_falsely_3 8 rfl rfl)
theorem dX1_falsely_83 : decode cX1_falsely 83 = .ok (.goto (-75), 3) := dk_167 255 181 (dk_at dksX1_falsely_3 11 rfl rfl)
theorem dX1_falsely_86 : decode cX1_falsely 86 = .ok (.iload_n 3, 1) := dk_29 (dk_at dksX1_falsely_3 14 rfl rfl)
theorem dX1_falsely_87 : decode cX1_falsely 87 = .ok (.ifCond .ne 7, 3) := dk_154 0 7 (dk_at dksX1_falsely_3 15 rfl rfl)
theorem dX1_falsely_90 : decode cX1_falsely 90 = .ok (.iconst 0, 1) := dk_3 (dk_at dksX1_falsely_3 18 rfl rfl)
theorem dX1_falsely_91 : decode cX1_falsely 91 = .ok (.goto 10, 3) := dk_167 0 10 (dk_at dksX1_falsely_3 19 rfl rfl)
theorem dX1_falsely_94 : decode cX1_falsely 94 = .ok (.bipush 100, 2) := dk_16 100 (dk_at dksX1_falsely_3 22 rfl rfl)
theorem dX1_falsely_96 : decode cX1_falsely 96 = .ok (.iload 4, 2) := dk_21 4 (dk_at dksX1_falsely_4 0 rfl rfl)
theorem dX1_falsely_98 : decode cX1_falsely 98 = .ok (.imul, 1) := dk_104 (dk_at dksX1_falsely_4 2 rfl rfl)
theorem dX1_falsely_99 : decode cX1_falsely 99 = .ok (.iload_n 3, 1) := dk_29 (dk_at dksX1_falsely_4 3 rfl rfl)
theorem dX1_falsely_100 : decode cX1_falsely 100 = .ok (.idiv, 1) := dk_108 (dk_at dksX1_falsely_4 4 rfl rfl)
theorem dX1_falsely_101 : decode cX1_falsely 101 = .ok (.ireturn, 1) := dk_172 (dk_at dksX1_falsely_4 5 rfl rfl)
abbrev cX1_asks : ByteArray := prog_1_method_85_code
def yX1_asks : MethodName := ⟨RX1, "asks", "(III)I"⟩
def dkwX1_asks_1 : List UInt8 := [154, 0, 5, 2, 172, 42, 27, 28, 182, 2, 118, 42, 180, 0, 78, 29, 46, 172]
abbrev dktX1_asks_1 : List UInt8 := dkwX1_asks_1 ++ []
def dkwX1_asks_0 : List UInt8 := [27, 184, 0, 143, 153, 0, 21, 28, 4, 6, 184, 0, 3, 153, 0, 12, 29, 3, 7, 184, 0, 3]
abbrev dktX1_asks_0 : List UInt8 := dkwX1_asks_0 ++ dktX1_asks_1
theorem dksX1_asks_0 : cX1_asks.data.toList.drop 0 = dktX1_asks_0 := by decide +kernel
theorem dksX1_asks_1 : cX1_asks.data.toList.drop 22 = dktX1_asks_1 := dk_seg dksX1_asks_0 22 rfl rfl
theorem dX1_asks_0 : decode cX1_asks 0 = .ok (.iload_n 1, 1) := dk_27 (dk_at dksX1_asks_0 0 rfl rfl)
theorem dX1_asks_1 : decode cX1_asks 1 = .ok (.invokestatic 143, 3) := dk_184 0 143 (dk_at dksX1_asks_0 1 rfl rfl)
theorem dX1_asks_4 : decode cX1_asks 4 = .ok (.ifCond .eq 21, 3) := dk_153 0 21 (dk_at dksX1_asks_0 4 rfl rfl)
theorem dX1_asks_7 : decode cX1_asks 7 = .ok (.iload_n 2, 1) := dk_28 (dk_at dksX1_asks_0 7 rfl rfl)
theorem dX1_asks_8 : decode cX1_asks 8 = .ok (.iconst 1, 1) := dk_4 (dk_at dksX1_asks_0 8 rfl rfl)
theorem dX1_asks_9 : decode cX1_asks 9 = .ok (.iconst 3, 1) := dk_6 (dk_at dksX1_asks_0 9 rfl rfl)
theorem dX1_asks_10 : decode cX1_asks 10 = .ok (.invokestatic 3, 3) := dk_184 0 3 (dk_at dksX1_asks_0 10 rfl rfl)
theorem dX1_asks_13 : decode cX1_asks 13 = .ok (.ifCond .eq 12, 3) := dk_153 0 12 (dk_at dksX1_asks_0 13 rfl rfl)
theorem dX1_asks_16 : decode cX1_asks 16 = .ok (.iload_n 3, 1) := dk_29 (dk_at dksX1_asks_0 16 rfl rfl)
theorem dX1_asks_17 : decode cX1_asks 17 = .ok (.iconst 0, 1) := dk_3 (dk_at dksX1_asks_0 17 rfl rfl)
theorem dX1_asks_18 : decode cX1_asks 18 = .ok (.iconst 4, 1) := dk_7 (dk_at dksX1_asks_0 18 rfl rfl)
theorem dX1_asks_19 : decode cX1_asks 19 = .ok (.invokestatic 3, 3) := dk_184 0 3 (dk_at dksX1_asks_0 19 rfl rfl)
theorem dX1_asks_22 : decode cX1_asks 22 = .ok (.ifCond .ne 5, 3) := dk_154 0 5 (dk_at dksX1_asks_1 0 rfl rfl)
theorem dX1_asks_25 : decode cX1_asks 25 = .ok (.iconst (-1), 1) := dk_2 (dk_at dksX1_asks_1 3 rfl rfl)
theorem dX1_asks_26 : decode cX1_asks 26 = .ok (.ireturn, 1) := dk_172 (dk_at dksX1_asks_1 4 rfl rfl)
theorem dX1_asks_27 : decode cX1_asks 27 = .ok (.aload_n 0, 1) := dk_42 (dk_at dksX1_asks_1 5 rfl rfl)
theorem dX1_asks_28 : decode cX1_asks 28 = .ok (.iload_n 1, 1) := dk_27 (dk_at dksX1_asks_1 6 rfl rfl)
theorem dX1_asks_29 : decode cX1_asks 29 = .ok (.iload_n 2, 1) := dk_28 (dk_at dksX1_asks_1 7 rfl rfl)
theorem dX1_asks_30 : decode cX1_asks 30 = .ok (.invokevirtual 630, 3) := dk_182 2 118 (dk_at dksX1_asks_1 8 rfl rfl)
theorem dX1_asks_33 : decode cX1_asks 33 = .ok (.aload_n 0, 1) := dk_42 (dk_at dksX1_asks_1 11 rfl rfl)
theorem dX1_asks_34 : decode cX1_asks 34 = .ok (.getfield 78, 3) := dk_180 0 78 (dk_at dksX1_asks_1 12 rfl rfl)
theorem dX1_asks_37 : decode cX1_asks 37 = .ok (.iload_n 3, 1) := dk_29 (dk_at dksX1_asks_1 15 rfl rfl)
theorem dX1_asks_38 : decode cX1_asks 38 = .ok (.iaload, 1) := dk_46 (dk_at dksX1_asks_1 16 rfl rfl)
theorem dX1_asks_39 : decode cX1_asks 39 = .ok (.ireturn, 1) := dk_172 (dk_at dksX1_asks_1 17 rfl rfl)
abbrev cX1_answer : ByteArray := prog_1_method_84_code
def yX1_answer : MethodName := ⟨RX1, "answer", "(II)V"⟩
def dkwX1_answer_6 : List UInt8 := [167, 255, 219, 132, 3, 1, 25, 4, 180, 2, 57, 58, 4, 167, 255, 161, 177]
abbrev dktX1_answer_6 : List UInt8 := dkwX1_answer_6 ++ []
def dkwX1_answer_5 : List UInt8 := [180, 0, 78, 21, 5, 46, 25, 4, 180, 2, 47, 21, 5, 46, 96, 184, 1, 86, 79, 132, 5, 1]
abbrev dktX1_answer_5 : List UInt8 := dkwX1_answer_5 ++ dktX1_answer_6
def dkwX1_answer_4 : List UInt8 := [128, 181, 2, 106, 3, 54, 5, 21, 5, 7, 163, 0, 37, 42, 180, 0, 78, 21, 5, 16, 9, 42]
abbrev dktX1_answer_4 : List UInt8 := dkwX1_answer_4 ++ dktX1_answer_5
def dkwX1_answer_3 : List UInt8 := [182, 2, 112, 153, 0, 68, 42, 89, 180, 2, 106, 29, 16, 30, 162, 0, 9, 4, 29, 120, 167, 0, 4, 3]
abbrev dktX1_answer_3 : List UInt8 := dkwX1_answer_3 ++ dktX1_answer_4
def dkwX1_answer_2 : List UInt8 := [42, 180, 2, 68, 4, 100, 50, 58, 4, 25, 4, 198, 0, 96, 25, 4, 180, 2, 109, 42, 180, 0, 52]
abbrev dktX1_answer_2 : List UInt8 := dkwX1_answer_2 ++ dktX1_answer_3
def dkwX1_answer_1 : List UInt8 := [79, 132, 3, 1, 167, 255, 241, 3, 62, 42, 180, 2, 68, 154, 0, 7, 1, 167, 0, 14, 42, 180, 0, 68]
abbrev dktX1_answer_1 : List UInt8 := dkwX1_answer_1 ++ dktX1_answer_2
def dkwX1_answer_0 : List UInt8 := [42, 27, 28, 182, 2, 103, 42, 3, 181, 2, 106, 3, 62, 29, 7, 163, 0, 16, 42, 180, 0, 78, 29, 3]
abbrev dktX1_answer_0 : List UInt8 := dkwX1_answer_0 ++ dktX1_answer_1
theorem dksX1_answer_0 : cX1_answer.data.toList.drop 0 = dktX1_answer_0 := by decide +kernel
theorem dksX1_answer_1 : cX1_answer.data.toList.drop 24 = dktX1_answer_1 := dk_seg dksX1_answer_0 24 rfl rfl
theorem dksX1_answer_2 : cX1_answer.data.toList.drop 48 = dktX1_answer_2 := dk_seg dksX1_answer_1 24 rfl rfl
theorem dksX1_answer_3 : cX1_answer.data.toList.drop 71 = dktX1_answer_3 := dk_seg dksX1_answer_2 23 rfl rfl
theorem dksX1_answer_4 : cX1_answer.data.toList.drop 95 = dktX1_answer_4 := dk_seg dksX1_answer_3 24 rfl rfl
theorem dksX1_answer_5 : cX1_answer.data.toList.drop 117 = dktX1_answer_5 := dk_seg dksX1_answer_4 22 rfl rfl
theorem dksX1_answer_6 : cX1_answer.data.toList.drop 139 = dktX1_answer_6 := dk_seg dksX1_answer_5 22 rfl rfl
theorem dX1_answer_0 : decode cX1_answer 0 = .ok (.aload_n 0, 1) := dk_42 (dk_at dksX1_answer_0 0 rfl rfl)
theorem dX1_answer_1 : decode cX1_answer 1 = .ok (.iload_n 1, 1) := dk_27 (dk_at dksX1_answer_0 1 rfl rfl)
theorem dX1_answer_2 : decode cX1_answer 2 = .ok (.iload_n 2, 1) := dk_28 (dk_at dksX1_answer_0 2 rfl rfl)
theorem dX1_answer_3 : decode cX1_answer 3 = .ok (.invokevirtual 615, 3) := dk_182 2 103 (dk_at dksX1_answer_0 3 rfl rfl)
theorem dX1_answer_6 : decode cX1_answer 6 = .ok (.aload_n 0, 1) := dk_42 (dk_at dksX1_answer_0 6 rfl rfl)
theorem dX1_answer_7 : decode cX1_answer 7 = .ok (.iconst 0, 1) := dk_3 (dk_at dksX1_answer_0 7 rfl rfl)
theorem dX1_answer_8 : decode cX1_answer 8 = .ok (.putfield 618, 3) := dk_181 2 106 (dk_at dksX1_answer_0 8 rfl rfl)
theorem dX1_answer_11 : decode cX1_answer 11 = .ok (.iconst 0, 1) := dk_3 (dk_at dksX1_answer_0 11 rfl rfl)
theorem dX1_answer_12 : decode cX1_answer 12 = .ok (.istore_n 3, 1) := dk_62 (dk_at dksX1_answer_0 12 rfl rfl)
theorem dX1_answer_13 : decode cX1_answer 13 = .ok (.iload_n 3, 1) := dk_29 (dk_at dksX1_answer_0 13 rfl rfl)
theorem dX1_answer_14 : decode cX1_answer 14 = .ok (.iconst 4, 1) := dk_7 (dk_at dksX1_answer_0 14 rfl rfl)
theorem dX1_answer_15 : decode cX1_answer 15 = .ok (.if_icmp .gt 16, 3) := dk_163 0 16 (dk_at dksX1_answer_0 15 rfl rfl)
theorem dX1_answer_18 : decode cX1_answer 18 = .ok (.aload_n 0, 1) := dk_42 (dk_at dksX1_answer_0 18 rfl rfl)
theorem dX1_answer_19 : decode cX1_answer 19 = .ok (.getfield 78, 3) := dk_180 0 78 (dk_at dksX1_answer_0 19 rfl rfl)
theorem dX1_answer_22 : decode cX1_answer 22 = .ok (.iload_n 3, 1) := dk_29 (dk_at dksX1_answer_0 22 rfl rfl)
theorem dX1_answer_23 : decode cX1_answer 23 = .ok (.iconst 0, 1) := dk_3 (dk_at dksX1_answer_0 23 rfl rfl)
theorem dX1_answer_24 : decode cX1_answer 24 = .ok (.iastore, 1) := dk_79 (dk_at dksX1_answer_1 0 rfl rfl)
theorem dX1_answer_25 : decode cX1_answer 25 = .ok (.iinc 3 1, 3) := dk_132 3 1 (dk_at dksX1_answer_1 1 rfl rfl)
theorem dX1_answer_28 : decode cX1_answer 28 = .ok (.goto (-15), 3) := dk_167 255 241 (dk_at dksX1_answer_1 4 rfl rfl)
theorem dX1_answer_31 : decode cX1_answer 31 = .ok (.iconst 0, 1) := dk_3 (dk_at dksX1_answer_1 7 rfl rfl)
theorem dX1_answer_32 : decode cX1_answer 32 = .ok (.istore_n 3, 1) := dk_62 (dk_at dksX1_answer_1 8 rfl rfl)
theorem dX1_answer_33 : decode cX1_answer 33 = .ok (.aload_n 0, 1) := dk_42 (dk_at dksX1_answer_1 9 rfl rfl)
theorem dX1_answer_34 : decode cX1_answer 34 = .ok (.getfield 580, 3) := dk_180 2 68 (dk_at dksX1_answer_1 10 rfl rfl)
theorem dX1_answer_37 : decode cX1_answer 37 = .ok (.ifCond .ne 7, 3) := dk_154 0 7 (dk_at dksX1_answer_1 13 rfl rfl)
theorem dX1_answer_40 : decode cX1_answer 40 = .ok (.aconst_null, 1) := dk_1 (dk_at dksX1_answer_1 16 rfl rfl)
theorem dX1_answer_41 : decode cX1_answer 41 = .ok (.goto 14, 3) := dk_167 0 14 (dk_at dksX1_answer_1 17 rfl rfl)
theorem dX1_answer_44 : decode cX1_answer 44 = .ok (.aload_n 0, 1) := dk_42 (dk_at dksX1_answer_1 20 rfl rfl)
theorem dX1_answer_45 : decode cX1_answer 45 = .ok (.getfield 68, 3) := dk_180 0 68 (dk_at dksX1_answer_1 21 rfl rfl)
theorem dX1_answer_48 : decode cX1_answer 48 = .ok (.aload_n 0, 1) := dk_42 (dk_at dksX1_answer_2 0 rfl rfl)
theorem dX1_answer_49 : decode cX1_answer 49 = .ok (.getfield 580, 3) := dk_180 2 68 (dk_at dksX1_answer_2 1 rfl rfl)
theorem dX1_answer_52 : decode cX1_answer 52 = .ok (.iconst 1, 1) := dk_4 (dk_at dksX1_answer_2 4 rfl rfl)
theorem dX1_answer_53 : decode cX1_answer 53 = .ok (.isub, 1) := dk_100 (dk_at dksX1_answer_2 5 rfl rfl)
theorem dX1_answer_54 : decode cX1_answer 54 = .ok (.aaload, 1) := dk_50 (dk_at dksX1_answer_2 6 rfl rfl)
theorem dX1_answer_55 : decode cX1_answer 55 = .ok (.astore 4, 2) := dk_58 4 (dk_at dksX1_answer_2 7 rfl rfl)
theorem dX1_answer_57 : decode cX1_answer 57 = .ok (.aload 4, 2) := dk_25 4 (dk_at dksX1_answer_2 9 rfl rfl)
theorem dX1_answer_59 : decode cX1_answer 59 = .ok (.ifnull 96, 3) := dk_198 0 96 (dk_at dksX1_answer_2 11 rfl rfl)
theorem dX1_answer_62 : decode cX1_answer 62 = .ok (.aload 4, 2) := dk_25 4 (dk_at dksX1_answer_2 14 rfl rfl)
theorem dX1_answer_64 : decode cX1_answer 64 = .ok (.getfield 621, 3) := dk_180 2 109 (dk_at dksX1_answer_2 16 rfl rfl)
theorem dX1_answer_67 : decode cX1_answer 67 = .ok (.aload_n 0, 1) := dk_42 (dk_at dksX1_answer_2 19 rfl rfl)
theorem dX1_answer_68 : decode cX1_answer 68 = .ok (.getfield 52, 3) := dk_180 0 52 (dk_at dksX1_answer_2 20 rfl rfl)
theorem dX1_answer_71 : decode cX1_answer 71 = .ok (.invokevirtual 624, 3) := dk_182 2 112 (dk_at dksX1_answer_3 0 rfl rfl)
theorem dX1_answer_74 : decode cX1_answer 74 = .ok (.ifCond .eq 68, 3) := dk_153 0 68 (dk_at dksX1_answer_3 3 rfl rfl)
theorem dX1_answer_77 : decode cX1_answer 77 = .ok (.aload_n 0, 1) := dk_42 (dk_at dksX1_answer_3 6 rfl rfl)
theorem dX1_answer_78 : decode cX1_answer 78 = .ok (.dup, 1) := dk_89 (dk_at dksX1_answer_3 7 rfl rfl)
theorem dX1_answer_79 : decode cX1_answer 79 = .ok (.getfield 618, 3) := dk_180 2 106 (dk_at dksX1_answer_3 8 rfl rfl)
theorem dX1_answer_82 : decode cX1_answer 82 = .ok (.iload_n 3, 1) := dk_29 (dk_at dksX1_answer_3 11 rfl rfl)
theorem dX1_answer_83 : decode cX1_answer 83 = .ok (.bipush 30, 2) := dk_16 30 (dk_at dksX1_answer_3 12 rfl rfl)
theorem dX1_answer_85 : decode cX1_answer 85 = .ok (.if_icmp .ge 9, 3) := dk_162 0 9 (dk_at dksX1_answer_3 14 rfl rfl)
theorem dX1_answer_88 : decode cX1_answer 88 = .ok (.iconst 1, 1) := dk_4 (dk_at dksX1_answer_3 17 rfl rfl)
theorem dX1_answer_89 : decode cX1_answer 89 = .ok (.iload_n 3, 1) := dk_29 (dk_at dksX1_answer_3 18 rfl rfl)
theorem dX1_answer_90 : decode cX1_answer 90 = .ok (.ishl, 1) := dk_120 (dk_at dksX1_answer_3 19 rfl rfl)
theorem dX1_answer_91 : decode cX1_answer 91 = .ok (.goto 4, 3) := dk_167 0 4 (dk_at dksX1_answer_3 20 rfl rfl)
theorem dX1_answer_94 : decode cX1_answer 94 = .ok (.iconst 0, 1) := dk_3 (dk_at dksX1_answer_3 23 rfl rfl)
theorem dX1_answer_95 : decode cX1_answer 95 = .ok (.ior, 1) := dk_128 (dk_at dksX1_answer_4 0 rfl rfl)
theorem dX1_answer_96 : decode cX1_answer 96 = .ok (.putfield 618, 3) := dk_181 2 106 (dk_at dksX1_answer_4 1 rfl rfl)
theorem dX1_answer_99 : decode cX1_answer 99 = .ok (.iconst 0, 1) := dk_3 (dk_at dksX1_answer_4 4 rfl rfl)
theorem dX1_answer_100 : decode cX1_answer 100 = .ok (.istore 5, 2) := dk_54 5 (dk_at dksX1_answer_4 5 rfl rfl)
theorem dX1_answer_102 : decode cX1_answer 102 = .ok (.iload 5, 2) := dk_21 5 (dk_at dksX1_answer_4 7 rfl rfl)
theorem dX1_answer_104 : decode cX1_answer 104 = .ok (.iconst 4, 1) := dk_7 (dk_at dksX1_answer_4 9 rfl rfl)
theorem dX1_answer_105 : decode cX1_answer 105 = .ok (.if_icmp .gt 37, 3) := dk_163 0 37 (dk_at dksX1_answer_4 10 rfl rfl)
theorem dX1_answer_108 : decode cX1_answer 108 = .ok (.aload_n 0, 1) := dk_42 (dk_at dksX1_answer_4 13 rfl rfl)
theorem dX1_answer_109 : decode cX1_answer 109 = .ok (.getfield 78, 3) := dk_180 0 78 (dk_at dksX1_answer_4 14 rfl rfl)
theorem dX1_answer_112 : decode cX1_answer 112 = .ok (.iload 5, 2) := dk_21 5 (dk_at dksX1_answer_4 17 rfl rfl)
theorem dX1_answer_114 : decode cX1_answer 114 = .ok (.bipush 9, 2) := dk_16 9 (dk_at dksX1_answer_4 19 rfl rfl)
theorem dX1_answer_116 : decode cX1_answer 116 = .ok (.aload_n 0, 1) := dk_42 (dk_at dksX1_answer_4 21 rfl rfl)
theorem dX1_answer_117 : decode cX1_answer 117 = .ok (.getfield 78, 3) := dk_180 0 78 (dk_at dksX1_answer_5 0 rfl rfl)
theorem dX1_answer_120 : decode cX1_answer 120 = .ok (.iload 5, 2) := dk_21 5 (dk_at dksX1_answer_5 3 rfl rfl)
theorem dX1_answer_122 : decode cX1_answer 122 = .ok (.iaload, 1) := dk_46 (dk_at dksX1_answer_5 5 rfl rfl)
theorem dX1_answer_123 : decode cX1_answer 123 = .ok (.aload 4, 2) := dk_25 4 (dk_at dksX1_answer_5 6 rfl rfl)
theorem dX1_answer_125 : decode cX1_answer 125 = .ok (.getfield 559, 3) := dk_180 2 47 (dk_at dksX1_answer_5 8 rfl rfl)
theorem dX1_answer_128 : decode cX1_answer 128 = .ok (.iload 5, 2) := dk_21 5 (dk_at dksX1_answer_5 11 rfl rfl)
theorem dX1_answer_130 : decode cX1_answer 130 = .ok (.iaload, 1) := dk_46 (dk_at dksX1_answer_5 13 rfl rfl)
theorem dX1_answer_131 : decode cX1_answer 131 = .ok (.iadd, 1) := dk_96 (dk_at dksX1_answer_5 14 rfl rfl)
theorem dX1_answer_132 : decode cX1_answer 132 = .ok (.invokestatic 342, 3) := dk_184 1 86 (dk_at dksX1_answer_5 15 rfl rfl)
theorem dX1_answer_135 : decode cX1_answer 135 = .ok (.iastore, 1) := dk_79 (dk_at dksX1_answer_5 18 rfl rfl)
theorem dX1_answer_136 : decode cX1_answer 136 = .ok (.iinc 5 1, 3) := dk_132 5 1 (dk_at dksX1_answer_5 19 rfl rfl)
theorem dX1_answer_139 : decode cX1_answer 139 = .ok (.goto (-37), 3) := dk_167 255 219 (dk_at dksX1_answer_6 0 rfl rfl)
theorem dX1_answer_142 : decode cX1_answer 142 = .ok (.iinc 3 1, 3) := dk_132 3 1 (dk_at dksX1_answer_6 3 rfl rfl)
theorem dX1_answer_145 : decode cX1_answer 145 = .ok (.aload 4, 2) := dk_25 4 (dk_at dksX1_answer_6 6 rfl rfl)
theorem dX1_answer_147 : decode cX1_answer 147 = .ok (.getfield 569, 3) := dk_180 2 57 (dk_at dksX1_answer_6 8 rfl rfl)
theorem dX1_answer_150 : decode cX1_answer 150 = .ok (.astore 4, 2) := dk_58 4 (dk_at dksX1_answer_6 11 rfl rfl)
theorem dX1_answer_152 : decode cX1_answer 152 = .ok (.goto (-95), 3) := dk_167 255 161 (dk_at dksX1_answer_6 13 rfl rfl)
theorem dX1_answer_155 : decode cX1_answer 155 = .ok (.return_, 1) := dk_177 (dk_at dksX1_answer_6 16 rfl rfl)
abbrev cX1_hear : ByteArray := prog_1_method_83_code
def yX1_hear : MethodName := ⟨RX1, "hear", "(II)V"⟩
def dkwX1_hear_9 : List UInt8 := [16, 99, 42, 6, 182, 2, 100, 79, 42, 180, 0, 52, 16, 111, 21, 5, 79, 177]
abbrev dktX1_hear_9 : List UInt8 := dkwX1_hear_9 ++ []
def dkwX1_hear_8 : List UInt8 := [16, 115, 42, 4, 182, 2, 100, 79, 42, 180, 0, 52, 16, 108, 42, 5, 182, 2, 100, 79, 42, 180, 0, 52]
abbrev dktX1_hear_8 : List UInt8 := dkwX1_hear_8 ++ dktX1_hear_9
def dkwX1_hear_7 : List UInt8 := [184, 2, 91, 182, 2, 94, 79, 42, 180, 0, 52, 16, 112, 42, 3, 182, 2, 100, 79, 42, 180, 0, 52]
abbrev dktX1_hear_7 : List UInt8 := dkwX1_hear_7 ++ dktX1_hear_8
def dkwX1_hear_6 : List UInt8 := [79, 42, 180, 0, 52, 16, 107, 21, 4, 79, 42, 180, 0, 52, 16, 97, 42, 27, 42, 180, 1, 159]
abbrev dktX1_hear_6 : List UInt8 := dkwX1_hear_6 ++ dktX1_hear_7
def dkwX1_hear_5 : List UInt8 := [42, 180, 0, 52, 16, 104, 42, 180, 1, 159, 16, 60, 108, 16, 24, 112, 79, 42, 180, 0, 52, 16, 102, 29]
abbrev dktX1_hear_5 : List UInt8 := dkwX1_hear_5 ++ dktX1_hear_6
def dkwX1_hear_4 : List UInt8 := [180, 2, 78, 27, 159, 0, 6, 132, 5, 1, 132, 6, 1, 167, 255, 214, 42, 180, 0, 52, 16, 119, 28, 79]
abbrev dktX1_hear_4 : List UInt8 := dkwX1_hear_4 ++ dktX1_hear_5
def dkwX1_hear_3 : List UInt8 := [162, 0, 39, 42, 180, 0, 74, 21, 6, 50, 180, 2, 79, 154, 0, 20, 42, 180, 0, 74, 21, 6, 50]
abbrev dktX1_hear_3 : List UInt8 := dkwX1_hear_3 ++ dktX1_hear_4
def dkwX1_hear_2 : List UInt8 := [180, 0, 209, 184, 1, 13, 62, 132, 6, 1, 167, 255, 209, 3, 54, 6, 21, 6, 42, 180, 2, 75]
abbrev dktX1_hear_2 : List UInt8 := dkwX1_hear_2 ++ dktX1_hear_3
def dkwX1_hear_1 : List UInt8 := [21, 6, 50, 180, 1, 52, 27, 159, 0, 6, 167, 0, 21, 132, 4, 1, 29, 42, 180, 0, 30, 21, 6, 50]
abbrev dktX1_hear_1 : List UInt8 := dkwX1_hear_1 ++ dktX1_hear_2
def dkwX1_hear_0 : List UInt8 := [3, 62, 3, 54, 4, 3, 54, 5, 3, 54, 6, 21, 6, 42, 180, 0, 199, 162, 0, 44, 42, 180, 0, 30]
abbrev dktX1_hear_0 : List UInt8 := dkwX1_hear_0 ++ dktX1_hear_1
theorem dksX1_hear_0 : cX1_hear.data.toList.drop 0 = dktX1_hear_0 := by decide +kernel
theorem dksX1_hear_1 : cX1_hear.data.toList.drop 24 = dktX1_hear_1 := dk_seg dksX1_hear_0 24 rfl rfl
theorem dksX1_hear_2 : cX1_hear.data.toList.drop 48 = dktX1_hear_2 := dk_seg dksX1_hear_1 24 rfl rfl
theorem dksX1_hear_3 : cX1_hear.data.toList.drop 70 = dktX1_hear_3 := dk_seg dksX1_hear_2 22 rfl rfl
theorem dksX1_hear_4 : cX1_hear.data.toList.drop 93 = dktX1_hear_4 := dk_seg dksX1_hear_3 23 rfl rfl
theorem dksX1_hear_5 : cX1_hear.data.toList.drop 117 = dktX1_hear_5 := dk_seg dksX1_hear_4 24 rfl rfl
theorem dksX1_hear_6 : cX1_hear.data.toList.drop 141 = dktX1_hear_6 := dk_seg dksX1_hear_5 24 rfl rfl
theorem dksX1_hear_7 : cX1_hear.data.toList.drop 163 = dktX1_hear_7 := dk_seg dksX1_hear_6 22 rfl rfl
theorem dksX1_hear_8 : cX1_hear.data.toList.drop 186 = dktX1_hear_8 := dk_seg dksX1_hear_7 23 rfl rfl
theorem dksX1_hear_9 : cX1_hear.data.toList.drop 210 = dktX1_hear_9 := dk_seg dksX1_hear_8 24 rfl rfl
theorem dX1_hear_0 : decode cX1_hear 0 = .ok (.iconst 0, 1) := dk_3 (dk_at dksX1_hear_0 0 rfl rfl)
theorem dX1_hear_1 : decode cX1_hear 1 = .ok (.istore_n 3, 1) := dk_62 (dk_at dksX1_hear_0 1 rfl rfl)
theorem dX1_hear_2 : decode cX1_hear 2 = .ok (.iconst 0, 1) := dk_3 (dk_at dksX1_hear_0 2 rfl rfl)
theorem dX1_hear_3 : decode cX1_hear 3 = .ok (.istore 4, 2) := dk_54 4 (dk_at dksX1_hear_0 3 rfl rfl)
theorem dX1_hear_5 : decode cX1_hear 5 = .ok (.iconst 0, 1) := dk_3 (dk_at dksX1_hear_0 5 rfl rfl)
theorem dX1_hear_6 : decode cX1_hear 6 = .ok (.istore 5, 2) := dk_54 5 (dk_at dksX1_hear_0 6 rfl rfl)
theorem dX1_hear_8 : decode cX1_hear 8 = .ok (.iconst 0, 1) := dk_3 (dk_at dksX1_hear_0 8 rfl rfl)
theorem dX1_hear_9 : decode cX1_hear 9 = .ok (.istore 6, 2) := dk_54 6 (dk_at dksX1_hear_0 9 rfl rfl)
theorem dX1_hear_11 : decode cX1_hear 11 = .ok (.iload 6, 2) := dk_21 6 (dk_at dksX1_hear_0 11 rfl rfl)
theorem dX1_hear_13 : decode cX1_hear 13 = .ok (.aload_n 0, 1) := dk_42 (dk_at dksX1_hear_0 13 rfl rfl)
theorem dX1_hear_14 : decode cX1_hear 14 = .ok (.getfield 199, 3) := dk_180 0 199 (dk_at dksX1_hear_0 14 rfl rfl)
theorem dX1_hear_17 : decode cX1_hear 17 = .ok (.if_icmp .ge 44, 3) := dk_162 0 44 (dk_at dksX1_hear_0 17 rfl rfl)
theorem dX1_hear_20 : decode cX1_hear 20 = .ok (.aload_n 0, 1) := dk_42 (dk_at dksX1_hear_0 20 rfl rfl)
theorem dX1_hear_21 : decode cX1_hear 21 = .ok (.getfield 30, 3) := dk_180 0 30 (dk_at dksX1_hear_0 21 rfl rfl)
theorem dX1_hear_24 : decode cX1_hear 24 = .ok (.iload 6, 2) := dk_21 6 (dk_at dksX1_hear_1 0 rfl rfl)
theorem dX1_hear_26 : decode cX1_hear 26 = .ok (.aaload, 1) := dk_50 (dk_at dksX1_hear_1 2 rfl rfl)
theorem dX1_hear_27 : decode cX1_hear 27 = .ok (.getfield 308, 3) := dk_180 1 52 (dk_at dksX1_hear_1 3 rfl rfl)
theorem dX1_hear_30 : decode cX1_hear 30 = .ok (.iload_n 1, 1) := dk_27 (dk_at dksX1_hear_1 6 rfl rfl)
theorem dX1_hear_31 : decode cX1_hear 31 = .ok (.if_icmp .eq 6, 3) := dk_159 0 6 (dk_at dksX1_hear_1 7 rfl rfl)
theorem dX1_hear_34 : decode cX1_hear 34 = .ok (.goto 21, 3) := dk_167 0 21 (dk_at dksX1_hear_1 10 rfl rfl)
theorem dX1_hear_37 : decode cX1_hear 37 = .ok (.iinc 4 1, 3) := dk_132 4 1 (dk_at dksX1_hear_1 13 rfl rfl)
theorem dX1_hear_40 : decode cX1_hear 40 = .ok (.iload_n 3, 1) := dk_29 (dk_at dksX1_hear_1 16 rfl rfl)
theorem dX1_hear_41 : decode cX1_hear 41 = .ok (.aload_n 0, 1) := dk_42 (dk_at dksX1_hear_1 17 rfl rfl)
theorem dX1_hear_42 : decode cX1_hear 42 = .ok (.getfield 30, 3) := dk_180 0 30 (dk_at dksX1_hear_1 18 rfl rfl)
theorem dX1_hear_45 : decode cX1_hear 45 = .ok (.iload 6, 2) := dk_21 6 (dk_at dksX1_hear_1 21 rfl rfl)
theorem dX1_hear_47 : decode cX1_hear 47 = .ok (.aaload, 1) := dk_50 (dk_at dksX1_hear_1 23 rfl rfl)
theorem dX1_hear_48 : decode cX1_hear 48 = .ok (.getfield 209, 3) := dk_180 0 209 (dk_at dksX1_hear_2 0 rfl rfl)
theorem dX1_hear_51 : decode cX1_hear 51 = .ok (.invokestatic 269, 3) := dk_184 1 13 (dk_at dksX1_hear_2 3 rfl rfl)
theorem dX1_hear_54 : decode cX1_hear 54 = .ok (.istore_n 3, 1) := dk_62 (dk_at dksX1_hear_2 6 rfl rfl)
theorem dX1_hear_55 : decode cX1_hear 55 = .ok (.iinc 6 1, 3) := dk_132 6 1 (dk_at dksX1_hear_2 7 rfl rfl)
theorem dX1_hear_58 : decode cX1_hear 58 = .ok (.goto (-47), 3) := dk_167 255 209 (dk_at dksX1_hear_2 10 rfl rfl)
theorem dX1_hear_61 : decode cX1_hear 61 = .ok (.iconst 0, 1) := dk_3 (dk_at dksX1_hear_2 13 rfl rfl)
theorem dX1_hear_62 : decode cX1_hear 62 = .ok (.istore 6, 2) := dk_54 6 (dk_at dksX1_hear_2 14 rfl rfl)
theorem dX1_hear_64 : decode cX1_hear 64 = .ok (.iload 6, 2) := dk_21 6 (dk_at dksX1_hear_2 16 rfl rfl)
theorem dX1_hear_66 : decode cX1_hear 66 = .ok (.aload_n 0, 1) := dk_42 (dk_at dksX1_hear_2 18 rfl rfl)
theorem dX1_hear_67 : decode cX1_hear 67 = .ok (.getfield 587, 3) := dk_180 2 75 (dk_at dksX1_hear_2 19 rfl rfl)
theorem dX1_hear_70 : decode cX1_hear 70 = .ok (.if_icmp .ge 39, 3) := dk_162 0 39 (dk_at dksX1_hear_3 0 rfl rfl)
theorem dX1_hear_73 : decode cX1_hear 73 = .ok (.aload_n 0, 1) := dk_42 (dk_at dksX1_hear_3 3 rfl rfl)
theorem dX1_hear_74 : decode cX1_hear 74 = .ok (.getfield 74, 3) := dk_180 0 74 (dk_at dksX1_hear_3 4 rfl rfl)
theorem dX1_hear_77 : decode cX1_hear 77 = .ok (.iload 6, 2) := dk_21 6 (dk_at dksX1_hear_3 7 rfl rfl)
theorem dX1_hear_79 : decode cX1_hear 79 = .ok (.aaload, 1) := dk_50 (dk_at dksX1_hear_3 9 rfl rfl)
theorem dX1_hear_80 : decode cX1_hear 80 = .ok (.getfield 591, 3) := dk_180 2 79 (dk_at dksX1_hear_3 10 rfl rfl)
theorem dX1_hear_83 : decode cX1_hear 83 = .ok (.ifCond .ne 20, 3) := dk_154 0 20 (dk_at dksX1_hear_3 13 rfl rfl)
theorem dX1_hear_86 : decode cX1_hear 86 = .ok (.aload_n 0, 1) := dk_42 (dk_at dksX1_hear_3 16 rfl rfl)
theorem dX1_hear_87 : decode cX1_hear 87 = .ok (.getfield 74, 3) := dk_180 0 74 (dk_at dksX1_hear_3 17 rfl rfl)
theorem dX1_hear_90 : decode cX1_hear 90 = .ok (.iload 6, 2) := dk_21 6 (dk_at dksX1_hear_3 20 rfl rfl)
theorem dX1_hear_92 : decode cX1_hear 92 = .ok (.aaload, 1) := dk_50 (dk_at dksX1_hear_3 22 rfl rfl)
theorem dX1_hear_93 : decode cX1_hear 93 = .ok (.getfield 590, 3) := dk_180 2 78 (dk_at dksX1_hear_4 0 rfl rfl)
theorem dX1_hear_96 : decode cX1_hear 96 = .ok (.iload_n 1, 1) := dk_27 (dk_at dksX1_hear_4 3 rfl rfl)
theorem dX1_hear_97 : decode cX1_hear 97 = .ok (.if_icmp .eq 6, 3) := dk_159 0 6 (dk_at dksX1_hear_4 4 rfl rfl)
theorem dX1_hear_100 : decode cX1_hear 100 = .ok (.iinc 5 1, 3) := dk_132 5 1 (dk_at dksX1_hear_4 7 rfl rfl)
theorem dX1_hear_103 : decode cX1_hear 103 = .ok (.iinc 6 1, 3) := dk_132 6 1 (dk_at dksX1_hear_4 10 rfl rfl)
theorem dX1_hear_106 : decode cX1_hear 106 = .ok (.goto (-42), 3) := dk_167 255 214 (dk_at dksX1_hear_4 13 rfl rfl)
theorem dX1_hear_109 : decode cX1_hear 109 = .ok (.aload_n 0, 1) := dk_42 (dk_at dksX1_hear_4 16 rfl rfl)
theorem dX1_hear_110 : decode cX1_hear 110 = .ok (.getfield 52, 3) := dk_180 0 52 (dk_at dksX1_hear_4 17 rfl rfl)
theorem dX1_hear_113 : decode cX1_hear 113 = .ok (.bipush 119, 2) := dk_16 119 (dk_at dksX1_hear_4 20 rfl rfl)
theorem dX1_hear_115 : decode cX1_hear 115 = .ok (.iload_n 2, 1) := dk_28 (dk_at dksX1_hear_4 22 rfl rfl)
theorem dX1_hear_116 : decode cX1_hear 116 = .ok (.iastore, 1) := dk_79 (dk_at dksX1_hear_4 23 rfl rfl)
theorem dX1_hear_117 : decode cX1_hear 117 = .ok (.aload_n 0, 1) := dk_42 (dk_at dksX1_hear_5 0 rfl rfl)
theorem dX1_hear_118 : decode cX1_hear 118 = .ok (.getfield 52, 3) := dk_180 0 52 (dk_at dksX1_hear_5 1 rfl rfl)
theorem dX1_hear_121 : decode cX1_hear 121 = .ok (.bipush 104, 2) := dk_16 104 (dk_at dksX1_hear_5 4 rfl rfl)
theorem dX1_hear_123 : decode cX1_hear 123 = .ok (.aload_n 0, 1) := dk_42 (dk_at dksX1_hear_5 6 rfl rfl)
theorem dX1_hear_124 : decode cX1_hear 124 = .ok (.getfield 415, 3) := dk_180 1 159 (dk_at dksX1_hear_5 7 rfl rfl)
theorem dX1_hear_127 : decode cX1_hear 127 = .ok (.bipush 60, 2) := dk_16 60 (dk_at dksX1_hear_5 10 rfl rfl)
theorem dX1_hear_129 : decode cX1_hear 129 = .ok (.idiv, 1) := dk_108 (dk_at dksX1_hear_5 12 rfl rfl)
theorem dX1_hear_130 : decode cX1_hear 130 = .ok (.bipush 24, 2) := dk_16 24 (dk_at dksX1_hear_5 13 rfl rfl)
theorem dX1_hear_132 : decode cX1_hear 132 = .ok (.irem, 1) := dk_112 (dk_at dksX1_hear_5 15 rfl rfl)
theorem dX1_hear_133 : decode cX1_hear 133 = .ok (.iastore, 1) := dk_79 (dk_at dksX1_hear_5 16 rfl rfl)
theorem dX1_hear_134 : decode cX1_hear 134 = .ok (.aload_n 0, 1) := dk_42 (dk_at dksX1_hear_5 17 rfl rfl)
theorem dX1_hear_135 : decode cX1_hear 135 = .ok (.getfield 52, 3) := dk_180 0 52 (dk_at dksX1_hear_5 18 rfl rfl)
theorem dX1_hear_138 : decode cX1_hear 138 = .ok (.bipush 102, 2) := dk_16 102 (dk_at dksX1_hear_5 21 rfl rfl)
theorem dX1_hear_140 : decode cX1_hear 140 = .ok (.iload_n 3, 1) := dk_29 (dk_at dksX1_hear_5 23 rfl rfl)
theorem dX1_hear_141 : decode cX1_hear 141 = .ok (.iastore, 1) := dk_79 (dk_at dksX1_hear_6 0 rfl rfl)
theorem dX1_hear_142 : decode cX1_hear 142 = .ok (.aload_n 0, 1) := dk_42 (dk_at dksX1_hear_6 1 rfl rfl)
theorem dX1_hear_143 : decode cX1_hear 143 = .ok (.getfield 52, 3) := dk_180 0 52 (dk_at dksX1_hear_6 2 rfl rfl)
theorem dX1_hear_146 : decode cX1_hear 146 = .ok (.bipush 107, 2) := dk_16 107 (dk_at dksX1_hear_6 5 rfl rfl)
theorem dX1_hear_148 : decode cX1_hear 148 = .ok (.iload 4, 2) := dk_21 4 (dk_at dksX1_hear_6 7 rfl rfl)
theorem dX1_hear_150 : decode cX1_hear 150 = .ok (.iastore, 1) := dk_79 (dk_at dksX1_hear_6 9 rfl rfl)
theorem dX1_hear_151 : decode cX1_hear 151 = .ok (.aload_n 0, 1) := dk_42 (dk_at dksX1_hear_6 10 rfl rfl)
theorem dX1_hear_152 : decode cX1_hear 152 = .ok (.getfield 52, 3) := dk_180 0 52 (dk_at dksX1_hear_6 11 rfl rfl)
theorem dX1_hear_155 : decode cX1_hear 155 = .ok (.bipush 97, 2) := dk_16 97 (dk_at dksX1_hear_6 14 rfl rfl)
theorem dX1_hear_157 : decode cX1_hear 157 = .ok (.aload_n 0, 1) := dk_42 (dk_at dksX1_hear_6 16 rfl rfl)
theorem dX1_hear_158 : decode cX1_hear 158 = .ok (.iload_n 1, 1) := dk_27 (dk_at dksX1_hear_6 17 rfl rfl)
theorem dX1_hear_159 : decode cX1_hear 159 = .ok (.aload_n 0, 1) := dk_42 (dk_at dksX1_hear_6 18 rfl rfl)
theorem dX1_hear_160 : decode cX1_hear 160 = .ok (.getfield 415, 3) := dk_180 1 159 (dk_at dksX1_hear_6 19 rfl rfl)
theorem dX1_hear_163 : decode cX1_hear 163 = .ok (.invokestatic 603, 3) := dk_184 2 91 (dk_at dksX1_hear_7 0 rfl rfl)
theorem dX1_hear_166 : decode cX1_hear 166 = .ok (.invokevirtual 606, 3) := dk_182 2 94 (dk_at dksX1_hear_7 3 rfl rfl)
theorem dX1_hear_169 : decode cX1_hear 169 = .ok (.iastore, 1) := dk_79 (dk_at dksX1_hear_7 6 rfl rfl)
theorem dX1_hear_170 : decode cX1_hear 170 = .ok (.aload_n 0, 1) := dk_42 (dk_at dksX1_hear_7 7 rfl rfl)
theorem dX1_hear_171 : decode cX1_hear 171 = .ok (.getfield 52, 3) := dk_180 0 52 (dk_at dksX1_hear_7 8 rfl rfl)
theorem dX1_hear_174 : decode cX1_hear 174 = .ok (.bipush 112, 2) := dk_16 112 (dk_at dksX1_hear_7 11 rfl rfl)
theorem dX1_hear_176 : decode cX1_hear 176 = .ok (.aload_n 0, 1) := dk_42 (dk_at dksX1_hear_7 13 rfl rfl)
theorem dX1_hear_177 : decode cX1_hear 177 = .ok (.iconst 0, 1) := dk_3 (dk_at dksX1_hear_7 14 rfl rfl)
theorem dX1_hear_178 : decode cX1_hear 178 = .ok (.invokevirtual 612, 3) := dk_182 2 100 (dk_at dksX1_hear_7 15 rfl rfl)
theorem dX1_hear_181 : decode cX1_hear 181 = .ok (.iastore, 1) := dk_79 (dk_at dksX1_hear_7 18 rfl rfl)
theorem dX1_hear_182 : decode cX1_hear 182 = .ok (.aload_n 0, 1) := dk_42 (dk_at dksX1_hear_7 19 rfl rfl)
theorem dX1_hear_183 : decode cX1_hear 183 = .ok (.getfield 52, 3) := dk_180 0 52 (dk_at dksX1_hear_7 20 rfl rfl)
theorem dX1_hear_186 : decode cX1_hear 186 = .ok (.bipush 115, 2) := dk_16 115 (dk_at dksX1_hear_8 0 rfl rfl)
theorem dX1_hear_188 : decode cX1_hear 188 = .ok (.aload_n 0, 1) := dk_42 (dk_at dksX1_hear_8 2 rfl rfl)
theorem dX1_hear_189 : decode cX1_hear 189 = .ok (.iconst 1, 1) := dk_4 (dk_at dksX1_hear_8 3 rfl rfl)
theorem dX1_hear_190 : decode cX1_hear 190 = .ok (.invokevirtual 612, 3) := dk_182 2 100 (dk_at dksX1_hear_8 4 rfl rfl)
theorem dX1_hear_193 : decode cX1_hear 193 = .ok (.iastore, 1) := dk_79 (dk_at dksX1_hear_8 7 rfl rfl)
theorem dX1_hear_194 : decode cX1_hear 194 = .ok (.aload_n 0, 1) := dk_42 (dk_at dksX1_hear_8 8 rfl rfl)
theorem dX1_hear_195 : decode cX1_hear 195 = .ok (.getfield 52, 3) := dk_180 0 52 (dk_at dksX1_hear_8 9 rfl rfl)
theorem dX1_hear_198 : decode cX1_hear 198 = .ok (.bipush 108, 2) := dk_16 108 (dk_at dksX1_hear_8 12 rfl rfl)
theorem dX1_hear_200 : decode cX1_hear 200 = .ok (.aload_n 0, 1) := dk_42 (dk_at dksX1_hear_8 14 rfl rfl)
theorem dX1_hear_201 : decode cX1_hear 201 = .ok (.iconst 2, 1) := dk_5 (dk_at dksX1_hear_8 15 rfl rfl)
theorem dX1_hear_202 : decode cX1_hear 202 = .ok (.invokevirtual 612, 3) := dk_182 2 100 (dk_at dksX1_hear_8 16 rfl rfl)
theorem dX1_hear_205 : decode cX1_hear 205 = .ok (.iastore, 1) := dk_79 (dk_at dksX1_hear_8 19 rfl rfl)
theorem dX1_hear_206 : decode cX1_hear 206 = .ok (.aload_n 0, 1) := dk_42 (dk_at dksX1_hear_8 20 rfl rfl)
theorem dX1_hear_207 : decode cX1_hear 207 = .ok (.getfield 52, 3) := dk_180 0 52 (dk_at dksX1_hear_8 21 rfl rfl)
theorem dX1_hear_210 : decode cX1_hear 210 = .ok (.bipush 99, 2) := dk_16 99 (dk_at dksX1_hear_9 0 rfl rfl)
theorem dX1_hear_212 : decode cX1_hear 212 = .ok (.aload_n 0, 1) := dk_42 (dk_at dksX1_hear_9 2 rfl rfl)
theorem dX1_hear_213 : decode cX1_hear 213 = .ok (.iconst 3, 1) := dk_6 (dk_at dksX1_hear_9 3 rfl rfl)
theorem dX1_hear_214 : decode cX1_hear 214 = .ok (.invokevirtual 612, 3) := dk_182 2 100 (dk_at dksX1_hear_9 4 rfl rfl)
theorem dX1_hear_217 : decode cX1_hear 217 = .ok (.iastore, 1) := dk_79 (dk_at dksX1_hear_9 7 rfl rfl)
theorem dX1_hear_218 : decode cX1_hear 218 = .ok (.aload_n 0, 1) := dk_42 (dk_at dksX1_hear_9 8 rfl rfl)
theorem dX1_hear_219 : decode cX1_hear 219 = .ok (.getfield 52, 3) := dk_180 0 52 (dk_at dksX1_hear_9 9 rfl rfl)
theorem dX1_hear_222 : decode cX1_hear 222 = .ok (.bipush 111, 2) := dk_16 111 (dk_at dksX1_hear_9 12 rfl rfl)
theorem dX1_hear_224 : decode cX1_hear 224 = .ok (.iload 5, 2) := dk_21 5 (dk_at dksX1_hear_9 14 rfl rfl)
theorem dX1_hear_226 : decode cX1_hear 226 = .ok (.iastore, 1) := dk_79 (dk_at dksX1_hear_9 16 rfl rfl)
theorem dX1_hear_227 : decode cX1_hear 227 = .ok (.return_, 1) := dk_177 (dk_at dksX1_hear_9 17 rfl rfl)
abbrev cX1_readyOf : ByteArray := prog_1_method_82_code
def yX1_readyOf : MethodName := ⟨RX1, "readyOf", "(I)I"⟩
def dkwX1_readyOf_2 : List UInt8 := [28, 172]
abbrev dktX1_readyOf_2 : List UInt8 := dkwX1_readyOf_2 ++ []
def dkwX1_readyOf_1 : List UInt8 := [160, 0, 18, 42, 180, 0, 48, 29, 50, 180, 1, 133, 154, 0, 6, 132, 2, 1, 132, 3, 1, 167, 255, 217]
abbrev dktX1_readyOf_1 : List UInt8 := dkwX1_readyOf_1 ++ dktX1_readyOf_2
def dkwX1_readyOf_0 : List UInt8 := [3, 61, 3, 62, 29, 42, 180, 1, 109, 162, 0, 37, 42, 180, 0, 48, 29, 50, 182, 2, 97, 27]
abbrev dktX1_readyOf_0 : List UInt8 := dkwX1_readyOf_0 ++ dktX1_readyOf_1
theorem dksX1_readyOf_0 : cX1_readyOf.data.toList.drop 0 = dktX1_readyOf_0 := by decide +kernel
theorem dksX1_readyOf_1 : cX1_readyOf.data.toList.drop 22 = dktX1_readyOf_1 := dk_seg dksX1_readyOf_0 22 rfl rfl
theorem dksX1_readyOf_2 : cX1_readyOf.data.toList.drop 46 = dktX1_readyOf_2 := dk_seg dksX1_readyOf_1 24 rfl rfl
theorem dX1_readyOf_0 : decode cX1_readyOf 0 = .ok (.iconst 0, 1) := dk_3 (dk_at dksX1_readyOf_0 0 rfl rfl)
theorem dX1_readyOf_1 : decode cX1_readyOf 1 = .ok (.istore_n 2, 1) := dk_61 (dk_at dksX1_readyOf_0 1 rfl rfl)
theorem dX1_readyOf_2 : decode cX1_readyOf 2 = .ok (.iconst 0, 1) := dk_3 (dk_at dksX1_readyOf_0 2 rfl rfl)
theorem dX1_readyOf_3 : decode cX1_readyOf 3 = .ok (.istore_n 3, 1) := dk_62 (dk_at dksX1_readyOf_0 3 rfl rfl)
theorem dX1_readyOf_4 : decode cX1_readyOf 4 = .ok (.iload_n 3, 1) := dk_29 (dk_at dksX1_readyOf_0 4 rfl rfl)
theorem dX1_readyOf_5 : decode cX1_readyOf 5 = .ok (.aload_n 0, 1) := dk_42 (dk_at dksX1_readyOf_0 5 rfl rfl)
theorem dX1_readyOf_6 : decode cX1_readyOf 6 = .ok (.getfield 365, 3) := dk_180 1 109 (dk_at dksX1_readyOf_0 6 rfl rfl)
theorem dX1_readyOf_9 : decode cX1_readyOf 9 = .ok (.if_icmp .ge 37, 3) := dk_162 0 37 (dk_at dksX1_readyOf_0 9 rfl rfl)
theorem dX1_readyOf_12 : decode cX1_readyOf 12 = .ok (.aload_n 0, 1) := dk_42 (dk_at dksX1_readyOf_0 12 rfl rfl)
theorem dX1_readyOf_13 : decode cX1_readyOf 13 = .ok (.getfield 48, 3) := dk_180 0 48 (dk_at dksX1_readyOf_0 13 rfl rfl)
theorem dX1_readyOf_16 : decode cX1_readyOf 16 = .ok (.iload_n 3, 1) := dk_29 (dk_at dksX1_readyOf_0 16 rfl rfl)
theorem dX1_readyOf_17 : decode cX1_readyOf 17 = .ok (.aaload, 1) := dk_50 (dk_at dksX1_readyOf_0 17 rfl rfl)
theorem dX1_readyOf_18 : decode cX1_readyOf 18 = .ok (.invokevirtual 609, 3) := dk_182 2 97 (dk_at dksX1_readyOf_0 18 rfl rfl)
theorem dX1_readyOf_21 : decode cX1_readyOf 21 = .ok (.iload_n 1, 1) := dk_27 (dk_at dksX1_readyOf_0 21 rfl rfl)
theorem dX1_readyOf_22 : decode cX1_readyOf 22 = .ok (.if_icmp .ne 18, 3) := dk_160 0 18 (dk_at dksX1_readyOf_1 0 rfl rfl)
theorem dX1_readyOf_25 : decode cX1_readyOf 25 = .ok (.aload_n 0, 1) := dk_42 (dk_at dksX1_readyOf_1 3 rfl rfl)
theorem dX1_readyOf_26 : decode cX1_readyOf 26 = .ok (.getfield 48, 3) := dk_180 0 48 (dk_at dksX1_readyOf_1 4 rfl rfl)
theorem dX1_readyOf_29 : decode cX1_readyOf 29 = .ok (.iload_n 3, 1) := dk_29 (dk_at dksX1_readyOf_1 7 rfl rfl)
theorem dX1_readyOf_30 : decode cX1_readyOf 30 = .ok (.aaload, 1) := dk_50 (dk_at dksX1_readyOf_1 8 rfl rfl)
theorem dX1_readyOf_31 : decode cX1_readyOf 31 = .ok (.getfield 389, 3) := dk_180 1 133 (dk_at dksX1_readyOf_1 9 rfl rfl)
theorem dX1_readyOf_34 : decode cX1_readyOf 34 = .ok (.ifCond .ne 6, 3) := dk_154 0 6 (dk_at dksX1_readyOf_1 12 rfl rfl)
theorem dX1_readyOf_37 : decode cX1_readyOf 37 = .ok (.iinc 2 1, 3) := dk_132 2 1 (dk_at dksX1_readyOf_1 15 rfl rfl)
theorem dX1_readyOf_40 : decode cX1_readyOf 40 = .ok (.iinc 3 1, 3) := dk_132 3 1 (dk_at dksX1_readyOf_1 18 rfl rfl)
theorem dX1_readyOf_43 : decode cX1_readyOf 43 = .ok (.goto (-39), 3) := dk_167 255 217 (dk_at dksX1_readyOf_1 21 rfl rfl)
theorem dX1_readyOf_46 : decode cX1_readyOf 46 = .ok (.iload_n 2, 1) := dk_28 (dk_at dksX1_readyOf_2 0 rfl rfl)
theorem dX1_readyOf_47 : decode cX1_readyOf 47 = .ok (.ireturn, 1) := dk_172 (dk_at dksX1_readyOf_2 1 rfl rfl)
abbrev cX1_why : ByteArray := prog_1_method_86_code
def yX1_why : MethodName := ⟨RX1, "why", "(II)I"⟩
def dkwX1_why_1 : List UInt8 := [42, 180, 2, 106, 172]
abbrev dktX1_why_1 : List UInt8 := dkwX1_why_1 ++ []
def dkwX1_why_0 : List UInt8 := [27, 184, 0, 143, 153, 0, 12, 28, 4, 6, 184, 0, 3, 154, 0, 5, 2, 172, 42, 27, 28, 182, 2, 118]
abbrev dktX1_why_0 : List UInt8 := dkwX1_why_0 ++ dktX1_why_1
theorem dksX1_why_0 : cX1_why.data.toList.drop 0 = dktX1_why_0 := by decide +kernel
theorem dksX1_why_1 : cX1_why.data.toList.drop 24 = dktX1_why_1 := dk_seg dksX1_why_0 24 rfl rfl
theorem dX1_why_0 : decode cX1_why 0 = .ok (.iload_n 1, 1) := dk_27 (dk_at dksX1_why_0 0 rfl rfl)
theorem dX1_why_1 : decode cX1_why 1 = .ok (.invokestatic 143, 3) := dk_184 0 143 (dk_at dksX1_why_0 1 rfl rfl)
theorem dX1_why_4 : decode cX1_why 4 = .ok (.ifCond .eq 12, 3) := dk_153 0 12 (dk_at dksX1_why_0 4 rfl rfl)
theorem dX1_why_7 : decode cX1_why 7 = .ok (.iload_n 2, 1) := dk_28 (dk_at dksX1_why_0 7 rfl rfl)
theorem dX1_why_8 : decode cX1_why 8 = .ok (.iconst 1, 1) := dk_4 (dk_at dksX1_why_0 8 rfl rfl)
theorem dX1_why_9 : decode cX1_why 9 = .ok (.iconst 3, 1) := dk_6 (dk_at dksX1_why_0 9 rfl rfl)
theorem dX1_why_10 : decode cX1_why 10 = .ok (.invokestatic 3, 3) := dk_184 0 3 (dk_at dksX1_why_0 10 rfl rfl)
theorem dX1_why_13 : decode cX1_why 13 = .ok (.ifCond .ne 5, 3) := dk_154 0 5 (dk_at dksX1_why_0 13 rfl rfl)
theorem dX1_why_16 : decode cX1_why 16 = .ok (.iconst (-1), 1) := dk_2 (dk_at dksX1_why_0 16 rfl rfl)
theorem dX1_why_17 : decode cX1_why 17 = .ok (.ireturn, 1) := dk_172 (dk_at dksX1_why_0 17 rfl rfl)
theorem dX1_why_18 : decode cX1_why 18 = .ok (.aload_n 0, 1) := dk_42 (dk_at dksX1_why_0 18 rfl rfl)
theorem dX1_why_19 : decode cX1_why 19 = .ok (.iload_n 1, 1) := dk_27 (dk_at dksX1_why_0 19 rfl rfl)
theorem dX1_why_20 : decode cX1_why 20 = .ok (.iload_n 2, 1) := dk_28 (dk_at dksX1_why_0 20 rfl rfl)
theorem dX1_why_21 : decode cX1_why 21 = .ok (.invokevirtual 630, 3) := dk_182 2 118 (dk_at dksX1_why_0 21 rfl rfl)
theorem dX1_why_24 : decode cX1_why 24 = .ok (.aload_n 0, 1) := dk_42 (dk_at dksX1_why_1 0 rfl rfl)
theorem dX1_why_25 : decode cX1_why 25 = .ok (.getfield 618, 3) := dk_180 2 106 (dk_at dksX1_why_1 1 rfl rfl)
theorem dX1_why_28 : decode cX1_why 28 = .ok (.ireturn, 1) := dk_172 (dk_at dksX1_why_1 4 rfl rfl)
abbrev cX1_call : ByteArray := prog_1_method_93_code
def yX1_call : MethodName := ⟨RX1, "call", "(I)I"⟩
def dkwX1_call_4 : List UInt8 := [6, 162, 0, 18, 44, 89, 180, 2, 124, 4, 96, 181, 2, 124, 42, 44, 182, 2, 155, 44, 180, 2, 134, 172]
abbrev dktX1_call_4 : List UInt8 := dkwX1_call_4 ++ []
def dkwX1_call_3 : List UInt8 := [42, 44, 182, 2, 155, 44, 180, 2, 134, 172, 44, 89, 180, 2, 159, 4, 96, 181, 2, 159, 44, 180, 2, 124]
abbrev dktX1_call_3 : List UInt8 := dkwX1_call_3 ++ dktX1_call_4
def dkwX1_call_2 : List UInt8 := [42, 180, 0, 74, 42, 180, 2, 75, 44, 83, 42, 89, 180, 2, 75, 4, 96, 181, 2, 75, 42, 182, 1, 1]
abbrev dktX1_call_2 : List UInt8 := dkwX1_call_2 ++ dktX1_call_3
def dkwX1_call_1 : List UInt8 := [16, 60, 160, 0, 5, 2, 172, 187, 0, 72, 89, 42, 180, 2, 75, 27, 42, 180, 1, 159, 183, 2, 154, 77]
abbrev dktX1_call_1 : List UInt8 := dkwX1_call_1 ++ dktX1_call_2
def dkwX1_call_0 : List UInt8 := [27, 184, 0, 143, 154, 0, 5, 2, 172, 42, 27, 182, 2, 150, 77, 44, 199, 0, 65, 42, 180, 2, 75]
abbrev dktX1_call_0 : List UInt8 := dkwX1_call_0 ++ dktX1_call_1
theorem dksX1_call_0 : cX1_call.data.toList.drop 0 = dktX1_call_0 := by decide +kernel
theorem dksX1_call_1 : cX1_call.data.toList.drop 23 = dktX1_call_1 := dk_seg dksX1_call_0 23 rfl rfl
theorem dksX1_call_2 : cX1_call.data.toList.drop 47 = dktX1_call_2 := dk_seg dksX1_call_1 24 rfl rfl
theorem dksX1_call_3 : cX1_call.data.toList.drop 71 = dktX1_call_3 := dk_seg dksX1_call_2 24 rfl rfl
theorem dksX1_call_4 : cX1_call.data.toList.drop 95 = dktX1_call_4 := dk_seg dksX1_call_3 24 rfl rfl
theorem dX1_call_0 : decode cX1_call 0 = .ok (.iload_n 1, 1) := dk_27 (dk_at dksX1_call_0 0 rfl rfl)
theorem dX1_call_1 : decode cX1_call 1 = .ok (.invokestatic 143, 3) := dk_184 0 143 (dk_at dksX1_call_0 1 rfl rfl)
theorem dX1_call_4 : decode cX1_call 4 = .ok (.ifCond .ne 5, 3) := dk_154 0 5 (dk_at dksX1_call_0 4 rfl rfl)
theorem dX1_call_7 : decode cX1_call 7 = .ok (.iconst (-1), 1) := dk_2 (dk_at dksX1_call_0 7 rfl rfl)
theorem dX1_call_8 : decode cX1_call 8 = .ok (.ireturn, 1) := dk_172 (dk_at dksX1_call_0 8 rfl rfl)
theorem dX1_call_9 : decode cX1_call 9 = .ok (.aload_n 0, 1) := dk_42 (dk_at dksX1_call_0 9 rfl rfl)
theorem dX1_call_10 : decode cX1_call 10 = .ok (.iload_n 1, 1) := dk_27 (dk_at dksX1_call_0 10 rfl rfl)
theorem dX1_call_11 : decode cX1_call 11 = .ok (.invokevirtual 662, 3) := dk_182 2 150 (dk_at dksX1_call_0 11 rfl rfl)
theorem dX1_call_14 : decode cX1_call 14 = .ok (.astore_n 2, 1) := dk_77 (dk_at dksX1_call_0 14 rfl rfl)
theorem dX1_call_15 : decode cX1_call 15 = .ok (.aload_n 2, 1) := dk_44 (dk_at dksX1_call_0 15 rfl rfl)
theorem dX1_call_16 : decode cX1_call 16 = .ok (.ifnonnull 65, 3) := dk_199 0 65 (dk_at dksX1_call_0 16 rfl rfl)
theorem dX1_call_19 : decode cX1_call 19 = .ok (.aload_n 0, 1) := dk_42 (dk_at dksX1_call_0 19 rfl rfl)
theorem dX1_call_20 : decode cX1_call 20 = .ok (.getfield 587, 3) := dk_180 2 75 (dk_at dksX1_call_0 20 rfl rfl)
theorem dX1_call_23 : decode cX1_call 23 = .ok (.bipush 60, 2) := dk_16 60 (dk_at dksX1_call_1 0 rfl rfl)
theorem dX1_call_25 : decode cX1_call 25 = .ok (.if_icmp .ne 5, 3) := dk_160 0 5 (dk_at dksX1_call_1 2 rfl rfl)
theorem dX1_call_28 : decode cX1_call 28 = .ok (.iconst (-1), 1) := dk_2 (dk_at dksX1_call_1 5 rfl rfl)
theorem dX1_call_29 : decode cX1_call 29 = .ok (.ireturn, 1) := dk_172 (dk_at dksX1_call_1 6 rfl rfl)
theorem dX1_call_30 : decode cX1_call 30 = .ok (.new 72, 3) := dk_187 0 72 (dk_at dksX1_call_1 7 rfl rfl)
theorem dX1_call_33 : decode cX1_call 33 = .ok (.dup, 1) := dk_89 (dk_at dksX1_call_1 10 rfl rfl)
theorem dX1_call_34 : decode cX1_call 34 = .ok (.aload_n 0, 1) := dk_42 (dk_at dksX1_call_1 11 rfl rfl)
theorem dX1_call_35 : decode cX1_call 35 = .ok (.getfield 587, 3) := dk_180 2 75 (dk_at dksX1_call_1 12 rfl rfl)
theorem dX1_call_38 : decode cX1_call 38 = .ok (.iload_n 1, 1) := dk_27 (dk_at dksX1_call_1 15 rfl rfl)
theorem dX1_call_39 : decode cX1_call 39 = .ok (.aload_n 0, 1) := dk_42 (dk_at dksX1_call_1 16 rfl rfl)
theorem dX1_call_40 : decode cX1_call 40 = .ok (.getfield 415, 3) := dk_180 1 159 (dk_at dksX1_call_1 17 rfl rfl)
theorem dX1_call_43 : decode cX1_call 43 = .ok (.invokespecial 666, 3) := dk_183 2 154 (dk_at dksX1_call_1 20 rfl rfl)
theorem dX1_call_46 : decode cX1_call 46 = .ok (.astore_n 2, 1) := dk_77 (dk_at dksX1_call_1 23 rfl rfl)
theorem dX1_call_47 : decode cX1_call 47 = .ok (.aload_n 0, 1) := dk_42 (dk_at dksX1_call_2 0 rfl rfl)
theorem dX1_call_48 : decode cX1_call 48 = .ok (.getfield 74, 3) := dk_180 0 74 (dk_at dksX1_call_2 1 rfl rfl)
theorem dX1_call_51 : decode cX1_call 51 = .ok (.aload_n 0, 1) := dk_42 (dk_at dksX1_call_2 4 rfl rfl)
theorem dX1_call_52 : decode cX1_call 52 = .ok (.getfield 587, 3) := dk_180 2 75 (dk_at dksX1_call_2 5 rfl rfl)
theorem dX1_call_55 : decode cX1_call 55 = .ok (.aload_n 2, 1) := dk_44 (dk_at dksX1_call_2 8 rfl rfl)
theorem dX1_call_56 : decode cX1_call 56 = .ok (.aastore, 1) := dk_83 (dk_at dksX1_call_2 9 rfl rfl)
theorem dX1_call_57 : decode cX1_call 57 = .ok (.aload_n 0, 1) := dk_42 (dk_at dksX1_call_2 10 rfl rfl)
theorem dX1_call_58 : decode cX1_call 58 = .ok (.dup, 1) := dk_89 (dk_at dksX1_call_2 11 rfl rfl)
theorem dX1_call_59 : decode cX1_call 59 = .ok (.getfield 587, 3) := dk_180 2 75 (dk_at dksX1_call_2 12 rfl rfl)
theorem dX1_call_62 : decode cX1_call 62 = .ok (.iconst 1, 1) := dk_4 (dk_at dksX1_call_2 15 rfl rfl)
theorem dX1_call_63 : decode cX1_call 63 = .ok (.iadd, 1) := dk_96 (dk_at dksX1_call_2 16 rfl rfl)
theorem dX1_call_64 : decode cX1_call 64 = .ok (.putfield 587, 3) := dk_181 2 75 (dk_at dksX1_call_2 17 rfl rfl)
theorem dX1_call_67 : decode cX1_call 67 = .ok (.aload_n 0, 1) := dk_42 (dk_at dksX1_call_2 20 rfl rfl)
theorem dX1_call_68 : decode cX1_call 68 = .ok (.invokevirtual 257, 3) := dk_182 1 1 (dk_at dksX1_call_2 21 rfl rfl)
theorem dX1_call_71 : decode cX1_call 71 = .ok (.aload_n 0, 1) := dk_42 (dk_at dksX1_call_3 0 rfl rfl)
theorem dX1_call_72 : decode cX1_call 72 = .ok (.aload_n 2, 1) := dk_44 (dk_at dksX1_call_3 1 rfl rfl)
theorem dX1_call_73 : decode cX1_call 73 = .ok (.invokevirtual 667, 3) := dk_182 2 155 (dk_at dksX1_call_3 2 rfl rfl)
theorem dX1_call_76 : decode cX1_call 76 = .ok (.aload_n 2, 1) := dk_44 (dk_at dksX1_call_3 5 rfl rfl)
theorem dX1_call_77 : decode cX1_call 77 = .ok (.getfield 646, 3) := dk_180 2 134 (dk_at dksX1_call_3 6 rfl rfl)
theorem dX1_call_80 : decode cX1_call 80 = .ok (.ireturn, 1) := dk_172 (dk_at dksX1_call_3 9 rfl rfl)
theorem dX1_call_81 : decode cX1_call 81 = .ok (.aload_n 2, 1) := dk_44 (dk_at dksX1_call_3 10 rfl rfl)
theorem dX1_call_82 : decode cX1_call 82 = .ok (.dup, 1) := dk_89 (dk_at dksX1_call_3 11 rfl rfl)
theorem dX1_call_83 : decode cX1_call 83 = .ok (.getfield 671, 3) := dk_180 2 159 (dk_at dksX1_call_3 12 rfl rfl)
theorem dX1_call_86 : decode cX1_call 86 = .ok (.iconst 1, 1) := dk_4 (dk_at dksX1_call_3 15 rfl rfl)
theorem dX1_call_87 : decode cX1_call 87 = .ok (.iadd, 1) := dk_96 (dk_at dksX1_call_3 16 rfl rfl)
theorem dX1_call_88 : decode cX1_call 88 = .ok (.putfield 671, 3) := dk_181 2 159 (dk_at dksX1_call_3 17 rfl rfl)
theorem dX1_call_91 : decode cX1_call 91 = .ok (.aload_n 2, 1) := dk_44 (dk_at dksX1_call_3 20 rfl rfl)
theorem dX1_call_92 : decode cX1_call 92 = .ok (.getfield 636, 3) := dk_180 2 124 (dk_at dksX1_call_3 21 rfl rfl)
theorem dX1_call_95 : decode cX1_call 95 = .ok (.iconst 3, 1) := dk_6 (dk_at dksX1_call_4 0 rfl rfl)
theorem dX1_call_96 : decode cX1_call 96 = .ok (.if_icmp .ge 18, 3) := dk_162 0 18 (dk_at dksX1_call_4 1 rfl rfl)
theorem dX1_call_99 : decode cX1_call 99 = .ok (.aload_n 2, 1) := dk_44 (dk_at dksX1_call_4 4 rfl rfl)
theorem dX1_call_100 : decode cX1_call 100 = .ok (.dup, 1) := dk_89 (dk_at dksX1_call_4 5 rfl rfl)
theorem dX1_call_101 : decode cX1_call 101 = .ok (.getfield 636, 3) := dk_180 2 124 (dk_at dksX1_call_4 6 rfl rfl)
theorem dX1_call_104 : decode cX1_call 104 = .ok (.iconst 1, 1) := dk_4 (dk_at dksX1_call_4 9 rfl rfl)
theorem dX1_call_105 : decode cX1_call 105 = .ok (.iadd, 1) := dk_96 (dk_at dksX1_call_4 10 rfl rfl)
theorem dX1_call_106 : decode cX1_call 106 = .ok (.putfield 636, 3) := dk_181 2 124 (dk_at dksX1_call_4 11 rfl rfl)
theorem dX1_call_109 : decode cX1_call 109 = .ok (.aload_n 0, 1) := dk_42 (dk_at dksX1_call_4 14 rfl rfl)
theorem dX1_call_110 : decode cX1_call 110 = .ok (.aload_n 2, 1) := dk_44 (dk_at dksX1_call_4 15 rfl rfl)
theorem dX1_call_111 : decode cX1_call 111 = .ok (.invokevirtual 667, 3) := dk_182 2 155 (dk_at dksX1_call_4 16 rfl rfl)
theorem dX1_call_114 : decode cX1_call 114 = .ok (.aload_n 2, 1) := dk_44 (dk_at dksX1_call_4 19 rfl rfl)
theorem dX1_call_115 : decode cX1_call 115 = .ok (.getfield 646, 3) := dk_180 2 134 (dk_at dksX1_call_4 20 rfl rfl)
theorem dX1_call_118 : decode cX1_call 118 = .ok (.ireturn, 1) := dk_172 (dk_at dksX1_call_4 23 rfl rfl)
abbrev cX1_openAt : ByteArray := prog_1_method_78_code
def yX1_openAt : MethodName := ⟨RX1, "openAt", "(I)LCityBrigade$Call;"⟩
def dkwX1_openAt_2 : List UInt8 := [1, 176]
abbrev dktX1_openAt_2 : List UInt8 := dkwX1_openAt_2 ++ []
def dkwX1_openAt_1 : List UInt8 := [180, 0, 74, 28, 50, 180, 2, 79, 154, 0, 10, 42, 180, 0, 74, 28, 50, 176, 132, 2, 1, 167, 255, 213]
abbrev dktX1_openAt_1 : List UInt8 := dkwX1_openAt_1 ++ dktX1_openAt_2
def dkwX1_openAt_0 : List UInt8 := [3, 61, 28, 42, 180, 2, 75, 162, 0, 41, 42, 180, 0, 74, 28, 50, 180, 2, 78, 27, 160, 0, 22, 42]
abbrev dktX1_openAt_0 : List UInt8 := dkwX1_openAt_0 ++ dktX1_openAt_1
theorem dksX1_openAt_0 : cX1_openAt.data.toList.drop 0 = dktX1_openAt_0 := by decide +kernel
theorem dksX1_openAt_1 : cX1_openAt.data.toList.drop 24 = dktX1_openAt_1 := dk_seg dksX1_openAt_0 24 rfl rfl
theorem dksX1_openAt_2 : cX1_openAt.data.toList.drop 48 = dktX1_openAt_2 := dk_seg dksX1_openAt_1 24 rfl rfl
theorem dX1_openAt_0 : decode cX1_openAt 0 = .ok (.iconst 0, 1) := dk_3 (dk_at dksX1_openAt_0 0 rfl rfl)
theorem dX1_openAt_1 : decode cX1_openAt 1 = .ok (.istore_n 2, 1) := dk_61 (dk_at dksX1_openAt_0 1 rfl rfl)
theorem dX1_openAt_2 : decode cX1_openAt 2 = .ok (.iload_n 2, 1) := dk_28 (dk_at dksX1_openAt_0 2 rfl rfl)
theorem dX1_openAt_3 : decode cX1_openAt 3 = .ok (.aload_n 0, 1) := dk_42 (dk_at dksX1_openAt_0 3 rfl rfl)
theorem dX1_openAt_4 : decode cX1_openAt 4 = .ok (.getfield 587, 3) := dk_180 2 75 (dk_at dksX1_openAt_0 4 rfl rfl)
theorem dX1_openAt_7 : decode cX1_openAt 7 = .ok (.if_icmp .ge 41, 3) := dk_162 0 41 (dk_at dksX1_openAt_0 7 rfl rfl)
theorem dX1_openAt_10 : decode cX1_openAt 10 = .ok (.aload_n 0, 1) := dk_42 (dk_at dksX1_openAt_0 10 rfl rfl)
theorem dX1_openAt_11 : decode cX1_openAt 11 = .ok (.getfield 74, 3) := dk_180 0 74 (dk_at dksX1_openAt_0 11 rfl rfl)
theorem dX1_openAt_14 : decode cX1_openAt 14 = .ok (.iload_n 2, 1) := dk_28 (dk_at dksX1_openAt_0 14 rfl rfl)
theorem dX1_openAt_15 : decode cX1_openAt 15 = .ok (.aaload, 1) := dk_50 (dk_at dksX1_openAt_0 15 rfl rfl)
theorem dX1_openAt_16 : decode cX1_openAt 16 = .ok (.getfield 590, 3) := dk_180 2 78 (dk_at dksX1_openAt_0 16 rfl rfl)
theorem dX1_openAt_19 : decode cX1_openAt 19 = .ok (.iload_n 1, 1) := dk_27 (dk_at dksX1_openAt_0 19 rfl rfl)
theorem dX1_openAt_20 : decode cX1_openAt 20 = .ok (.if_icmp .ne 22, 3) := dk_160 0 22 (dk_at dksX1_openAt_0 20 rfl rfl)
theorem dX1_openAt_23 : decode cX1_openAt 23 = .ok (.aload_n 0, 1) := dk_42 (dk_at dksX1_openAt_0 23 rfl rfl)
theorem dX1_openAt_24 : decode cX1_openAt 24 = .ok (.getfield 74, 3) := dk_180 0 74 (dk_at dksX1_openAt_1 0 rfl rfl)
theorem dX1_openAt_27 : decode cX1_openAt 27 = .ok (.iload_n 2, 1) := dk_28 (dk_at dksX1_openAt_1 3 rfl rfl)
theorem dX1_openAt_28 : decode cX1_openAt 28 = .ok (.aaload, 1) := dk_50 (dk_at dksX1_openAt_1 4 rfl rfl)
theorem dX1_openAt_29 : decode cX1_openAt 29 = .ok (.getfield 591, 3) := dk_180 2 79 (dk_at dksX1_openAt_1 5 rfl rfl)
theorem dX1_openAt_32 : decode cX1_openAt 32 = .ok (.ifCond .ne 10, 3) := dk_154 0 10 (dk_at dksX1_openAt_1 8 rfl rfl)
theorem dX1_openAt_35 : decode cX1_openAt 35 = .ok (.aload_n 0, 1) := dk_42 (dk_at dksX1_openAt_1 11 rfl rfl)
theorem dX1_openAt_36 : decode cX1_openAt 36 = .ok (.getfield 74, 3) := dk_180 0 74 (dk_at dksX1_openAt_1 12 rfl rfl)
theorem dX1_openAt_39 : decode cX1_openAt 39 = .ok (.iload_n 2, 1) := dk_28 (dk_at dksX1_openAt_1 15 rfl rfl)
theorem dX1_openAt_40 : decode cX1_openAt 40 = .ok (.aaload, 1) := dk_50 (dk_at dksX1_openAt_1 16 rfl rfl)
theorem dX1_openAt_41 : decode cX1_openAt 41 = .ok (.areturn, 1) := dk_176 (dk_at dksX1_openAt_1 17 rfl rfl)
theorem dX1_openAt_42 : decode cX1_openAt 42 = .ok (.iinc 2 1, 3) := dk_132 2 1 (dk_at dksX1_openAt_1 18 rfl rfl)
theorem dX1_openAt_45 : decode cX1_openAt 45 = .ok (.goto (-43), 3) := dk_167 255 213 (dk_at dksX1_openAt_1 21 rfl rfl)
theorem dX1_openAt_48 : decode cX1_openAt 48 = .ok (.aconst_null, 1) := dk_1 (dk_at dksX1_openAt_2 0 rfl rfl)
theorem dX1_openAt_49 : decode cX1_openAt 49 = .ok (.areturn, 1) := dk_176 (dk_at dksX1_openAt_2 1 rfl rfl)
abbrev cX1_send : ByteArray := prog_1_method_88_code
def yX1_send : MethodName := ⟨RX1, "send", "(LCityBrigade$Call;)V"⟩
def dkwX1_send_5 : List UInt8 := [180, 0, 78, 7, 46, 61, 28, 158, 0, 16, 42, 182, 2, 137, 153, 0, 9, 132, 2, 255, 167, 255, 242, 177]
abbrev dktX1_send_5 : List UInt8 := dkwX1_send_5 ++ []
def dkwX1_send_4 : List UInt8 := [43, 89, 180, 2, 136, 4, 96, 181, 2, 136, 132, 3, 1, 167, 255, 171, 132, 2, 1, 167, 255, 158, 42]
abbrev dktX1_send_4 : List UInt8 := dkwX1_send_4 ++ dktX1_send_5
def dkwX1_send_3 : List UInt8 := [180, 2, 78, 181, 1, 139, 25, 4, 42, 180, 2, 121, 181, 1, 142, 25, 4, 43, 180, 2, 134, 181, 1, 172]
abbrev dktX1_send_3 : List UInt8 := dkwX1_send_3 ++ dktX1_send_4
def dkwX1_send_2 : List UInt8 := [43, 89, 180, 2, 131, 4, 96, 181, 2, 131, 167, 0, 46, 25, 4, 4, 181, 1, 133, 25, 4, 43]
abbrev dktX1_send_2 : List UInt8 := dkwX1_send_2 ++ dktX1_send_3
def dkwX1_send_1 : List UInt8 := [180, 0, 78, 28, 46, 162, 0, 81, 42, 28, 43, 180, 2, 78, 182, 2, 127, 58, 4, 25, 4, 199, 0, 16]
abbrev dktX1_send_1 : List UInt8 := dkwX1_send_1 ++ dktX1_send_2
def dkwX1_send_0 : List UInt8 := [42, 43, 180, 2, 78, 43, 180, 2, 124, 182, 2, 118, 3, 61, 28, 7, 162, 0, 99, 3, 62, 29, 42]
abbrev dktX1_send_0 : List UInt8 := dkwX1_send_0 ++ dktX1_send_1
theorem dksX1_send_0 : cX1_send.data.toList.drop 0 = dktX1_send_0 := by decide +kernel
theorem dksX1_send_1 : cX1_send.data.toList.drop 23 = dktX1_send_1 := dk_seg dksX1_send_0 23 rfl rfl
theorem dksX1_send_2 : cX1_send.data.toList.drop 47 = dktX1_send_2 := dk_seg dksX1_send_1 24 rfl rfl
theorem dksX1_send_3 : cX1_send.data.toList.drop 69 = dktX1_send_3 := dk_seg dksX1_send_2 22 rfl rfl
theorem dksX1_send_4 : cX1_send.data.toList.drop 93 = dktX1_send_4 := dk_seg dksX1_send_3 24 rfl rfl
theorem dksX1_send_5 : cX1_send.data.toList.drop 116 = dktX1_send_5 := dk_seg dksX1_send_4 23 rfl rfl
theorem dX1_send_0 : decode cX1_send 0 = .ok (.aload_n 0, 1) := dk_42 (dk_at dksX1_send_0 0 rfl rfl)
theorem dX1_send_1 : decode cX1_send 1 = .ok (.aload_n 1, 1) := dk_43 (dk_at dksX1_send_0 1 rfl rfl)
theorem dX1_send_2 : decode cX1_send 2 = .ok (.getfield 590, 3) := dk_180 2 78 (dk_at dksX1_send_0 2 rfl rfl)
theorem dX1_send_5 : decode cX1_send 5 = .ok (.aload_n 1, 1) := dk_43 (dk_at dksX1_send_0 5 rfl rfl)
theorem dX1_send_6 : decode cX1_send 6 = .ok (.getfield 636, 3) := dk_180 2 124 (dk_at dksX1_send_0 6 rfl rfl)
theorem dX1_send_9 : decode cX1_send 9 = .ok (.invokevirtual 630, 3) := dk_182 2 118 (dk_at dksX1_send_0 9 rfl rfl)
theorem dX1_send_12 : decode cX1_send 12 = .ok (.iconst 0, 1) := dk_3 (dk_at dksX1_send_0 12 rfl rfl)
theorem dX1_send_13 : decode cX1_send 13 = .ok (.istore_n 2, 1) := dk_61 (dk_at dksX1_send_0 13 rfl rfl)
theorem dX1_send_14 : decode cX1_send 14 = .ok (.iload_n 2, 1) := dk_28 (dk_at dksX1_send_0 14 rfl rfl)
theorem dX1_send_15 : decode cX1_send 15 = .ok (.iconst 4, 1) := dk_7 (dk_at dksX1_send_0 15 rfl rfl)
theorem dX1_send_16 : decode cX1_send 16 = .ok (.if_icmp .ge 99, 3) := dk_162 0 99 (dk_at dksX1_send_0 16 rfl rfl)
theorem dX1_send_19 : decode cX1_send 19 = .ok (.iconst 0, 1) := dk_3 (dk_at dksX1_send_0 19 rfl rfl)
theorem dX1_send_20 : decode cX1_send 20 = .ok (.istore_n 3, 1) := dk_62 (dk_at dksX1_send_0 20 rfl rfl)
theorem dX1_send_21 : decode cX1_send 21 = .ok (.iload_n 3, 1) := dk_29 (dk_at dksX1_send_0 21 rfl rfl)
theorem dX1_send_22 : decode cX1_send 22 = .ok (.aload_n 0, 1) := dk_42 (dk_at dksX1_send_0 22 rfl rfl)
theorem dX1_send_23 : decode cX1_send 23 = .ok (.getfield 78, 3) := dk_180 0 78 (dk_at dksX1_send_1 0 rfl rfl)
theorem dX1_send_26 : decode cX1_send 26 = .ok (.iload_n 2, 1) := dk_28 (dk_at dksX1_send_1 3 rfl rfl)
theorem dX1_send_27 : decode cX1_send 27 = .ok (.iaload, 1) := dk_46 (dk_at dksX1_send_1 4 rfl rfl)
theorem dX1_send_28 : decode cX1_send 28 = .ok (.if_icmp .ge 81, 3) := dk_162 0 81 (dk_at dksX1_send_1 5 rfl rfl)
theorem dX1_send_31 : decode cX1_send 31 = .ok (.aload_n 0, 1) := dk_42 (dk_at dksX1_send_1 8 rfl rfl)
theorem dX1_send_32 : decode cX1_send 32 = .ok (.iload_n 2, 1) := dk_28 (dk_at dksX1_send_1 9 rfl rfl)
theorem dX1_send_33 : decode cX1_send 33 = .ok (.aload_n 1, 1) := dk_43 (dk_at dksX1_send_1 10 rfl rfl)
theorem dX1_send_34 : decode cX1_send 34 = .ok (.getfield 590, 3) := dk_180 2 78 (dk_at dksX1_send_1 11 rfl rfl)
theorem dX1_send_37 : decode cX1_send 37 = .ok (.invokevirtual 639, 3) := dk_182 2 127 (dk_at dksX1_send_1 14 rfl rfl)
theorem dX1_send_40 : decode cX1_send 40 = .ok (.astore 4, 2) := dk_58 4 (dk_at dksX1_send_1 17 rfl rfl)
theorem dX1_send_42 : decode cX1_send 42 = .ok (.aload 4, 2) := dk_25 4 (dk_at dksX1_send_1 19 rfl rfl)
theorem dX1_send_44 : decode cX1_send 44 = .ok (.ifnonnull 16, 3) := dk_199 0 16 (dk_at dksX1_send_1 21 rfl rfl)
theorem dX1_send_47 : decode cX1_send 47 = .ok (.aload_n 1, 1) := dk_43 (dk_at dksX1_send_2 0 rfl rfl)
theorem dX1_send_48 : decode cX1_send 48 = .ok (.dup, 1) := dk_89 (dk_at dksX1_send_2 1 rfl rfl)
theorem dX1_send_49 : decode cX1_send 49 = .ok (.getfield 643, 3) := dk_180 2 131 (dk_at dksX1_send_2 2 rfl rfl)
theorem dX1_send_52 : decode cX1_send 52 = .ok (.iconst 1, 1) := dk_4 (dk_at dksX1_send_2 5 rfl rfl)
theorem dX1_send_53 : decode cX1_send 53 = .ok (.iadd, 1) := dk_96 (dk_at dksX1_send_2 6 rfl rfl)
theorem dX1_send_54 : decode cX1_send 54 = .ok (.putfield 643, 3) := dk_181 2 131 (dk_at dksX1_send_2 7 rfl rfl)
theorem dX1_send_57 : decode cX1_send 57 = .ok (.goto 46, 3) := dk_167 0 46 (dk_at dksX1_send_2 10 rfl rfl)
theorem dX1_send_60 : decode cX1_send 60 = .ok (.aload 4, 2) := dk_25 4 (dk_at dksX1_send_2 13 rfl rfl)
theorem dX1_send_62 : decode cX1_send 62 = .ok (.iconst 1, 1) := dk_4 (dk_at dksX1_send_2 15 rfl rfl)
theorem dX1_send_63 : decode cX1_send 63 = .ok (.putfield 389, 3) := dk_181 1 133 (dk_at dksX1_send_2 16 rfl rfl)
theorem dX1_send_66 : decode cX1_send 66 = .ok (.aload 4, 2) := dk_25 4 (dk_at dksX1_send_2 19 rfl rfl)
theorem dX1_send_68 : decode cX1_send 68 = .ok (.aload_n 1, 1) := dk_43 (dk_at dksX1_send_2 21 rfl rfl)
theorem dX1_send_69 : decode cX1_send 69 = .ok (.getfield 590, 3) := dk_180 2 78 (dk_at dksX1_send_3 0 rfl rfl)
theorem dX1_send_72 : decode cX1_send 72 = .ok (.putfield 395, 3) := dk_181 1 139 (dk_at dksX1_send_3 3 rfl rfl)
theorem dX1_send_75 : decode cX1_send 75 = .ok (.aload 4, 2) := dk_25 4 (dk_at dksX1_send_3 6 rfl rfl)
theorem dX1_send_77 : decode cX1_send 77 = .ok (.aload_n 0, 1) := dk_42 (dk_at dksX1_send_3 8 rfl rfl)
theorem dX1_send_78 : decode cX1_send 78 = .ok (.getfield 633, 3) := dk_180 2 121 (dk_at dksX1_send_3 9 rfl rfl)
theorem dX1_send_81 : decode cX1_send 81 = .ok (.putfield 398, 3) := dk_181 1 142 (dk_at dksX1_send_3 12 rfl rfl)
theorem dX1_send_84 : decode cX1_send 84 = .ok (.aload 4, 2) := dk_25 4 (dk_at dksX1_send_3 15 rfl rfl)
theorem dX1_send_86 : decode cX1_send 86 = .ok (.aload_n 1, 1) := dk_43 (dk_at dksX1_send_3 17 rfl rfl)
theorem dX1_send_87 : decode cX1_send 87 = .ok (.getfield 646, 3) := dk_180 2 134 (dk_at dksX1_send_3 18 rfl rfl)
theorem dX1_send_90 : decode cX1_send 90 = .ok (.putfield 428, 3) := dk_181 1 172 (dk_at dksX1_send_3 21 rfl rfl)
theorem dX1_send_93 : decode cX1_send 93 = .ok (.aload_n 1, 1) := dk_43 (dk_at dksX1_send_4 0 rfl rfl)
theorem dX1_send_94 : decode cX1_send 94 = .ok (.dup, 1) := dk_89 (dk_at dksX1_send_4 1 rfl rfl)
theorem dX1_send_95 : decode cX1_send 95 = .ok (.getfield 648, 3) := dk_180 2 136 (dk_at dksX1_send_4 2 rfl rfl)
theorem dX1_send_98 : decode cX1_send 98 = .ok (.iconst 1, 1) := dk_4 (dk_at dksX1_send_4 5 rfl rfl)
theorem dX1_send_99 : decode cX1_send 99 = .ok (.iadd, 1) := dk_96 (dk_at dksX1_send_4 6 rfl rfl)
theorem dX1_send_100 : decode cX1_send 100 = .ok (.putfield 648, 3) := dk_181 2 136 (dk_at dksX1_send_4 7 rfl rfl)
theorem dX1_send_103 : decode cX1_send 103 = .ok (.iinc 3 1, 3) := dk_132 3 1 (dk_at dksX1_send_4 10 rfl rfl)
theorem dX1_send_106 : decode cX1_send 106 = .ok (.goto (-85), 3) := dk_167 255 171 (dk_at dksX1_send_4 13 rfl rfl)
theorem dX1_send_109 : decode cX1_send 109 = .ok (.iinc 2 1, 3) := dk_132 2 1 (dk_at dksX1_send_4 16 rfl rfl)
theorem dX1_send_112 : decode cX1_send 112 = .ok (.goto (-98), 3) := dk_167 255 158 (dk_at dksX1_send_4 19 rfl rfl)
theorem dX1_send_115 : decode cX1_send 115 = .ok (.aload_n 0, 1) := dk_42 (dk_at dksX1_send_4 22 rfl rfl)
theorem dX1_send_116 : decode cX1_send 116 = .ok (.getfield 78, 3) := dk_180 0 78 (dk_at dksX1_send_5 0 rfl rfl)
theorem dX1_send_119 : decode cX1_send 119 = .ok (.iconst 4, 1) := dk_7 (dk_at dksX1_send_5 3 rfl rfl)
theorem dX1_send_120 : decode cX1_send 120 = .ok (.iaload, 1) := dk_46 (dk_at dksX1_send_5 4 rfl rfl)
theorem dX1_send_121 : decode cX1_send 121 = .ok (.istore_n 2, 1) := dk_61 (dk_at dksX1_send_5 5 rfl rfl)
theorem dX1_send_122 : decode cX1_send 122 = .ok (.iload_n 2, 1) := dk_28 (dk_at dksX1_send_5 6 rfl rfl)
theorem dX1_send_123 : decode cX1_send 123 = .ok (.ifCond .le 16, 3) := dk_158 0 16 (dk_at dksX1_send_5 7 rfl rfl)
theorem dX1_send_126 : decode cX1_send 126 = .ok (.aload_n 0, 1) := dk_42 (dk_at dksX1_send_5 10 rfl rfl)
theorem dX1_send_127 : decode cX1_send 127 = .ok (.invokevirtual 649, 3) := dk_182 2 137 (dk_at dksX1_send_5 11 rfl rfl)
theorem dX1_send_130 : decode cX1_send 130 = .ok (.ifCond .eq 9, 3) := dk_153 0 9 (dk_at dksX1_send_5 14 rfl rfl)
theorem dX1_send_133 : decode cX1_send 133 = .ok (.iinc 2 (-1), 3) := dk_132 2 255 (dk_at dksX1_send_5 17 rfl rfl)
theorem dX1_send_136 : decode cX1_send 136 = .ok (.goto (-14), 3) := dk_167 255 242 (dk_at dksX1_send_5 20 rfl rfl)
theorem dX1_send_139 : decode cX1_send 139 = .ok (.return_, 1) := dk_177 (dk_at dksX1_send_5 23 rfl rfl)
abbrev cX1_nearest : ByteArray := prog_1_method_87_code
def yX1_nearest : MethodName := ⟨RX1, "nearest", "(II)LCityBrigade$Crew;"⟩
def dkwX1_nearest_4 : List UInt8 := [181, 2, 121, 132, 4, 1, 167, 255, 163, 45, 176]
abbrev dktX1_nearest_4 : List UInt8 := dkwX1_nearest_4 ++ []
def dkwX1_nearest_3 : List UInt8 := [45, 198, 0, 15, 21, 6, 42, 180, 2, 121, 161, 0, 6, 167, 0, 12, 25, 5, 78, 42, 21, 6]
abbrev dktX1_nearest_3 : List UInt8 := dkwX1_nearest_3 ++ dktX1_nearest_4
def dkwX1_nearest_2 : List UInt8 := [180, 1, 139, 28, 42, 180, 1, 159, 25, 5, 182, 1, 162, 182, 0, 184, 54, 6, 21, 6, 2, 159, 0, 28]
abbrev dktX1_nearest_2 : List UInt8 := dkwX1_nearest_2 ++ dktX1_nearest_3
def dkwX1_nearest_1 : List UInt8 := [25, 5, 180, 1, 133, 154, 0, 67, 25, 5, 182, 2, 97, 27, 159, 0, 6, 167, 0, 55, 42, 25, 5]
abbrev dktX1_nearest_1 : List UInt8 := dkwX1_nearest_1 ++ dktX1_nearest_2
def dkwX1_nearest_0 : List UInt8 := [1, 78, 3, 54, 4, 21, 4, 42, 180, 1, 109, 162, 0, 90, 42, 180, 0, 48, 21, 4, 50, 58, 5]
abbrev dktX1_nearest_0 : List UInt8 := dkwX1_nearest_0 ++ dktX1_nearest_1
theorem dksX1_nearest_0 : cX1_nearest.data.toList.drop 0 = dktX1_nearest_0 := by decide +kernel
theorem dksX1_nearest_1 : cX1_nearest.data.toList.drop 23 = dktX1_nearest_1 := dk_seg dksX1_nearest_0 23 rfl rfl
theorem dksX1_nearest_2 : cX1_nearest.data.toList.drop 46 = dktX1_nearest_2 := dk_seg dksX1_nearest_1 23 rfl rfl
theorem dksX1_nearest_3 : cX1_nearest.data.toList.drop 70 = dktX1_nearest_3 := dk_seg dksX1_nearest_2 24 rfl rfl
theorem dksX1_nearest_4 : cX1_nearest.data.toList.drop 92 = dktX1_nearest_4 := dk_seg dksX1_nearest_3 22 rfl rfl
theorem dX1_nearest_0 : decode cX1_nearest 0 = .ok (.aconst_null, 1) := dk_1 (dk_at dksX1_nearest_0 0 rfl rfl)
theorem dX1_nearest_1 : decode cX1_nearest 1 = .ok (.astore_n 3, 1) := dk_78 (dk_at dksX1_nearest_0 1 rfl rfl)
theorem dX1_nearest_2 : decode cX1_nearest 2 = .ok (.iconst 0, 1) := dk_3 (dk_at dksX1_nearest_0 2 rfl rfl)
theorem dX1_nearest_3 : decode cX1_nearest 3 = .ok (.istore 4, 2) := dk_54 4 (dk_at dksX1_nearest_0 3 rfl rfl)
theorem dX1_nearest_5 : decode cX1_nearest 5 = .ok (.iload 4, 2) := dk_21 4 (dk_at dksX1_nearest_0 5 rfl rfl)
theorem dX1_nearest_7 : decode cX1_nearest 7 = .ok (.aload_n 0, 1) := dk_42 (dk_at dksX1_nearest_0 7 rfl rfl)
theorem dX1_nearest_8 : decode cX1_nearest 8 = .ok (.getfield 365, 3) := dk_180 1 109 (dk_at dksX1_nearest_0 8 rfl rfl)
theorem dX1_nearest_11 : decode cX1_nearest 11 = .ok (.if_icmp .ge 90, 3) := dk_162 0 90 (dk_at dksX1_nearest_0 11 rfl rfl)
theorem dX1_nearest_14 : decode cX1_nearest 14 = .ok (.aload_n 0, 1) := dk_42 (dk_at dksX1_nearest_0 14 rfl rfl)
theorem dX1_nearest_15 : decode cX1_nearest 15 = .ok (.getfield 48, 3) := dk_180 0 48 (dk_at dksX1_nearest_0 15 rfl rfl)
theorem dX1_nearest_18 : decode cX1_nearest 18 = .ok (.iload 4, 2) := dk_21 4 (dk_at dksX1_nearest_0 18 rfl rfl)
theorem dX1_nearest_20 : decode cX1_nearest 20 = .ok (.aaload, 1) := dk_50 (dk_at dksX1_nearest_0 20 rfl rfl)
theorem dX1_nearest_21 : decode cX1_nearest 21 = .ok (.astore 5, 2) := dk_58 5 (dk_at dksX1_nearest_0 21 rfl rfl)
theorem dX1_nearest_23 : decode cX1_nearest 23 = .ok (.aload 5, 2) := dk_25 5 (dk_at dksX1_nearest_1 0 rfl rfl)
theorem dX1_nearest_25 : decode cX1_nearest 25 = .ok (.getfield 389, 3) := dk_180 1 133 (dk_at dksX1_nearest_1 2 rfl rfl)
theorem dX1_nearest_28 : decode cX1_nearest 28 = .ok (.ifCond .ne 67, 3) := dk_154 0 67 (dk_at dksX1_nearest_1 5 rfl rfl)
theorem dX1_nearest_31 : decode cX1_nearest 31 = .ok (.aload 5, 2) := dk_25 5 (dk_at dksX1_nearest_1 8 rfl rfl)
theorem dX1_nearest_33 : decode cX1_nearest 33 = .ok (.invokevirtual 609, 3) := dk_182 2 97 (dk_at dksX1_nearest_1 10 rfl rfl)
theorem dX1_nearest_36 : decode cX1_nearest 36 = .ok (.iload_n 1, 1) := dk_27 (dk_at dksX1_nearest_1 13 rfl rfl)
theorem dX1_nearest_37 : decode cX1_nearest 37 = .ok (.if_icmp .eq 6, 3) := dk_159 0 6 (dk_at dksX1_nearest_1 14 rfl rfl)
theorem dX1_nearest_40 : decode cX1_nearest 40 = .ok (.goto 55, 3) := dk_167 0 55 (dk_at dksX1_nearest_1 17 rfl rfl)
theorem dX1_nearest_43 : decode cX1_nearest 43 = .ok (.aload_n 0, 1) := dk_42 (dk_at dksX1_nearest_1 20 rfl rfl)
theorem dX1_nearest_44 : decode cX1_nearest 44 = .ok (.aload 5, 2) := dk_25 5 (dk_at dksX1_nearest_1 21 rfl rfl)
theorem dX1_nearest_46 : decode cX1_nearest 46 = .ok (.getfield 395, 3) := dk_180 1 139 (dk_at dksX1_nearest_2 0 rfl rfl)
theorem dX1_nearest_49 : decode cX1_nearest 49 = .ok (.iload_n 2, 1) := dk_28 (dk_at dksX1_nearest_2 3 rfl rfl)
theorem dX1_nearest_50 : decode cX1_nearest 50 = .ok (.aload_n 0, 1) := dk_42 (dk_at dksX1_nearest_2 4 rfl rfl)
theorem dX1_nearest_51 : decode cX1_nearest 51 = .ok (.getfield 415, 3) := dk_180 1 159 (dk_at dksX1_nearest_2 5 rfl rfl)
theorem dX1_nearest_54 : decode cX1_nearest 54 = .ok (.aload 5, 2) := dk_25 5 (dk_at dksX1_nearest_2 8 rfl rfl)
theorem dX1_nearest_56 : decode cX1_nearest 56 = .ok (.invokevirtual 418, 3) := dk_182 1 162 (dk_at dksX1_nearest_2 10 rfl rfl)
theorem dX1_nearest_59 : decode cX1_nearest 59 = .ok (.invokevirtual 184, 3) := dk_182 0 184 (dk_at dksX1_nearest_2 13 rfl rfl)
theorem dX1_nearest_62 : decode cX1_nearest 62 = .ok (.istore 6, 2) := dk_54 6 (dk_at dksX1_nearest_2 16 rfl rfl)
theorem dX1_nearest_64 : decode cX1_nearest 64 = .ok (.iload 6, 2) := dk_21 6 (dk_at dksX1_nearest_2 18 rfl rfl)
theorem dX1_nearest_66 : decode cX1_nearest 66 = .ok (.iconst (-1), 1) := dk_2 (dk_at dksX1_nearest_2 20 rfl rfl)
theorem dX1_nearest_67 : decode cX1_nearest 67 = .ok (.if_icmp .eq 28, 3) := dk_159 0 28 (dk_at dksX1_nearest_2 21 rfl rfl)
theorem dX1_nearest_70 : decode cX1_nearest 70 = .ok (.aload_n 3, 1) := dk_45 (dk_at dksX1_nearest_3 0 rfl rfl)
theorem dX1_nearest_71 : decode cX1_nearest 71 = .ok (.ifnull 15, 3) := dk_198 0 15 (dk_at dksX1_nearest_3 1 rfl rfl)
theorem dX1_nearest_74 : decode cX1_nearest 74 = .ok (.iload 6, 2) := dk_21 6 (dk_at dksX1_nearest_3 4 rfl rfl)
theorem dX1_nearest_76 : decode cX1_nearest 76 = .ok (.aload_n 0, 1) := dk_42 (dk_at dksX1_nearest_3 6 rfl rfl)
theorem dX1_nearest_77 : decode cX1_nearest 77 = .ok (.getfield 633, 3) := dk_180 2 121 (dk_at dksX1_nearest_3 7 rfl rfl)
theorem dX1_nearest_80 : decode cX1_nearest 80 = .ok (.if_icmp .lt 6, 3) := dk_161 0 6 (dk_at dksX1_nearest_3 10 rfl rfl)
theorem dX1_nearest_83 : decode cX1_nearest 83 = .ok (.goto 12, 3) := dk_167 0 12 (dk_at dksX1_nearest_3 13 rfl rfl)
theorem dX1_nearest_86 : decode cX1_nearest 86 = .ok (.aload 5, 2) := dk_25 5 (dk_at dksX1_nearest_3 16 rfl rfl)
theorem dX1_nearest_88 : decode cX1_nearest 88 = .ok (.astore_n 3, 1) := dk_78 (dk_at dksX1_nearest_3 18 rfl rfl)
theorem dX1_nearest_89 : decode cX1_nearest 89 = .ok (.aload_n 0, 1) := dk_42 (dk_at dksX1_nearest_3 19 rfl rfl)
theorem dX1_nearest_90 : decode cX1_nearest 90 = .ok (.iload 6, 2) := dk_21 6 (dk_at dksX1_nearest_3 20 rfl rfl)
theorem dX1_nearest_92 : decode cX1_nearest 92 = .ok (.putfield 633, 3) := dk_181 2 121 (dk_at dksX1_nearest_4 0 rfl rfl)
theorem dX1_nearest_95 : decode cX1_nearest 95 = .ok (.iinc 4 1, 3) := dk_132 4 1 (dk_at dksX1_nearest_4 3 rfl rfl)
theorem dX1_nearest_98 : decode cX1_nearest 98 = .ok (.goto (-93), 3) := dk_167 255 163 (dk_at dksX1_nearest_4 6 rfl rfl)
theorem dX1_nearest_101 : decode cX1_nearest 101 = .ok (.aload_n 3, 1) := dk_45 (dk_at dksX1_nearest_4 9 rfl rfl)
theorem dX1_nearest_102 : decode cX1_nearest 102 = .ok (.areturn, 1) := dk_176 (dk_at dksX1_nearest_4 10 rfl rfl)
abbrev cX1_moveUp : ByteArray := prog_1_method_92_code
def yX1_moveUp : MethodName := ⟨RX1, "moveUp", "()Z"⟩
def dkwX1_moveUp_5 : List UInt8 := [181, 1, 133, 44, 27, 181, 1, 139, 44, 29, 181, 1, 142, 4, 172]
abbrev dktX1_moveUp_5 : List UInt8 := dkwX1_moveUp_5 ++ []
def dkwX1_moveUp_4 : List UInt8 := [167, 0, 9, 25, 5, 77, 21, 6, 62, 132, 4, 1, 167, 255, 169, 44, 199, 0, 5, 3, 172, 44, 6]
abbrev dktX1_moveUp_4 : List UInt8 := dkwX1_moveUp_4 ++ dktX1_moveUp_5
def dkwX1_moveUp_3 : List UInt8 := [182, 1, 162, 182, 0, 184, 54, 6, 21, 6, 2, 159, 0, 22, 44, 198, 0, 12, 21, 6, 29, 161, 0, 6]
abbrev dktX1_moveUp_3 : List UInt8 := dkwX1_moveUp_3 ++ dktX1_moveUp_4
def dkwX1_moveUp_2 : List UInt8 := [25, 5, 182, 2, 146, 154, 0, 6, 167, 0, 49, 42, 25, 5, 180, 1, 139, 27, 42, 180, 1, 159, 25, 5]
abbrev dktX1_moveUp_2 : List UInt8 := dkwX1_moveUp_2 ++ dktX1_moveUp_3
def dkwX1_moveUp_1 : List UInt8 := [180, 1, 109, 162, 0, 84, 42, 180, 0, 48, 21, 4, 50, 58, 5, 25, 5, 180, 1, 133, 154, 0, 61, 42]
abbrev dktX1_moveUp_1 : List UInt8 := dkwX1_moveUp_1 ++ dktX1_moveUp_2
def dkwX1_moveUp_0 : List UInt8 := [42, 182, 2, 143, 60, 27, 2, 160, 0, 5, 3, 172, 1, 77, 3, 62, 3, 54, 4, 21, 4, 42]
abbrev dktX1_moveUp_0 : List UInt8 := dkwX1_moveUp_0 ++ dktX1_moveUp_1
theorem dksX1_moveUp_0 : cX1_moveUp.data.toList.drop 0 = dktX1_moveUp_0 := by decide +kernel
theorem dksX1_moveUp_1 : cX1_moveUp.data.toList.drop 22 = dktX1_moveUp_1 := dk_seg dksX1_moveUp_0 22 rfl rfl
theorem dksX1_moveUp_2 : cX1_moveUp.data.toList.drop 46 = dktX1_moveUp_2 := dk_seg dksX1_moveUp_1 24 rfl rfl
theorem dksX1_moveUp_3 : cX1_moveUp.data.toList.drop 70 = dktX1_moveUp_3 := dk_seg dksX1_moveUp_2 24 rfl rfl
theorem dksX1_moveUp_4 : cX1_moveUp.data.toList.drop 94 = dktX1_moveUp_4 := dk_seg dksX1_moveUp_3 24 rfl rfl
theorem dksX1_moveUp_5 : cX1_moveUp.data.toList.drop 117 = dktX1_moveUp_5 := dk_seg dksX1_moveUp_4 23 rfl rfl
theorem dX1_moveUp_0 : decode cX1_moveUp 0 = .ok (.aload_n 0, 1) := dk_42 (dk_at dksX1_moveUp_0 0 rfl rfl)
theorem dX1_moveUp_1 : decode cX1_moveUp 1 = .ok (.invokevirtual 655, 3) := dk_182 2 143 (dk_at dksX1_moveUp_0 1 rfl rfl)
theorem dX1_moveUp_4 : decode cX1_moveUp 4 = .ok (.istore_n 1, 1) := dk_60 (dk_at dksX1_moveUp_0 4 rfl rfl)
theorem dX1_moveUp_5 : decode cX1_moveUp 5 = .ok (.iload_n 1, 1) := dk_27 (dk_at dksX1_moveUp_0 5 rfl rfl)
theorem dX1_moveUp_6 : decode cX1_moveUp 6 = .ok (.iconst (-1), 1) := dk_2 (dk_at dksX1_moveUp_0 6 rfl rfl)
theorem dX1_moveUp_7 : decode cX1_moveUp 7 = .ok (.if_icmp .ne 5, 3) := dk_160 0 5 (dk_at dksX1_moveUp_0 7 rfl rfl)
theorem dX1_moveUp_10 : decode cX1_moveUp 10 = .ok (.iconst 0, 1) := dk_3 (dk_at dksX1_moveUp_0 10 rfl rfl)
theorem dX1_moveUp_11 : decode cX1_moveUp 11 = .ok (.ireturn, 1) := dk_172 (dk_at dksX1_moveUp_0 11 rfl rfl)
theorem dX1_moveUp_12 : decode cX1_moveUp 12 = .ok (.aconst_null, 1) := dk_1 (dk_at dksX1_moveUp_0 12 rfl rfl)
theorem dX1_moveUp_13 : decode cX1_moveUp 13 = .ok (.astore_n 2, 1) := dk_77 (dk_at dksX1_moveUp_0 13 rfl rfl)
theorem dX1_moveUp_14 : decode cX1_moveUp 14 = .ok (.iconst 0, 1) := dk_3 (dk_at dksX1_moveUp_0 14 rfl rfl)
theorem dX1_moveUp_15 : decode cX1_moveUp 15 = .ok (.istore_n 3, 1) := dk_62 (dk_at dksX1_moveUp_0 15 rfl rfl)
theorem dX1_moveUp_16 : decode cX1_moveUp 16 = .ok (.iconst 0, 1) := dk_3 (dk_at dksX1_moveUp_0 16 rfl rfl)
theorem dX1_moveUp_17 : decode cX1_moveUp 17 = .ok (.istore 4, 2) := dk_54 4 (dk_at dksX1_moveUp_0 17 rfl rfl)
theorem dX1_moveUp_19 : decode cX1_moveUp 19 = .ok (.iload 4, 2) := dk_21 4 (dk_at dksX1_moveUp_0 19 rfl rfl)
theorem dX1_moveUp_21 : decode cX1_moveUp 21 = .ok (.aload_n 0, 1) := dk_42 (dk_at dksX1_moveUp_0 21 rfl rfl)
theorem dX1_moveUp_22 : decode cX1_moveUp 22 = .ok (.getfield 365, 3) := dk_180 1 109 (dk_at dksX1_moveUp_1 0 rfl rfl)
theorem dX1_moveUp_25 : decode cX1_moveUp 25 = .ok (.if_icmp .ge 84, 3) := dk_162 0 84 (dk_at dksX1_moveUp_1 3 rfl rfl)
theorem dX1_moveUp_28 : decode cX1_moveUp 28 = .ok (.aload_n 0, 1) := dk_42 (dk_at dksX1_moveUp_1 6 rfl rfl)
theorem dX1_moveUp_29 : decode cX1_moveUp 29 = .ok (.getfield 48, 3) := dk_180 0 48 (dk_at dksX1_moveUp_1 7 rfl rfl)
theorem dX1_moveUp_32 : decode cX1_moveUp 32 = .ok (.iload 4, 2) := dk_21 4 (dk_at dksX1_moveUp_1 10 rfl rfl)
theorem dX1_moveUp_34 : decode cX1_moveUp 34 = .ok (.aaload, 1) := dk_50 (dk_at dksX1_moveUp_1 12 rfl rfl)
theorem dX1_moveUp_35 : decode cX1_moveUp 35 = .ok (.astore 5, 2) := dk_58 5 (dk_at dksX1_moveUp_1 13 rfl rfl)
theorem dX1_moveUp_37 : decode cX1_moveUp 37 = .ok (.aload 5, 2) := dk_25 5 (dk_at dksX1_moveUp_1 15 rfl rfl)
theorem dX1_moveUp_39 : decode cX1_moveUp 39 = .ok (.getfield 389, 3) := dk_180 1 133 (dk_at dksX1_moveUp_1 17 rfl rfl)
theorem dX1_moveUp_42 : decode cX1_moveUp 42 = .ok (.ifCond .ne 61, 3) := dk_154 0 61 (dk_at dksX1_moveUp_1 20 rfl rfl)
theorem dX1_moveUp_45 : decode cX1_moveUp 45 = .ok (.aload_n 0, 1) := dk_42 (dk_at dksX1_moveUp_1 23 rfl rfl)
theorem dX1_moveUp_46 : decode cX1_moveUp 46 = .ok (.aload 5, 2) := dk_25 5 (dk_at dksX1_moveUp_2 0 rfl rfl)
theorem dX1_moveUp_48 : decode cX1_moveUp 48 = .ok (.invokevirtual 658, 3) := dk_182 2 146 (dk_at dksX1_moveUp_2 2 rfl rfl)
theorem dX1_moveUp_51 : decode cX1_moveUp 51 = .ok (.ifCond .ne 6, 3) := dk_154 0 6 (dk_at dksX1_moveUp_2 5 rfl rfl)
theorem dX1_moveUp_54 : decode cX1_moveUp 54 = .ok (.goto 49, 3) := dk_167 0 49 (dk_at dksX1_moveUp_2 8 rfl rfl)
theorem dX1_moveUp_57 : decode cX1_moveUp 57 = .ok (.aload_n 0, 1) := dk_42 (dk_at dksX1_moveUp_2 11 rfl rfl)
theorem dX1_moveUp_58 : decode cX1_moveUp 58 = .ok (.aload 5, 2) := dk_25 5 (dk_at dksX1_moveUp_2 12 rfl rfl)
theorem dX1_moveUp_60 : decode cX1_moveUp 60 = .ok (.getfield 395, 3) := dk_180 1 139 (dk_at dksX1_moveUp_2 14 rfl rfl)
theorem dX1_moveUp_63 : decode cX1_moveUp 63 = .ok (.iload_n 1, 1) := dk_27 (dk_at dksX1_moveUp_2 17 rfl rfl)
theorem dX1_moveUp_64 : decode cX1_moveUp 64 = .ok (.aload_n 0, 1) := dk_42 (dk_at dksX1_moveUp_2 18 rfl rfl)
theorem dX1_moveUp_65 : decode cX1_moveUp 65 = .ok (.getfield 415, 3) := dk_180 1 159 (dk_at dksX1_moveUp_2 19 rfl rfl)
theorem dX1_moveUp_68 : decode cX1_moveUp 68 = .ok (.aload 5, 2) := dk_25 5 (dk_at dksX1_moveUp_2 22 rfl rfl)
theorem dX1_moveUp_70 : decode cX1_moveUp 70 = .ok (.invokevirtual 418, 3) := dk_182 1 162 (dk_at dksX1_moveUp_3 0 rfl rfl)
theorem dX1_moveUp_73 : decode cX1_moveUp 73 = .ok (.invokevirtual 184, 3) := dk_182 0 184 (dk_at dksX1_moveUp_3 3 rfl rfl)
theorem dX1_moveUp_76 : decode cX1_moveUp 76 = .ok (.istore 6, 2) := dk_54 6 (dk_at dksX1_moveUp_3 6 rfl rfl)
theorem dX1_moveUp_78 : decode cX1_moveUp 78 = .ok (.iload 6, 2) := dk_21 6 (dk_at dksX1_moveUp_3 8 rfl rfl)
theorem dX1_moveUp_80 : decode cX1_moveUp 80 = .ok (.iconst (-1), 1) := dk_2 (dk_at dksX1_moveUp_3 10 rfl rfl)
theorem dX1_moveUp_81 : decode cX1_moveUp 81 = .ok (.if_icmp .eq 22, 3) := dk_159 0 22 (dk_at dksX1_moveUp_3 11 rfl rfl)
theorem dX1_moveUp_84 : decode cX1_moveUp 84 = .ok (.aload_n 2, 1) := dk_44 (dk_at dksX1_moveUp_3 14 rfl rfl)
theorem dX1_moveUp_85 : decode cX1_moveUp 85 = .ok (.ifnull 12, 3) := dk_198 0 12 (dk_at dksX1_moveUp_3 15 rfl rfl)
theorem dX1_moveUp_88 : decode cX1_moveUp 88 = .ok (.iload 6, 2) := dk_21 6 (dk_at dksX1_moveUp_3 18 rfl rfl)
theorem dX1_moveUp_90 : decode cX1_moveUp 90 = .ok (.iload_n 3, 1) := dk_29 (dk_at dksX1_moveUp_3 20 rfl rfl)
theorem dX1_moveUp_91 : decode cX1_moveUp 91 = .ok (.if_icmp .lt 6, 3) := dk_161 0 6 (dk_at dksX1_moveUp_3 21 rfl rfl)
theorem dX1_moveUp_94 : decode cX1_moveUp 94 = .ok (.goto 9, 3) := dk_167 0 9 (dk_at dksX1_moveUp_4 0 rfl rfl)
theorem dX1_moveUp_97 : decode cX1_moveUp 97 = .ok (.aload 5, 2) := dk_25 5 (dk_at dksX1_moveUp_4 3 rfl rfl)
theorem dX1_moveUp_99 : decode cX1_moveUp 99 = .ok (.astore_n 2, 1) := dk_77 (dk_at dksX1_moveUp_4 5 rfl rfl)
theorem dX1_moveUp_100 : decode cX1_moveUp 100 = .ok (.iload 6, 2) := dk_21 6 (dk_at dksX1_moveUp_4 6 rfl rfl)
theorem dX1_moveUp_102 : decode cX1_moveUp 102 = .ok (.istore_n 3, 1) := dk_62 (dk_at dksX1_moveUp_4 8 rfl rfl)
theorem dX1_moveUp_103 : decode cX1_moveUp 103 = .ok (.iinc 4 1, 3) := dk_132 4 1 (dk_at dksX1_moveUp_4 9 rfl rfl)
theorem dX1_moveUp_106 : decode cX1_moveUp 106 = .ok (.goto (-87), 3) := dk_167 255 169 (dk_at dksX1_moveUp_4 12 rfl rfl)
theorem dX1_moveUp_109 : decode cX1_moveUp 109 = .ok (.aload_n 2, 1) := dk_44 (dk_at dksX1_moveUp_4 15 rfl rfl)
theorem dX1_moveUp_110 : decode cX1_moveUp 110 = .ok (.ifnonnull 5, 3) := dk_199 0 5 (dk_at dksX1_moveUp_4 16 rfl rfl)
theorem dX1_moveUp_113 : decode cX1_moveUp 113 = .ok (.iconst 0, 1) := dk_3 (dk_at dksX1_moveUp_4 19 rfl rfl)
theorem dX1_moveUp_114 : decode cX1_moveUp 114 = .ok (.ireturn, 1) := dk_172 (dk_at dksX1_moveUp_4 20 rfl rfl)
theorem dX1_moveUp_115 : decode cX1_moveUp 115 = .ok (.aload_n 2, 1) := dk_44 (dk_at dksX1_moveUp_4 21 rfl rfl)
theorem dX1_moveUp_116 : decode cX1_moveUp 116 = .ok (.iconst 3, 1) := dk_6 (dk_at dksX1_moveUp_4 22 rfl rfl)
theorem dX1_moveUp_117 : decode cX1_moveUp 117 = .ok (.putfield 389, 3) := dk_181 1 133 (dk_at dksX1_moveUp_5 0 rfl rfl)
theorem dX1_moveUp_120 : decode cX1_moveUp 120 = .ok (.aload_n 2, 1) := dk_44 (dk_at dksX1_moveUp_5 3 rfl rfl)
theorem dX1_moveUp_121 : decode cX1_moveUp 121 = .ok (.iload_n 1, 1) := dk_27 (dk_at dksX1_moveUp_5 4 rfl rfl)
theorem dX1_moveUp_122 : decode cX1_moveUp 122 = .ok (.putfield 395, 3) := dk_181 1 139 (dk_at dksX1_moveUp_5 5 rfl rfl)
theorem dX1_moveUp_125 : decode cX1_moveUp 125 = .ok (.aload_n 2, 1) := dk_44 (dk_at dksX1_moveUp_5 8 rfl rfl)
theorem dX1_moveUp_126 : decode cX1_moveUp 126 = .ok (.iload_n 3, 1) := dk_29 (dk_at dksX1_moveUp_5 9 rfl rfl)
theorem dX1_moveUp_127 : decode cX1_moveUp 127 = .ok (.putfield 398, 3) := dk_181 1 142 (dk_at dksX1_moveUp_5 10 rfl rfl)
theorem dX1_moveUp_130 : decode cX1_moveUp 130 = .ok (.iconst 1, 1) := dk_4 (dk_at dksX1_moveUp_5 13 rfl rfl)
theorem dX1_moveUp_131 : decode cX1_moveUp 131 = .ok (.ireturn, 1) := dk_172 (dk_at dksX1_moveUp_5 14 rfl rfl)
abbrev cX1_emptyHome : ByteArray := prog_1_method_90_code
def yX1_emptyHome : MethodName := ⟨RX1, "emptyHome", "()I"⟩
def dkwX1_emptyHome_2 : List UInt8 := [42, 180, 0, 48, 28, 50, 180, 1, 152, 60, 132, 2, 1, 167, 255, 201, 27, 172]
abbrev dktX1_emptyHome_2 : List UInt8 := dkwX1_emptyHome_2 ++ []
def dkwX1_emptyHome_1 : List UInt8 := [182, 2, 140, 154, 0, 31, 27, 2, 159, 0, 16, 42, 180, 0, 48, 28, 50, 180, 1, 152, 27, 162, 0, 13]
abbrev dktX1_emptyHome_1 : List UInt8 := dkwX1_emptyHome_1 ++ dktX1_emptyHome_2
def dkwX1_emptyHome_0 : List UInt8 := [2, 60, 3, 61, 28, 42, 180, 1, 109, 162, 0, 53, 42, 42, 180, 0, 48, 28, 50, 180, 1, 152]
abbrev dktX1_emptyHome_0 : List UInt8 := dkwX1_emptyHome_0 ++ dktX1_emptyHome_1
theorem dksX1_emptyHome_0 : cX1_emptyHome.data.toList.drop 0 = dktX1_emptyHome_0 := by decide +kernel
theorem dksX1_emptyHome_1 : cX1_emptyHome.data.toList.drop 22 = dktX1_emptyHome_1 := dk_seg dksX1_emptyHome_0 22 rfl rfl
theorem dksX1_emptyHome_2 : cX1_emptyHome.data.toList.drop 46 = dktX1_emptyHome_2 := dk_seg dksX1_emptyHome_1 24 rfl rfl
theorem dX1_emptyHome_0 : decode cX1_emptyHome 0 = .ok (.iconst (-1), 1) := dk_2 (dk_at dksX1_emptyHome_0 0 rfl rfl)
theorem dX1_emptyHome_1 : decode cX1_emptyHome 1 = .ok (.istore_n 1, 1) := dk_60 (dk_at dksX1_emptyHome_0 1 rfl rfl)
theorem dX1_emptyHome_2 : decode cX1_emptyHome 2 = .ok (.iconst 0, 1) := dk_3 (dk_at dksX1_emptyHome_0 2 rfl rfl)
theorem dX1_emptyHome_3 : decode cX1_emptyHome 3 = .ok (.istore_n 2, 1) := dk_61 (dk_at dksX1_emptyHome_0 3 rfl rfl)
theorem dX1_emptyHome_4 : decode cX1_emptyHome 4 = .ok (.iload_n 2, 1) := dk_28 (dk_at dksX1_emptyHome_0 4 rfl rfl)
theorem dX1_emptyHome_5 : decode cX1_emptyHome 5 = .ok (.aload_n 0, 1) := dk_42 (dk_at dksX1_emptyHome_0 5 rfl rfl)
theorem dX1_emptyHome_6 : decode cX1_emptyHome 6 = .ok (.getfield 365, 3) := dk_180 1 109 (dk_at dksX1_emptyHome_0 6 rfl rfl)
theorem dX1_emptyHome_9 : decode cX1_emptyHome 9 = .ok (.if_icmp .ge 53, 3) := dk_162 0 53 (dk_at dksX1_emptyHome_0 9 rfl rfl)
theorem dX1_emptyHome_12 : decode cX1_emptyHome 12 = .ok (.aload_n 0, 1) := dk_42 (dk_at dksX1_emptyHome_0 12 rfl rfl)
theorem dX1_emptyHome_13 : decode cX1_emptyHome 13 = .ok (.aload_n 0, 1) := dk_42 (dk_at dksX1_emptyHome_0 13 rfl rfl)
theorem dX1_emptyHome_14 : decode cX1_emptyHome 14 = .ok (.getfield 48, 3) := dk_180 0 48 (dk_at dksX1_emptyHome_0 14 rfl rfl)
theorem dX1_emptyHome_17 : decode cX1_emptyHome 17 = .ok (.iload_n 2, 1) := dk_28 (dk_at dksX1_emptyHome_0 17 rfl rfl)
theorem dX1_emptyHome_18 : decode cX1_emptyHome 18 = .ok (.aaload, 1) := dk_50 (dk_at dksX1_emptyHome_0 18 rfl rfl)
theorem dX1_emptyHome_19 : decode cX1_emptyHome 19 = .ok (.getfield 408, 3) := dk_180 1 152 (dk_at dksX1_emptyHome_0 19 rfl rfl)
theorem dX1_emptyHome_22 : decode cX1_emptyHome 22 = .ok (.invokevirtual 652, 3) := dk_182 2 140 (dk_at dksX1_emptyHome_1 0 rfl rfl)
theorem dX1_emptyHome_25 : decode cX1_emptyHome 25 = .ok (.ifCond .ne 31, 3) := dk_154 0 31 (dk_at dksX1_emptyHome_1 3 rfl rfl)
theorem dX1_emptyHome_28 : decode cX1_emptyHome 28 = .ok (.iload_n 1, 1) := dk_27 (dk_at dksX1_emptyHome_1 6 rfl rfl)
theorem dX1_emptyHome_29 : decode cX1_emptyHome 29 = .ok (.iconst (-1), 1) := dk_2 (dk_at dksX1_emptyHome_1 7 rfl rfl)
theorem dX1_emptyHome_30 : decode cX1_emptyHome 30 = .ok (.if_icmp .eq 16, 3) := dk_159 0 16 (dk_at dksX1_emptyHome_1 8 rfl rfl)
theorem dX1_emptyHome_33 : decode cX1_emptyHome 33 = .ok (.aload_n 0, 1) := dk_42 (dk_at dksX1_emptyHome_1 11 rfl rfl)
theorem dX1_emptyHome_34 : decode cX1_emptyHome 34 = .ok (.getfield 48, 3) := dk_180 0 48 (dk_at dksX1_emptyHome_1 12 rfl rfl)
theorem dX1_emptyHome_37 : decode cX1_emptyHome 37 = .ok (.iload_n 2, 1) := dk_28 (dk_at dksX1_emptyHome_1 15 rfl rfl)
theorem dX1_emptyHome_38 : decode cX1_emptyHome 38 = .ok (.aaload, 1) := dk_50 (dk_at dksX1_emptyHome_1 16 rfl rfl)
theorem dX1_emptyHome_39 : decode cX1_emptyHome 39 = .ok (.getfield 408, 3) := dk_180 1 152 (dk_at dksX1_emptyHome_1 17 rfl rfl)
theorem dX1_emptyHome_42 : decode cX1_emptyHome 42 = .ok (.iload_n 1, 1) := dk_27 (dk_at dksX1_emptyHome_1 20 rfl rfl)
theorem dX1_emptyHome_43 : decode cX1_emptyHome 43 = .ok (.if_icmp .ge 13, 3) := dk_162 0 13 (dk_at dksX1_emptyHome_1 21 rfl rfl)
theorem dX1_emptyHome_46 : decode cX1_emptyHome 46 = .ok (.aload_n 0, 1) := dk_42 (dk_at dksX1_emptyHome_2 0 rfl rfl)
theorem dX1_emptyHome_47 : decode cX1_emptyHome 47 = .ok (.getfield 48, 3) := dk_180 0 48 (dk_at dksX1_emptyHome_2 1 rfl rfl)
theorem dX1_emptyHome_50 : decode cX1_emptyHome 50 = .ok (.iload_n 2, 1) := dk_28 (dk_at dksX1_emptyHome_2 4 rfl rfl)
theorem dX1_emptyHome_51 : decode cX1_emptyHome 51 = .ok (.aaload, 1) := dk_50 (dk_at dksX1_emptyHome_2 5 rfl rfl)
theorem dX1_emptyHome_52 : decode cX1_emptyHome 52 = .ok (.getfield 408, 3) := dk_180 1 152 (dk_at dksX1_emptyHome_2 6 rfl rfl)
theorem dX1_emptyHome_55 : decode cX1_emptyHome 55 = .ok (.istore_n 1, 1) := dk_60 (dk_at dksX1_emptyHome_2 9 rfl rfl)
theorem dX1_emptyHome_56 : decode cX1_emptyHome 56 = .ok (.iinc 2 1, 3) := dk_132 2 1 (dk_at dksX1_emptyHome_2 10 rfl rfl)
theorem dX1_emptyHome_59 : decode cX1_emptyHome 59 = .ok (.goto (-55), 3) := dk_167 255 201 (dk_at dksX1_emptyHome_2 13 rfl rfl)
theorem dX1_emptyHome_62 : decode cX1_emptyHome 62 = .ok (.iload_n 1, 1) := dk_27 (dk_at dksX1_emptyHome_2 16 rfl rfl)
theorem dX1_emptyHome_63 : decode cX1_emptyHome 63 = .ok (.ireturn, 1) := dk_172 (dk_at dksX1_emptyHome_2 17 rfl rfl)
abbrev cX1_isManned : ByteArray := prog_1_method_89_code
def yX1_isManned : MethodName := ⟨RX1, "isManned", "(I)Z"⟩
def dkwX1_isManned_2 : List UInt8 := [4, 172, 132, 2, 1, 167, 255, 205, 3, 172]
abbrev dktX1_isManned_2 : List UInt8 := dkwX1_isManned_2 ++ []
def dkwX1_isManned_1 : List UInt8 := [180, 0, 48, 28, 50, 180, 1, 133, 153, 0, 16, 42, 180, 0, 48, 28, 50, 180, 1, 133, 6, 160, 0, 5]
abbrev dktX1_isManned_1 : List UInt8 := dkwX1_isManned_1 ++ dktX1_isManned_2
def dkwX1_isManned_0 : List UInt8 := [3, 61, 28, 42, 180, 1, 109, 162, 0, 49, 42, 180, 0, 48, 28, 50, 180, 1, 139, 27, 160, 0, 30, 42]
abbrev dktX1_isManned_0 : List UInt8 := dkwX1_isManned_0 ++ dktX1_isManned_1
theorem dksX1_isManned_0 : cX1_isManned.data.toList.drop 0 = dktX1_isManned_0 := by decide +kernel
theorem dksX1_isManned_1 : cX1_isManned.data.toList.drop 24 = dktX1_isManned_1 := dk_seg dksX1_isManned_0 24 rfl rfl
theorem dksX1_isManned_2 : cX1_isManned.data.toList.drop 48 = dktX1_isManned_2 := dk_seg dksX1_isManned_1 24 rfl rfl
theorem dX1_isManned_0 : decode cX1_isManned 0 = .ok (.iconst 0, 1) := dk_3 (dk_at dksX1_isManned_0 0 rfl rfl)
theorem dX1_isManned_1 : decode cX1_isManned 1 = .ok (.istore_n 2, 1) := dk_61 (dk_at dksX1_isManned_0 1 rfl rfl)
theorem dX1_isManned_2 : decode cX1_isManned 2 = .ok (.iload_n 2, 1) := dk_28 (dk_at dksX1_isManned_0 2 rfl rfl)
theorem dX1_isManned_3 : decode cX1_isManned 3 = .ok (.aload_n 0, 1) := dk_42 (dk_at dksX1_isManned_0 3 rfl rfl)
theorem dX1_isManned_4 : decode cX1_isManned 4 = .ok (.getfield 365, 3) := dk_180 1 109 (dk_at dksX1_isManned_0 4 rfl rfl)
theorem dX1_isManned_7 : decode cX1_isManned 7 = .ok (.if_icmp .ge 49, 3) := dk_162 0 49 (dk_at dksX1_isManned_0 7 rfl rfl)
theorem dX1_isManned_10 : decode cX1_isManned 10 = .ok (.aload_n 0, 1) := dk_42 (dk_at dksX1_isManned_0 10 rfl rfl)
theorem dX1_isManned_11 : decode cX1_isManned 11 = .ok (.getfield 48, 3) := dk_180 0 48 (dk_at dksX1_isManned_0 11 rfl rfl)
theorem dX1_isManned_14 : decode cX1_isManned 14 = .ok (.iload_n 2, 1) := dk_28 (dk_at dksX1_isManned_0 14 rfl rfl)
theorem dX1_isManned_15 : decode cX1_isManned 15 = .ok (.aaload, 1) := dk_50 (dk_at dksX1_isManned_0 15 rfl rfl)
theorem dX1_isManned_16 : decode cX1_isManned 16 = .ok (.getfield 395, 3) := dk_180 1 139 (dk_at dksX1_isManned_0 16 rfl rfl)
theorem dX1_isManned_19 : decode cX1_isManned 19 = .ok (.iload_n 1, 1) := dk_27 (dk_at dksX1_isManned_0 19 rfl rfl)
theorem dX1_isManned_20 : decode cX1_isManned 20 = .ok (.if_icmp .ne 30, 3) := dk_160 0 30 (dk_at dksX1_isManned_0 20 rfl rfl)
theorem dX1_isManned_23 : decode cX1_isManned 23 = .ok (.aload_n 0, 1) := dk_42 (dk_at dksX1_isManned_0 23 rfl rfl)
theorem dX1_isManned_24 : decode cX1_isManned 24 = .ok (.getfield 48, 3) := dk_180 0 48 (dk_at dksX1_isManned_1 0 rfl rfl)
theorem dX1_isManned_27 : decode cX1_isManned 27 = .ok (.iload_n 2, 1) := dk_28 (dk_at dksX1_isManned_1 3 rfl rfl)
theorem dX1_isManned_28 : decode cX1_isManned 28 = .ok (.aaload, 1) := dk_50 (dk_at dksX1_isManned_1 4 rfl rfl)
theorem dX1_isManned_29 : decode cX1_isManned 29 = .ok (.getfield 389, 3) := dk_180 1 133 (dk_at dksX1_isManned_1 5 rfl rfl)
theorem dX1_isManned_32 : decode cX1_isManned 32 = .ok (.ifCond .eq 16, 3) := dk_153 0 16 (dk_at dksX1_isManned_1 8 rfl rfl)
theorem dX1_isManned_35 : decode cX1_isManned 35 = .ok (.aload_n 0, 1) := dk_42 (dk_at dksX1_isManned_1 11 rfl rfl)
theorem dX1_isManned_36 : decode cX1_isManned 36 = .ok (.getfield 48, 3) := dk_180 0 48 (dk_at dksX1_isManned_1 12 rfl rfl)
theorem dX1_isManned_39 : decode cX1_isManned 39 = .ok (.iload_n 2, 1) := dk_28 (dk_at dksX1_isManned_1 15 rfl rfl)
theorem dX1_isManned_40 : decode cX1_isManned 40 = .ok (.aaload, 1) := dk_50 (dk_at dksX1_isManned_1 16 rfl rfl)
theorem dX1_isManned_41 : decode cX1_isManned 41 = .ok (.getfield 389, 3) := dk_180 1 133 (dk_at dksX1_isManned_1 17 rfl rfl)
theorem dX1_isManned_44 : decode cX1_isManned 44 = .ok (.iconst 3, 1) := dk_6 (dk_at dksX1_isManned_1 20 rfl rfl)
theorem dX1_isManned_45 : decode cX1_isManned 45 = .ok (.if_icmp .ne 5, 3) := dk_160 0 5 (dk_at dksX1_isManned_1 21 rfl rfl)
theorem dX1_isManned_48 : decode cX1_isManned 48 = .ok (.iconst 1, 1) := dk_4 (dk_at dksX1_isManned_2 0 rfl rfl)
theorem dX1_isManned_49 : decode cX1_isManned 49 = .ok (.ireturn, 1) := dk_172 (dk_at dksX1_isManned_2 1 rfl rfl)
theorem dX1_isManned_50 : decode cX1_isManned 50 = .ok (.iinc 2 1, 3) := dk_132 2 1 (dk_at dksX1_isManned_2 2 rfl rfl)
theorem dX1_isManned_53 : decode cX1_isManned 53 = .ok (.goto (-51), 3) := dk_167 255 205 (dk_at dksX1_isManned_2 5 rfl rfl)
theorem dX1_isManned_56 : decode cX1_isManned 56 = .ok (.iconst 0, 1) := dk_3 (dk_at dksX1_isManned_2 8 rfl rfl)
theorem dX1_isManned_57 : decode cX1_isManned 57 = .ok (.ireturn, 1) := dk_172 (dk_at dksX1_isManned_2 9 rfl rfl)
abbrev cX1_hasMate : ByteArray := prog_1_method_91_code
def yX1_hasMate : MethodName := ⟨RX1, "hasMate", "(LCityBrigade$Crew;)Z"⟩
def dkwX1_hasMate_2 : List UInt8 := [4, 172, 132, 2, 1, 167, 255, 205, 3, 172]
abbrev dktX1_hasMate_2 : List UInt8 := dkwX1_hasMate_2 ++ []
def dkwX1_hasMate_1 : List UInt8 := [28, 50, 180, 1, 133, 154, 0, 21, 42, 180, 0, 48, 28, 50, 180, 1, 139, 43, 180, 1, 139, 160, 0, 5]
abbrev dktX1_hasMate_1 : List UInt8 := dkwX1_hasMate_1 ++ dktX1_hasMate_2
def dkwX1_hasMate_0 : List UInt8 := [3, 61, 28, 42, 180, 1, 109, 162, 0, 49, 42, 180, 0, 48, 28, 50, 43, 165, 0, 33, 42, 180, 0, 48]
abbrev dktX1_hasMate_0 : List UInt8 := dkwX1_hasMate_0 ++ dktX1_hasMate_1
theorem dksX1_hasMate_0 : cX1_hasMate.data.toList.drop 0 = dktX1_hasMate_0 := by decide +kernel
theorem dksX1_hasMate_1 : cX1_hasMate.data.toList.drop 24 = dktX1_hasMate_1 := dk_seg dksX1_hasMate_0 24 rfl rfl
theorem dksX1_hasMate_2 : cX1_hasMate.data.toList.drop 48 = dktX1_hasMate_2 := dk_seg dksX1_hasMate_1 24 rfl rfl
theorem dX1_hasMate_0 : decode cX1_hasMate 0 = .ok (.iconst 0, 1) := dk_3 (dk_at dksX1_hasMate_0 0 rfl rfl)
theorem dX1_hasMate_1 : decode cX1_hasMate 1 = .ok (.istore_n 2, 1) := dk_61 (dk_at dksX1_hasMate_0 1 rfl rfl)
theorem dX1_hasMate_2 : decode cX1_hasMate 2 = .ok (.iload_n 2, 1) := dk_28 (dk_at dksX1_hasMate_0 2 rfl rfl)
theorem dX1_hasMate_3 : decode cX1_hasMate 3 = .ok (.aload_n 0, 1) := dk_42 (dk_at dksX1_hasMate_0 3 rfl rfl)
theorem dX1_hasMate_4 : decode cX1_hasMate 4 = .ok (.getfield 365, 3) := dk_180 1 109 (dk_at dksX1_hasMate_0 4 rfl rfl)
theorem dX1_hasMate_7 : decode cX1_hasMate 7 = .ok (.if_icmp .ge 49, 3) := dk_162 0 49 (dk_at dksX1_hasMate_0 7 rfl rfl)
theorem dX1_hasMate_10 : decode cX1_hasMate 10 = .ok (.aload_n 0, 1) := dk_42 (dk_at dksX1_hasMate_0 10 rfl rfl)
theorem dX1_hasMate_11 : decode cX1_hasMate 11 = .ok (.getfield 48, 3) := dk_180 0 48 (dk_at dksX1_hasMate_0 11 rfl rfl)
theorem dX1_hasMate_14 : decode cX1_hasMate 14 = .ok (.iload_n 2, 1) := dk_28 (dk_at dksX1_hasMate_0 14 rfl rfl)
theorem dX1_hasMate_15 : decode cX1_hasMate 15 = .ok (.aaload, 1) := dk_50 (dk_at dksX1_hasMate_0 15 rfl rfl)
theorem dX1_hasMate_16 : decode cX1_hasMate 16 = .ok (.aload_n 1, 1) := dk_43 (dk_at dksX1_hasMate_0 16 rfl rfl)
theorem dX1_hasMate_17 : decode cX1_hasMate 17 = .ok (.if_acmp .eq 33, 3) := dk_165 0 33 (dk_at dksX1_hasMate_0 17 rfl rfl)
theorem dX1_hasMate_20 : decode cX1_hasMate 20 = .ok (.aload_n 0, 1) := dk_42 (dk_at dksX1_hasMate_0 20 rfl rfl)
theorem dX1_hasMate_21 : decode cX1_hasMate 21 = .ok (.getfield 48, 3) := dk_180 0 48 (dk_at dksX1_hasMate_0 21 rfl rfl)
theorem dX1_hasMate_24 : decode cX1_hasMate 24 = .ok (.iload_n 2, 1) := dk_28 (dk_at dksX1_hasMate_1 0 rfl rfl)
theorem dX1_hasMate_25 : decode cX1_hasMate 25 = .ok (.aaload, 1) := dk_50 (dk_at dksX1_hasMate_1 1 rfl rfl)
theorem dX1_hasMate_26 : decode cX1_hasMate 26 = .ok (.getfield 389, 3) := dk_180 1 133 (dk_at dksX1_hasMate_1 2 rfl rfl)
theorem dX1_hasMate_29 : decode cX1_hasMate 29 = .ok (.ifCond .ne 21, 3) := dk_154 0 21 (dk_at dksX1_hasMate_1 5 rfl rfl)
theorem dX1_hasMate_32 : decode cX1_hasMate 32 = .ok (.aload_n 0, 1) := dk_42 (dk_at dksX1_hasMate_1 8 rfl rfl)
theorem dX1_hasMate_33 : decode cX1_hasMate 33 = .ok (.getfield 48, 3) := dk_180 0 48 (dk_at dksX1_hasMate_1 9 rfl rfl)
theorem dX1_hasMate_36 : decode cX1_hasMate 36 = .ok (.iload_n 2, 1) := dk_28 (dk_at dksX1_hasMate_1 12 rfl rfl)
theorem dX1_hasMate_37 : decode cX1_hasMate 37 = .ok (.aaload, 1) := dk_50 (dk_at dksX1_hasMate_1 13 rfl rfl)
theorem dX1_hasMate_38 : decode cX1_hasMate 38 = .ok (.getfield 395, 3) := dk_180 1 139 (dk_at dksX1_hasMate_1 14 rfl rfl)
theorem dX1_hasMate_41 : decode cX1_hasMate 41 = .ok (.aload_n 1, 1) := dk_43 (dk_at dksX1_hasMate_1 17 rfl rfl)
theorem dX1_hasMate_42 : decode cX1_hasMate 42 = .ok (.getfield 395, 3) := dk_180 1 139 (dk_at dksX1_hasMate_1 18 rfl rfl)
theorem dX1_hasMate_45 : decode cX1_hasMate 45 = .ok (.if_icmp .ne 5, 3) := dk_160 0 5 (dk_at dksX1_hasMate_1 21 rfl rfl)
theorem dX1_hasMate_48 : decode cX1_hasMate 48 = .ok (.iconst 1, 1) := dk_4 (dk_at dksX1_hasMate_2 0 rfl rfl)
theorem dX1_hasMate_49 : decode cX1_hasMate 49 = .ok (.ireturn, 1) := dk_172 (dk_at dksX1_hasMate_2 1 rfl rfl)
theorem dX1_hasMate_50 : decode cX1_hasMate 50 = .ok (.iinc 2 1, 3) := dk_132 2 1 (dk_at dksX1_hasMate_2 2 rfl rfl)
theorem dX1_hasMate_53 : decode cX1_hasMate 53 = .ok (.goto (-51), 3) := dk_167 255 205 (dk_at dksX1_hasMate_2 5 rfl rfl)
theorem dX1_hasMate_56 : decode cX1_hasMate 56 = .ok (.iconst 0, 1) := dk_3 (dk_at dksX1_hasMate_2 8 rfl rfl)
theorem dX1_hasMate_57 : decode cX1_hasMate 57 = .ok (.ireturn, 1) := dk_172 (dk_at dksX1_hasMate_2 9 rfl rfl)
abbrev cX1_called : ByteArray := prog_1_method_94_code
def yX1_called : MethodName := ⟨RX1, "called", "(II)I"⟩
def dkwX1_called_3 : List UInt8 := [172, 45, 180, 2, 136, 172, 45, 180, 2, 131, 172, 45, 180, 2, 159, 172, 2, 172]
abbrev dktX1_called_3 : List UInt8 := dkwX1_called_3 ++ []
def dkwX1_called_2 : List UInt8 := [45, 180, 2, 78, 172, 45, 180, 2, 124, 172, 45, 180, 2, 79, 172, 45, 180, 2, 88, 172, 45, 180, 2, 162]
abbrev dktX1_called_2 : List UInt8 := dkwX1_called_2 ++ dktX1_called_3
def dkwX1_called_1 : List UInt8 := [170, 0, 0, 0, 0, 0, 0, 88, 0, 0, 0, 0, 0, 0, 0, 7, 0, 0, 0, 48, 0, 0, 0, 53, 0, 0, 0, 58, 0, 0, 0, 63, 0, 0, 0, 68, 0, 0, 0, 73, 0, 0, 0, 78, 0, 0, 0, 83]
abbrev dktX1_called_1 : List UInt8 := dkwX1_called_1 ++ dktX1_called_2
def dkwX1_called_0 : List UInt8 := [27, 3, 42, 180, 2, 75, 4, 100, 184, 0, 3, 154, 0, 5, 2, 172, 42, 180, 0, 74, 27, 50, 78, 28]
abbrev dktX1_called_0 : List UInt8 := dkwX1_called_0 ++ dktX1_called_1
theorem dksX1_called_0 : cX1_called.data.toList.drop 0 = dktX1_called_0 := by decide +kernel
theorem dksX1_called_1 : cX1_called.data.toList.drop 24 = dktX1_called_1 := dk_seg dksX1_called_0 24 rfl rfl
theorem dksX1_called_2 : cX1_called.data.toList.drop 72 = dktX1_called_2 := dk_seg dksX1_called_1 48 rfl rfl
theorem dksX1_called_3 : cX1_called.data.toList.drop 96 = dktX1_called_3 := dk_seg dksX1_called_2 24 rfl rfl
theorem dX1_called_0 : decode cX1_called 0 = .ok (.iload_n 1, 1) := dk_27 (dk_at dksX1_called_0 0 rfl rfl)
theorem dX1_called_1 : decode cX1_called 1 = .ok (.iconst 0, 1) := dk_3 (dk_at dksX1_called_0 1 rfl rfl)
theorem dX1_called_2 : decode cX1_called 2 = .ok (.aload_n 0, 1) := dk_42 (dk_at dksX1_called_0 2 rfl rfl)
theorem dX1_called_3 : decode cX1_called 3 = .ok (.getfield 587, 3) := dk_180 2 75 (dk_at dksX1_called_0 3 rfl rfl)
theorem dX1_called_6 : decode cX1_called 6 = .ok (.iconst 1, 1) := dk_4 (dk_at dksX1_called_0 6 rfl rfl)
theorem dX1_called_7 : decode cX1_called 7 = .ok (.isub, 1) := dk_100 (dk_at dksX1_called_0 7 rfl rfl)
theorem dX1_called_8 : decode cX1_called 8 = .ok (.invokestatic 3, 3) := dk_184 0 3 (dk_at dksX1_called_0 8 rfl rfl)
theorem dX1_called_11 : decode cX1_called 11 = .ok (.ifCond .ne 5, 3) := dk_154 0 5 (dk_at dksX1_called_0 11 rfl rfl)
theorem dX1_called_14 : decode cX1_called 14 = .ok (.iconst (-1), 1) := dk_2 (dk_at dksX1_called_0 14 rfl rfl)
theorem dX1_called_15 : decode cX1_called 15 = .ok (.ireturn, 1) := dk_172 (dk_at dksX1_called_0 15 rfl rfl)
theorem dX1_called_16 : decode cX1_called 16 = .ok (.aload_n 0, 1) := dk_42 (dk_at dksX1_called_0 16 rfl rfl)
theorem dX1_called_17 : decode cX1_called 17 = .ok (.getfield 74, 3) := dk_180 0 74 (dk_at dksX1_called_0 17 rfl rfl)
theorem dX1_called_20 : decode cX1_called 20 = .ok (.iload_n 1, 1) := dk_27 (dk_at dksX1_called_0 20 rfl rfl)
theorem dX1_called_21 : decode cX1_called 21 = .ok (.aaload, 1) := dk_50 (dk_at dksX1_called_0 21 rfl rfl)
theorem dX1_called_22 : decode cX1_called 22 = .ok (.astore_n 3, 1) := dk_78 (dk_at dksX1_called_0 22 rfl rfl)
theorem dX1_called_23 : decode cX1_called 23 = .ok (.iload_n 2, 1) := dk_28 (dk_at dksX1_called_0 23 rfl rfl)
theorem dX1_called_24 : decode cX1_called 24 = .ok (.tableswitch 88 0 7 #[48, 53, 58, 63, 68, 73, 78, 83], 48) := by decide +kernel
theorem dX1_called_72 : decode cX1_called 72 = .ok (.aload_n 3, 1) := dk_45 (dk_at dksX1_called_2 0 rfl rfl)
theorem dX1_called_73 : decode cX1_called 73 = .ok (.getfield 590, 3) := dk_180 2 78 (dk_at dksX1_called_2 1 rfl rfl)
theorem dX1_called_76 : decode cX1_called 76 = .ok (.ireturn, 1) := dk_172 (dk_at dksX1_called_2 4 rfl rfl)
theorem dX1_called_77 : decode cX1_called 77 = .ok (.aload_n 3, 1) := dk_45 (dk_at dksX1_called_2 5 rfl rfl)
theorem dX1_called_78 : decode cX1_called 78 = .ok (.getfield 636, 3) := dk_180 2 124 (dk_at dksX1_called_2 6 rfl rfl)
theorem dX1_called_81 : decode cX1_called 81 = .ok (.ireturn, 1) := dk_172 (dk_at dksX1_called_2 9 rfl rfl)
theorem dX1_called_82 : decode cX1_called 82 = .ok (.aload_n 3, 1) := dk_45 (dk_at dksX1_called_2 10 rfl rfl)
theorem dX1_called_83 : decode cX1_called 83 = .ok (.getfield 591, 3) := dk_180 2 79 (dk_at dksX1_called_2 11 rfl rfl)
theorem dX1_called_86 : decode cX1_called 86 = .ok (.ireturn, 1) := dk_172 (dk_at dksX1_called_2 14 rfl rfl)
theorem dX1_called_87 : decode cX1_called 87 = .ok (.aload_n 3, 1) := dk_45 (dk_at dksX1_called_2 15 rfl rfl)
theorem dX1_called_88 : decode cX1_called 88 = .ok (.getfield 600, 3) := dk_180 2 88 (dk_at dksX1_called_2 16 rfl rfl)
theorem dX1_called_91 : decode cX1_called 91 = .ok (.ireturn, 1) := dk_172 (dk_at dksX1_called_2 19 rfl rfl)
theorem dX1_called_92 : decode cX1_called 92 = .ok (.aload_n 3, 1) := dk_45 (dk_at dksX1_called_2 20 rfl rfl)
theorem dX1_called_93 : decode cX1_called 93 = .ok (.getfield 674, 3) := dk_180 2 162 (dk_at dksX1_called_2 21 rfl rfl)
theorem dX1_called_96 : decode cX1_called 96 = .ok (.ireturn, 1) := dk_172 (dk_at dksX1_called_3 0 rfl rfl)
theorem dX1_called_97 : decode cX1_called 97 = .ok (.aload_n 3, 1) := dk_45 (dk_at dksX1_called_3 1 rfl rfl)
theorem dX1_called_98 : decode cX1_called 98 = .ok (.getfield 648, 3) := dk_180 2 136 (dk_at dksX1_called_3 2 rfl rfl)
theorem dX1_called_101 : decode cX1_called 101 = .ok (.ireturn, 1) := dk_172 (dk_at dksX1_called_3 5 rfl rfl)
theorem dX1_called_102 : decode cX1_called 102 = .ok (.aload_n 3, 1) := dk_45 (dk_at dksX1_called_3 6 rfl rfl)
theorem dX1_called_103 : decode cX1_called 103 = .ok (.getfield 643, 3) := dk_180 2 131 (dk_at dksX1_called_3 7 rfl rfl)
theorem dX1_called_106 : decode cX1_called 106 = .ok (.ireturn, 1) := dk_172 (dk_at dksX1_called_3 10 rfl rfl)
theorem dX1_called_107 : decode cX1_called 107 = .ok (.aload_n 3, 1) := dk_45 (dk_at dksX1_called_3 11 rfl rfl)
theorem dX1_called_108 : decode cX1_called 108 = .ok (.getfield 671, 3) := dk_180 2 159 (dk_at dksX1_called_3 12 rfl rfl)
theorem dX1_called_111 : decode cX1_called 111 = .ok (.ireturn, 1) := dk_172 (dk_at dksX1_called_3 15 rfl rfl)
theorem dX1_called_112 : decode cX1_called 112 = .ok (.iconst (-1), 1) := dk_2 (dk_at dksX1_called_3 16 rfl rfl)
theorem dX1_called_113 : decode cX1_called 113 = .ok (.ireturn, 1) := dk_172 (dk_at dksX1_called_3 17 rfl rfl)
abbrev cX1_tick : ByteArray := prog_1_method_107_code
def yX1_tick : MethodName := ⟨RX1, "tick", "(I)I"⟩
def dkwX1_tick_1 : List UInt8 := [172, 3, 61, 28, 27, 162, 0, 13, 42, 182, 2, 231, 132, 2, 1, 167, 255, 244, 42, 180, 1, 159, 172]
abbrev dktX1_tick_1 : List UInt8 := dkwX1_tick_1 ++ []
def dkwX1_tick_0 : List UInt8 := [27, 3, 17, 1, 44, 184, 0, 3, 153, 0, 15, 42, 180, 1, 159, 27, 96, 17, 78, 32, 164, 0, 5, 2]
abbrev dktX1_tick_0 : List UInt8 := dkwX1_tick_0 ++ dktX1_tick_1
theorem dksX1_tick_0 : cX1_tick.data.toList.drop 0 = dktX1_tick_0 := by decide +kernel
theorem dksX1_tick_1 : cX1_tick.data.toList.drop 24 = dktX1_tick_1 := dk_seg dksX1_tick_0 24 rfl rfl
theorem dX1_tick_0 : decode cX1_tick 0 = .ok (.iload_n 1, 1) := dk_27 (dk_at dksX1_tick_0 0 rfl rfl)
theorem dX1_tick_1 : decode cX1_tick 1 = .ok (.iconst 0, 1) := dk_3 (dk_at dksX1_tick_0 1 rfl rfl)
theorem dX1_tick_2 : decode cX1_tick 2 = .ok (.sipush 300, 3) := dk_17 1 44 (dk_at dksX1_tick_0 2 rfl rfl)
theorem dX1_tick_5 : decode cX1_tick 5 = .ok (.invokestatic 3, 3) := dk_184 0 3 (dk_at dksX1_tick_0 5 rfl rfl)
theorem dX1_tick_8 : decode cX1_tick 8 = .ok (.ifCond .eq 15, 3) := dk_153 0 15 (dk_at dksX1_tick_0 8 rfl rfl)
theorem dX1_tick_11 : decode cX1_tick 11 = .ok (.aload_n 0, 1) := dk_42 (dk_at dksX1_tick_0 11 rfl rfl)
theorem dX1_tick_12 : decode cX1_tick 12 = .ok (.getfield 415, 3) := dk_180 1 159 (dk_at dksX1_tick_0 12 rfl rfl)
theorem dX1_tick_15 : decode cX1_tick 15 = .ok (.iload_n 1, 1) := dk_27 (dk_at dksX1_tick_0 15 rfl rfl)
theorem dX1_tick_16 : decode cX1_tick 16 = .ok (.iadd, 1) := dk_96 (dk_at dksX1_tick_0 16 rfl rfl)
theorem dX1_tick_17 : decode cX1_tick 17 = .ok (.sipush 20000, 3) := dk_17 78 32 (dk_at dksX1_tick_0 17 rfl rfl)
theorem dX1_tick_20 : decode cX1_tick 20 = .ok (.if_icmp .le 5, 3) := dk_164 0 5 (dk_at dksX1_tick_0 20 rfl rfl)
theorem dX1_tick_23 : decode cX1_tick 23 = .ok (.iconst (-1), 1) := dk_2 (dk_at dksX1_tick_0 23 rfl rfl)
theorem dX1_tick_24 : decode cX1_tick 24 = .ok (.ireturn, 1) := dk_172 (dk_at dksX1_tick_1 0 rfl rfl)
theorem dX1_tick_25 : decode cX1_tick 25 = .ok (.iconst 0, 1) := dk_3 (dk_at dksX1_tick_1 1 rfl rfl)
theorem dX1_tick_26 : decode cX1_tick 26 = .ok (.istore_n 2, 1) := dk_61 (dk_at dksX1_tick_1 2 rfl rfl)
theorem dX1_tick_27 : decode cX1_tick 27 = .ok (.iload_n 2, 1) := dk_28 (dk_at dksX1_tick_1 3 rfl rfl)
theorem dX1_tick_28 : decode cX1_tick 28 = .ok (.iload_n 1, 1) := dk_27 (dk_at dksX1_tick_1 4 rfl rfl)
theorem dX1_tick_29 : decode cX1_tick 29 = .ok (.if_icmp .ge 13, 3) := dk_162 0 13 (dk_at dksX1_tick_1 5 rfl rfl)
theorem dX1_tick_32 : decode cX1_tick 32 = .ok (.aload_n 0, 1) := dk_42 (dk_at dksX1_tick_1 8 rfl rfl)
theorem dX1_tick_33 : decode cX1_tick 33 = .ok (.invokevirtual 743, 3) := dk_182 2 231 (dk_at dksX1_tick_1 9 rfl rfl)
theorem dX1_tick_36 : decode cX1_tick 36 = .ok (.iinc 2 1, 3) := dk_132 2 1 (dk_at dksX1_tick_1 12 rfl rfl)
theorem dX1_tick_39 : decode cX1_tick 39 = .ok (.goto (-12), 3) := dk_167 255 244 (dk_at dksX1_tick_1 15 rfl rfl)
theorem dX1_tick_42 : decode cX1_tick 42 = .ok (.aload_n 0, 1) := dk_42 (dk_at dksX1_tick_1 18 rfl rfl)
theorem dX1_tick_43 : decode cX1_tick 43 = .ok (.getfield 415, 3) := dk_180 1 159 (dk_at dksX1_tick_1 19 rfl rfl)
theorem dX1_tick_46 : decode cX1_tick 46 = .ok (.ireturn, 1) := dk_172 (dk_at dksX1_tick_1 22 rfl rfl)
abbrev cX1_minute : ByteArray := prog_1_method_104_code
def yX1_minute : MethodName := ⟨RX1, "minute", "()V"⟩
def dkwX1_minute_6 : List UInt8 := [162, 0, 18, 42, 180, 0, 48, 27, 50, 182, 2, 225, 132, 1, 1, 167, 255, 236, 177]
abbrev dktX1_minute_6 : List UInt8 := dkwX1_minute_6 ++ []
def dkwX1_minute_5 : List UInt8 := [3, 182, 2, 216, 42, 182, 2, 219, 42, 182, 1, 1, 42, 182, 2, 222, 3, 60, 27, 42, 180, 1, 109]
abbrev dktX1_minute_5 : List UInt8 := dkwX1_minute_5 ++ dktX1_minute_6
def dkwX1_minute_4 : List UInt8 := [162, 0, 19, 42, 42, 180, 0, 48, 27, 50, 182, 2, 210, 132, 1, 1, 167, 255, 235, 42, 182, 2, 213, 42]
abbrev dktX1_minute_4 : List UInt8 := dkwX1_minute_4 ++ dktX1_minute_5
def dkwX1_minute_3 : List UInt8 := [162, 0, 16, 42, 180, 0, 37, 27, 3, 79, 132, 1, 1, 167, 255, 238, 3, 60, 27, 42, 180, 1, 109]
abbrev dktX1_minute_3 : List UInt8 := dkwX1_minute_3 ++ dktX1_minute_4
def dkwX1_minute_2 : List UInt8 := [42, 42, 180, 0, 48, 27, 50, 182, 2, 207, 132, 1, 1, 167, 255, 235, 3, 60, 27, 42, 180, 1, 100]
abbrev dktX1_minute_2 : List UInt8 := dkwX1_minute_2 ++ dktX1_minute_3
def dkwX1_minute_1 : List UInt8 := [180, 0, 48, 27, 50, 182, 2, 204, 132, 1, 1, 167, 255, 235, 3, 60, 27, 42, 180, 1, 109, 162, 0, 19]
abbrev dktX1_minute_1 : List UInt8 := dkwX1_minute_1 ++ dktX1_minute_2
def dkwX1_minute_0 : List UInt8 := [42, 89, 180, 1, 159, 4, 96, 181, 1, 159, 3, 60, 27, 42, 180, 1, 109, 162, 0, 19, 42, 42]
abbrev dktX1_minute_0 : List UInt8 := dkwX1_minute_0 ++ dktX1_minute_1
theorem dksX1_minute_0 : cX1_minute.data.toList.drop 0 = dktX1_minute_0 := by decide +kernel
theorem dksX1_minute_1 : cX1_minute.data.toList.drop 22 = dktX1_minute_1 := dk_seg dksX1_minute_0 22 rfl rfl
theorem dksX1_minute_2 : cX1_minute.data.toList.drop 46 = dktX1_minute_2 := dk_seg dksX1_minute_1 24 rfl rfl
theorem dksX1_minute_3 : cX1_minute.data.toList.drop 69 = dktX1_minute_3 := dk_seg dksX1_minute_2 23 rfl rfl
theorem dksX1_minute_4 : cX1_minute.data.toList.drop 92 = dktX1_minute_4 := dk_seg dksX1_minute_3 23 rfl rfl
theorem dksX1_minute_5 : cX1_minute.data.toList.drop 116 = dktX1_minute_5 := dk_seg dksX1_minute_4 24 rfl rfl
theorem dksX1_minute_6 : cX1_minute.data.toList.drop 139 = dktX1_minute_6 := dk_seg dksX1_minute_5 23 rfl rfl
theorem dX1_minute_0 : decode cX1_minute 0 = .ok (.aload_n 0, 1) := dk_42 (dk_at dksX1_minute_0 0 rfl rfl)
theorem dX1_minute_1 : decode cX1_minute 1 = .ok (.dup, 1) := dk_89 (dk_at dksX1_minute_0 1 rfl rfl)
theorem dX1_minute_2 : decode cX1_minute 2 = .ok (.getfield 415, 3) := dk_180 1 159 (dk_at dksX1_minute_0 2 rfl rfl)
theorem dX1_minute_5 : decode cX1_minute 5 = .ok (.iconst 1, 1) := dk_4 (dk_at dksX1_minute_0 5 rfl rfl)
theorem dX1_minute_6 : decode cX1_minute 6 = .ok (.iadd, 1) := dk_96 (dk_at dksX1_minute_0 6 rfl rfl)
theorem dX1_minute_7 : decode cX1_minute 7 = .ok (.putfield 415, 3) := dk_181 1 159 (dk_at dksX1_minute_0 7 rfl rfl)
theorem dX1_minute_10 : decode cX1_minute 10 = .ok (.iconst 0, 1) := dk_3 (dk_at dksX1_minute_0 10 rfl rfl)
theorem dX1_minute_11 : decode cX1_minute 11 = .ok (.istore_n 1, 1) := dk_60 (dk_at dksX1_minute_0 11 rfl rfl)
theorem dX1_minute_12 : decode cX1_minute 12 = .ok (.iload_n 1, 1) := dk_27 (dk_at dksX1_minute_0 12 rfl rfl)
theorem dX1_minute_13 : decode cX1_minute 13 = .ok (.aload_n 0, 1) := dk_42 (dk_at dksX1_minute_0 13 rfl rfl)
theorem dX1_minute_14 : decode cX1_minute 14 = .ok (.getfield 365, 3) := dk_180 1 109 (dk_at dksX1_minute_0 14 rfl rfl)
theorem dX1_minute_17 : decode cX1_minute 17 = .ok (.if_icmp .ge 19, 3) := dk_162 0 19 (dk_at dksX1_minute_0 17 rfl rfl)
theorem dX1_minute_20 : decode cX1_minute 20 = .ok (.aload_n 0, 1) := dk_42 (dk_at dksX1_minute_0 20 rfl rfl)
theorem dX1_minute_21 : decode cX1_minute 21 = .ok (.aload_n 0, 1) := dk_42 (dk_at dksX1_minute_0 21 rfl rfl)
theorem dX1_minute_22 : decode cX1_minute 22 = .ok (.getfield 48, 3) := dk_180 0 48 (dk_at dksX1_minute_1 0 rfl rfl)
theorem dX1_minute_25 : decode cX1_minute 25 = .ok (.iload_n 1, 1) := dk_27 (dk_at dksX1_minute_1 3 rfl rfl)
theorem dX1_minute_26 : decode cX1_minute 26 = .ok (.aaload, 1) := dk_50 (dk_at dksX1_minute_1 4 rfl rfl)
theorem dX1_minute_27 : decode cX1_minute 27 = .ok (.invokevirtual 716, 3) := dk_182 2 204 (dk_at dksX1_minute_1 5 rfl rfl)
theorem dX1_minute_30 : decode cX1_minute 30 = .ok (.iinc 1 1, 3) := dk_132 1 1 (dk_at dksX1_minute_1 8 rfl rfl)
theorem dX1_minute_33 : decode cX1_minute 33 = .ok (.goto (-21), 3) := dk_167 255 235 (dk_at dksX1_minute_1 11 rfl rfl)
theorem dX1_minute_36 : decode cX1_minute 36 = .ok (.iconst 0, 1) := dk_3 (dk_at dksX1_minute_1 14 rfl rfl)
theorem dX1_minute_37 : decode cX1_minute 37 = .ok (.istore_n 1, 1) := dk_60 (dk_at dksX1_minute_1 15 rfl rfl)
theorem dX1_minute_38 : decode cX1_minute 38 = .ok (.iload_n 1, 1) := dk_27 (dk_at dksX1_minute_1 16 rfl rfl)
theorem dX1_minute_39 : decode cX1_minute 39 = .ok (.aload_n 0, 1) := dk_42 (dk_at dksX1_minute_1 17 rfl rfl)
theorem dX1_minute_40 : decode cX1_minute 40 = .ok (.getfield 365, 3) := dk_180 1 109 (dk_at dksX1_minute_1 18 rfl rfl)
theorem dX1_minute_43 : decode cX1_minute 43 = .ok (.if_icmp .ge 19, 3) := dk_162 0 19 (dk_at dksX1_minute_1 21 rfl rfl)
theorem dX1_minute_46 : decode cX1_minute 46 = .ok (.aload_n 0, 1) := dk_42 (dk_at dksX1_minute_2 0 rfl rfl)
theorem dX1_minute_47 : decode cX1_minute 47 = .ok (.aload_n 0, 1) := dk_42 (dk_at dksX1_minute_2 1 rfl rfl)
theorem dX1_minute_48 : decode cX1_minute 48 = .ok (.getfield 48, 3) := dk_180 0 48 (dk_at dksX1_minute_2 2 rfl rfl)
theorem dX1_minute_51 : decode cX1_minute 51 = .ok (.iload_n 1, 1) := dk_27 (dk_at dksX1_minute_2 5 rfl rfl)
theorem dX1_minute_52 : decode cX1_minute 52 = .ok (.aaload, 1) := dk_50 (dk_at dksX1_minute_2 6 rfl rfl)
theorem dX1_minute_53 : decode cX1_minute 53 = .ok (.invokevirtual 719, 3) := dk_182 2 207 (dk_at dksX1_minute_2 7 rfl rfl)
theorem dX1_minute_56 : decode cX1_minute 56 = .ok (.iinc 1 1, 3) := dk_132 1 1 (dk_at dksX1_minute_2 10 rfl rfl)
theorem dX1_minute_59 : decode cX1_minute 59 = .ok (.goto (-21), 3) := dk_167 255 235 (dk_at dksX1_minute_2 13 rfl rfl)
theorem dX1_minute_62 : decode cX1_minute 62 = .ok (.iconst 0, 1) := dk_3 (dk_at dksX1_minute_2 16 rfl rfl)
theorem dX1_minute_63 : decode cX1_minute 63 = .ok (.istore_n 1, 1) := dk_60 (dk_at dksX1_minute_2 17 rfl rfl)
theorem dX1_minute_64 : decode cX1_minute 64 = .ok (.iload_n 1, 1) := dk_27 (dk_at dksX1_minute_2 18 rfl rfl)
theorem dX1_minute_65 : decode cX1_minute 65 = .ok (.aload_n 0, 1) := dk_42 (dk_at dksX1_minute_2 19 rfl rfl)
theorem dX1_minute_66 : decode cX1_minute 66 = .ok (.getfield 356, 3) := dk_180 1 100 (dk_at dksX1_minute_2 20 rfl rfl)
theorem dX1_minute_69 : decode cX1_minute 69 = .ok (.if_icmp .ge 16, 3) := dk_162 0 16 (dk_at dksX1_minute_3 0 rfl rfl)
theorem dX1_minute_72 : decode cX1_minute 72 = .ok (.aload_n 0, 1) := dk_42 (dk_at dksX1_minute_3 3 rfl rfl)
theorem dX1_minute_73 : decode cX1_minute 73 = .ok (.getfield 37, 3) := dk_180 0 37 (dk_at dksX1_minute_3 4 rfl rfl)
theorem dX1_minute_76 : decode cX1_minute 76 = .ok (.iload_n 1, 1) := dk_27 (dk_at dksX1_minute_3 7 rfl rfl)
theorem dX1_minute_77 : decode cX1_minute 77 = .ok (.iconst 0, 1) := dk_3 (dk_at dksX1_minute_3 8 rfl rfl)
theorem dX1_minute_78 : decode cX1_minute 78 = .ok (.iastore, 1) := dk_79 (dk_at dksX1_minute_3 9 rfl rfl)
theorem dX1_minute_79 : decode cX1_minute 79 = .ok (.iinc 1 1, 3) := dk_132 1 1 (dk_at dksX1_minute_3 10 rfl rfl)
theorem dX1_minute_82 : decode cX1_minute 82 = .ok (.goto (-18), 3) := dk_167 255 238 (dk_at dksX1_minute_3 13 rfl rfl)
theorem dX1_minute_85 : decode cX1_minute 85 = .ok (.iconst 0, 1) := dk_3 (dk_at dksX1_minute_3 16 rfl rfl)
theorem dX1_minute_86 : decode cX1_minute 86 = .ok (.istore_n 1, 1) := dk_60 (dk_at dksX1_minute_3 17 rfl rfl)
theorem dX1_minute_87 : decode cX1_minute 87 = .ok (.iload_n 1, 1) := dk_27 (dk_at dksX1_minute_3 18 rfl rfl)
theorem dX1_minute_88 : decode cX1_minute 88 = .ok (.aload_n 0, 1) := dk_42 (dk_at dksX1_minute_3 19 rfl rfl)
theorem dX1_minute_89 : decode cX1_minute 89 = .ok (.getfield 365, 3) := dk_180 1 109 (dk_at dksX1_minute_3 20 rfl rfl)
theorem dX1_minute_92 : decode cX1_minute 92 = .ok (.if_icmp .ge 19, 3) := dk_162 0 19 (dk_at dksX1_minute_4 0 rfl rfl)
theorem dX1_minute_95 : decode cX1_minute 95 = .ok (.aload_n 0, 1) := dk_42 (dk_at dksX1_minute_4 3 rfl rfl)
theorem dX1_minute_96 : decode cX1_minute 96 = .ok (.aload_n 0, 1) := dk_42 (dk_at dksX1_minute_4 4 rfl rfl)
theorem dX1_minute_97 : decode cX1_minute 97 = .ok (.getfield 48, 3) := dk_180 0 48 (dk_at dksX1_minute_4 5 rfl rfl)
theorem dX1_minute_100 : decode cX1_minute 100 = .ok (.iload_n 1, 1) := dk_27 (dk_at dksX1_minute_4 8 rfl rfl)
theorem dX1_minute_101 : decode cX1_minute 101 = .ok (.aaload, 1) := dk_50 (dk_at dksX1_minute_4 9 rfl rfl)
theorem dX1_minute_102 : decode cX1_minute 102 = .ok (.invokevirtual 722, 3) := dk_182 2 210 (dk_at dksX1_minute_4 10 rfl rfl)
theorem dX1_minute_105 : decode cX1_minute 105 = .ok (.iinc 1 1, 3) := dk_132 1 1 (dk_at dksX1_minute_4 13 rfl rfl)
theorem dX1_minute_108 : decode cX1_minute 108 = .ok (.goto (-21), 3) := dk_167 255 235 (dk_at dksX1_minute_4 16 rfl rfl)
theorem dX1_minute_111 : decode cX1_minute 111 = .ok (.aload_n 0, 1) := dk_42 (dk_at dksX1_minute_4 19 rfl rfl)
theorem dX1_minute_112 : decode cX1_minute 112 = .ok (.invokevirtual 725, 3) := dk_182 2 213 (dk_at dksX1_minute_4 20 rfl rfl)
theorem dX1_minute_115 : decode cX1_minute 115 = .ok (.aload_n 0, 1) := dk_42 (dk_at dksX1_minute_4 23 rfl rfl)
theorem dX1_minute_116 : decode cX1_minute 116 = .ok (.iconst 0, 1) := dk_3 (dk_at dksX1_minute_5 0 rfl rfl)
theorem dX1_minute_117 : decode cX1_minute 117 = .ok (.invokevirtual 728, 3) := dk_182 2 216 (dk_at dksX1_minute_5 1 rfl rfl)
theorem dX1_minute_120 : decode cX1_minute 120 = .ok (.aload_n 0, 1) := dk_42 (dk_at dksX1_minute_5 4 rfl rfl)
theorem dX1_minute_121 : decode cX1_minute 121 = .ok (.invokevirtual 731, 3) := dk_182 2 219 (dk_at dksX1_minute_5 5 rfl rfl)
theorem dX1_minute_124 : decode cX1_minute 124 = .ok (.aload_n 0, 1) := dk_42 (dk_at dksX1_minute_5 8 rfl rfl)
theorem dX1_minute_125 : decode cX1_minute 125 = .ok (.invokevirtual 257, 3) := dk_182 1 1 (dk_at dksX1_minute_5 9 rfl rfl)
theorem dX1_minute_128 : decode cX1_minute 128 = .ok (.aload_n 0, 1) := dk_42 (dk_at dksX1_minute_5 12 rfl rfl)
theorem dX1_minute_129 : decode cX1_minute 129 = .ok (.invokevirtual 734, 3) := dk_182 2 222 (dk_at dksX1_minute_5 13 rfl rfl)
theorem dX1_minute_132 : decode cX1_minute 132 = .ok (.iconst 0, 1) := dk_3 (dk_at dksX1_minute_5 16 rfl rfl)
theorem dX1_minute_133 : decode cX1_minute 133 = .ok (.istore_n 1, 1) := dk_60 (dk_at dksX1_minute_5 17 rfl rfl)
theorem dX1_minute_134 : decode cX1_minute 134 = .ok (.iload_n 1, 1) := dk_27 (dk_at dksX1_minute_5 18 rfl rfl)
theorem dX1_minute_135 : decode cX1_minute 135 = .ok (.aload_n 0, 1) := dk_42 (dk_at dksX1_minute_5 19 rfl rfl)
theorem dX1_minute_136 : decode cX1_minute 136 = .ok (.getfield 365, 3) := dk_180 1 109 (dk_at dksX1_minute_5 20 rfl rfl)
theorem dX1_minute_139 : decode cX1_minute 139 = .ok (.if_icmp .ge 18, 3) := dk_162 0 18 (dk_at dksX1_minute_6 0 rfl rfl)
theorem dX1_minute_142 : decode cX1_minute 142 = .ok (.aload_n 0, 1) := dk_42 (dk_at dksX1_minute_6 3 rfl rfl)
theorem dX1_minute_143 : decode cX1_minute 143 = .ok (.getfield 48, 3) := dk_180 0 48 (dk_at dksX1_minute_6 4 rfl rfl)
theorem dX1_minute_146 : decode cX1_minute 146 = .ok (.iload_n 1, 1) := dk_27 (dk_at dksX1_minute_6 7 rfl rfl)
theorem dX1_minute_147 : decode cX1_minute 147 = .ok (.aaload, 1) := dk_50 (dk_at dksX1_minute_6 8 rfl rfl)
theorem dX1_minute_148 : decode cX1_minute 148 = .ok (.invokevirtual 737, 3) := dk_182 2 225 (dk_at dksX1_minute_6 9 rfl rfl)
theorem dX1_minute_151 : decode cX1_minute 151 = .ok (.iinc 1 1, 3) := dk_132 1 1 (dk_at dksX1_minute_6 12 rfl rfl)
theorem dX1_minute_154 : decode cX1_minute 154 = .ok (.goto (-20), 3) := dk_167 255 236 (dk_at dksX1_minute_6 15 rfl rfl)
theorem dX1_minute_157 : decode cX1_minute 157 = .ok (.return_, 1) := dk_177 (dk_at dksX1_minute_6 18 rfl rfl)
abbrev cX1_arrive : ByteArray := prog_1_method_96_code
def yX1_arrive : MethodName := ⟨RX1, "arrive", "(LCityBrigade$Crew;)V"⟩
def dkwX1_arrive_5 : List UInt8 := [182, 1, 165, 177, 43, 5, 181, 1, 133, 43, 45, 181, 1, 145, 43, 42, 180, 1, 159, 181, 2, 169, 177]
abbrev dktX1_arrive_5 : List UInt8 := dkwX1_arrive_5 ++ []
def dkwX1_arrive_4 : List UInt8 := [154, 0, 20, 42, 44, 44, 180, 2, 86, 153, 0, 7, 4, 167, 0, 4, 5, 182, 2, 165, 42, 43]
abbrev dktX1_arrive_4 : List UInt8 := dkwX1_arrive_4 ++ dktX1_arrive_5
def dkwX1_arrive_3 : List UInt8 := [44, 180, 2, 78, 182, 2, 82, 78, 45, 198, 0, 10, 44, 180, 2, 79, 153, 0, 33, 44, 180, 2, 79]
abbrev dktX1_arrive_3 : List UInt8 := dkwX1_arrive_3 ++ dktX1_arrive_4
def dkwX1_arrive_2 : List UInt8 := [160, 0, 13, 42, 43, 43, 180, 1, 139, 182, 1, 155, 177, 42, 180, 0, 74, 43, 180, 1, 172, 50, 77, 42]
abbrev dktX1_arrive_2 : List UInt8 := dkwX1_arrive_2 ++ dktX1_arrive_3
def dkwX1_arrive_1 : List UInt8 := [159, 0, 12, 43, 180, 1, 133, 6, 159, 0, 4, 177, 43, 2, 181, 1, 142, 43, 180, 1, 133, 6]
abbrev dktX1_arrive_1 : List UInt8 := dkwX1_arrive_1 ++ dktX1_arrive_2
def dkwX1_arrive_0 : List UInt8 := [43, 180, 1, 142, 2, 159, 0, 30, 43, 180, 1, 142, 42, 180, 1, 159, 163, 0, 19, 43, 180, 1, 133, 4]
abbrev dktX1_arrive_0 : List UInt8 := dkwX1_arrive_0 ++ dktX1_arrive_1
theorem dksX1_arrive_0 : cX1_arrive.data.toList.drop 0 = dktX1_arrive_0 := by decide +kernel
theorem dksX1_arrive_1 : cX1_arrive.data.toList.drop 24 = dktX1_arrive_1 := dk_seg dksX1_arrive_0 24 rfl rfl
theorem dksX1_arrive_2 : cX1_arrive.data.toList.drop 46 = dktX1_arrive_2 := dk_seg dksX1_arrive_1 22 rfl rfl
theorem dksX1_arrive_3 : cX1_arrive.data.toList.drop 70 = dktX1_arrive_3 := dk_seg dksX1_arrive_2 24 rfl rfl
theorem dksX1_arrive_4 : cX1_arrive.data.toList.drop 93 = dktX1_arrive_4 := dk_seg dksX1_arrive_3 23 rfl rfl
theorem dksX1_arrive_5 : cX1_arrive.data.toList.drop 115 = dktX1_arrive_5 := dk_seg dksX1_arrive_4 22 rfl rfl
theorem dX1_arrive_0 : decode cX1_arrive 0 = .ok (.aload_n 1, 1) := dk_43 (dk_at dksX1_arrive_0 0 rfl rfl)
theorem dX1_arrive_1 : decode cX1_arrive 1 = .ok (.getfield 398, 3) := dk_180 1 142 (dk_at dksX1_arrive_0 1 rfl rfl)
theorem dX1_arrive_4 : decode cX1_arrive 4 = .ok (.iconst (-1), 1) := dk_2 (dk_at dksX1_arrive_0 4 rfl rfl)
theorem dX1_arrive_5 : decode cX1_arrive 5 = .ok (.if_icmp .eq 30, 3) := dk_159 0 30 (dk_at dksX1_arrive_0 5 rfl rfl)
theorem dX1_arrive_8 : decode cX1_arrive 8 = .ok (.aload_n 1, 1) := dk_43 (dk_at dksX1_arrive_0 8 rfl rfl)
theorem dX1_arrive_9 : decode cX1_arrive 9 = .ok (.getfield 398, 3) := dk_180 1 142 (dk_at dksX1_arrive_0 9 rfl rfl)
theorem dX1_arrive_12 : decode cX1_arrive 12 = .ok (.aload_n 0, 1) := dk_42 (dk_at dksX1_arrive_0 12 rfl rfl)
theorem dX1_arrive_13 : decode cX1_arrive 13 = .ok (.getfield 415, 3) := dk_180 1 159 (dk_at dksX1_arrive_0 13 rfl rfl)
theorem dX1_arrive_16 : decode cX1_arrive 16 = .ok (.if_icmp .gt 19, 3) := dk_163 0 19 (dk_at dksX1_arrive_0 16 rfl rfl)
theorem dX1_arrive_19 : decode cX1_arrive 19 = .ok (.aload_n 1, 1) := dk_43 (dk_at dksX1_arrive_0 19 rfl rfl)
theorem dX1_arrive_20 : decode cX1_arrive 20 = .ok (.getfield 389, 3) := dk_180 1 133 (dk_at dksX1_arrive_0 20 rfl rfl)
theorem dX1_arrive_23 : decode cX1_arrive 23 = .ok (.iconst 1, 1) := dk_4 (dk_at dksX1_arrive_0 23 rfl rfl)
theorem dX1_arrive_24 : decode cX1_arrive 24 = .ok (.if_icmp .eq 12, 3) := dk_159 0 12 (dk_at dksX1_arrive_1 0 rfl rfl)
theorem dX1_arrive_27 : decode cX1_arrive 27 = .ok (.aload_n 1, 1) := dk_43 (dk_at dksX1_arrive_1 3 rfl rfl)
theorem dX1_arrive_28 : decode cX1_arrive 28 = .ok (.getfield 389, 3) := dk_180 1 133 (dk_at dksX1_arrive_1 4 rfl rfl)
theorem dX1_arrive_31 : decode cX1_arrive 31 = .ok (.iconst 3, 1) := dk_6 (dk_at dksX1_arrive_1 7 rfl rfl)
theorem dX1_arrive_32 : decode cX1_arrive 32 = .ok (.if_icmp .eq 4, 3) := dk_159 0 4 (dk_at dksX1_arrive_1 8 rfl rfl)
theorem dX1_arrive_35 : decode cX1_arrive 35 = .ok (.return_, 1) := dk_177 (dk_at dksX1_arrive_1 11 rfl rfl)
theorem dX1_arrive_36 : decode cX1_arrive 36 = .ok (.aload_n 1, 1) := dk_43 (dk_at dksX1_arrive_1 12 rfl rfl)
theorem dX1_arrive_37 : decode cX1_arrive 37 = .ok (.iconst (-1), 1) := dk_2 (dk_at dksX1_arrive_1 13 rfl rfl)
theorem dX1_arrive_38 : decode cX1_arrive 38 = .ok (.putfield 398, 3) := dk_181 1 142 (dk_at dksX1_arrive_1 14 rfl rfl)
theorem dX1_arrive_41 : decode cX1_arrive 41 = .ok (.aload_n 1, 1) := dk_43 (dk_at dksX1_arrive_1 17 rfl rfl)
theorem dX1_arrive_42 : decode cX1_arrive 42 = .ok (.getfield 389, 3) := dk_180 1 133 (dk_at dksX1_arrive_1 18 rfl rfl)
theorem dX1_arrive_45 : decode cX1_arrive 45 = .ok (.iconst 3, 1) := dk_6 (dk_at dksX1_arrive_1 21 rfl rfl)
theorem dX1_arrive_46 : decode cX1_arrive 46 = .ok (.if_icmp .ne 13, 3) := dk_160 0 13 (dk_at dksX1_arrive_2 0 rfl rfl)
theorem dX1_arrive_49 : decode cX1_arrive 49 = .ok (.aload_n 0, 1) := dk_42 (dk_at dksX1_arrive_2 3 rfl rfl)
theorem dX1_arrive_50 : decode cX1_arrive 50 = .ok (.aload_n 1, 1) := dk_43 (dk_at dksX1_arrive_2 4 rfl rfl)
theorem dX1_arrive_51 : decode cX1_arrive 51 = .ok (.aload_n 1, 1) := dk_43 (dk_at dksX1_arrive_2 5 rfl rfl)
theorem dX1_arrive_52 : decode cX1_arrive 52 = .ok (.getfield 395, 3) := dk_180 1 139 (dk_at dksX1_arrive_2 6 rfl rfl)
theorem dX1_arrive_55 : decode cX1_arrive 55 = .ok (.invokevirtual 411, 3) := dk_182 1 155 (dk_at dksX1_arrive_2 9 rfl rfl)
theorem dX1_arrive_58 : decode cX1_arrive 58 = .ok (.return_, 1) := dk_177 (dk_at dksX1_arrive_2 12 rfl rfl)
theorem dX1_arrive_59 : decode cX1_arrive 59 = .ok (.aload_n 0, 1) := dk_42 (dk_at dksX1_arrive_2 13 rfl rfl)
theorem dX1_arrive_60 : decode cX1_arrive 60 = .ok (.getfield 74, 3) := dk_180 0 74 (dk_at dksX1_arrive_2 14 rfl rfl)
theorem dX1_arrive_63 : decode cX1_arrive 63 = .ok (.aload_n 1, 1) := dk_43 (dk_at dksX1_arrive_2 17 rfl rfl)
theorem dX1_arrive_64 : decode cX1_arrive 64 = .ok (.getfield 428, 3) := dk_180 1 172 (dk_at dksX1_arrive_2 18 rfl rfl)
theorem dX1_arrive_67 : decode cX1_arrive 67 = .ok (.aaload, 1) := dk_50 (dk_at dksX1_arrive_2 21 rfl rfl)
theorem dX1_arrive_68 : decode cX1_arrive 68 = .ok (.astore_n 2, 1) := dk_77 (dk_at dksX1_arrive_2 22 rfl rfl)
theorem dX1_arrive_69 : decode cX1_arrive 69 = .ok (.aload_n 0, 1) := dk_42 (dk_at dksX1_arrive_2 23 rfl rfl)
theorem dX1_arrive_70 : decode cX1_arrive 70 = .ok (.aload_n 2, 1) := dk_44 (dk_at dksX1_arrive_3 0 rfl rfl)
theorem dX1_arrive_71 : decode cX1_arrive 71 = .ok (.getfield 590, 3) := dk_180 2 78 (dk_at dksX1_arrive_3 1 rfl rfl)
theorem dX1_arrive_74 : decode cX1_arrive 74 = .ok (.invokevirtual 594, 3) := dk_182 2 82 (dk_at dksX1_arrive_3 4 rfl rfl)
theorem dX1_arrive_77 : decode cX1_arrive 77 = .ok (.astore_n 3, 1) := dk_78 (dk_at dksX1_arrive_3 7 rfl rfl)
theorem dX1_arrive_78 : decode cX1_arrive 78 = .ok (.aload_n 3, 1) := dk_45 (dk_at dksX1_arrive_3 8 rfl rfl)
theorem dX1_arrive_79 : decode cX1_arrive 79 = .ok (.ifnull 10, 3) := dk_198 0 10 (dk_at dksX1_arrive_3 9 rfl rfl)
theorem dX1_arrive_82 : decode cX1_arrive 82 = .ok (.aload_n 2, 1) := dk_44 (dk_at dksX1_arrive_3 12 rfl rfl)
theorem dX1_arrive_83 : decode cX1_arrive 83 = .ok (.getfield 591, 3) := dk_180 2 79 (dk_at dksX1_arrive_3 13 rfl rfl)
theorem dX1_arrive_86 : decode cX1_arrive 86 = .ok (.ifCond .eq 33, 3) := dk_153 0 33 (dk_at dksX1_arrive_3 16 rfl rfl)
theorem dX1_arrive_89 : decode cX1_arrive 89 = .ok (.aload_n 2, 1) := dk_44 (dk_at dksX1_arrive_3 19 rfl rfl)
theorem dX1_arrive_90 : decode cX1_arrive 90 = .ok (.getfield 591, 3) := dk_180 2 79 (dk_at dksX1_arrive_3 20 rfl rfl)
theorem dX1_arrive_93 : decode cX1_arrive 93 = .ok (.ifCond .ne 20, 3) := dk_154 0 20 (dk_at dksX1_arrive_4 0 rfl rfl)
theorem dX1_arrive_96 : decode cX1_arrive 96 = .ok (.aload_n 0, 1) := dk_42 (dk_at dksX1_arrive_4 3 rfl rfl)
theorem dX1_arrive_97 : decode cX1_arrive 97 = .ok (.aload_n 2, 1) := dk_44 (dk_at dksX1_arrive_4 4 rfl rfl)
theorem dX1_arrive_98 : decode cX1_arrive 98 = .ok (.aload_n 2, 1) := dk_44 (dk_at dksX1_arrive_4 5 rfl rfl)
theorem dX1_arrive_99 : decode cX1_arrive 99 = .ok (.getfield 598, 3) := dk_180 2 86 (dk_at dksX1_arrive_4 6 rfl rfl)
theorem dX1_arrive_102 : decode cX1_arrive 102 = .ok (.ifCond .eq 7, 3) := dk_153 0 7 (dk_at dksX1_arrive_4 9 rfl rfl)
theorem dX1_arrive_105 : decode cX1_arrive 105 = .ok (.iconst 1, 1) := dk_4 (dk_at dksX1_arrive_4 12 rfl rfl)
theorem dX1_arrive_106 : decode cX1_arrive 106 = .ok (.goto 4, 3) := dk_167 0 4 (dk_at dksX1_arrive_4 13 rfl rfl)
theorem dX1_arrive_109 : decode cX1_arrive 109 = .ok (.iconst 2, 1) := dk_5 (dk_at dksX1_arrive_4 16 rfl rfl)
theorem dX1_arrive_110 : decode cX1_arrive 110 = .ok (.invokevirtual 677, 3) := dk_182 2 165 (dk_at dksX1_arrive_4 17 rfl rfl)
theorem dX1_arrive_113 : decode cX1_arrive 113 = .ok (.aload_n 0, 1) := dk_42 (dk_at dksX1_arrive_4 20 rfl rfl)
theorem dX1_arrive_114 : decode cX1_arrive 114 = .ok (.aload_n 1, 1) := dk_43 (dk_at dksX1_arrive_4 21 rfl rfl)
theorem dX1_arrive_115 : decode cX1_arrive 115 = .ok (.invokevirtual 421, 3) := dk_182 1 165 (dk_at dksX1_arrive_5 0 rfl rfl)
theorem dX1_arrive_118 : decode cX1_arrive 118 = .ok (.return_, 1) := dk_177 (dk_at dksX1_arrive_5 3 rfl rfl)
theorem dX1_arrive_119 : decode cX1_arrive 119 = .ok (.aload_n 1, 1) := dk_43 (dk_at dksX1_arrive_5 4 rfl rfl)
theorem dX1_arrive_120 : decode cX1_arrive 120 = .ok (.iconst 2, 1) := dk_5 (dk_at dksX1_arrive_5 5 rfl rfl)
theorem dX1_arrive_121 : decode cX1_arrive 121 = .ok (.putfield 389, 3) := dk_181 1 133 (dk_at dksX1_arrive_5 6 rfl rfl)
theorem dX1_arrive_124 : decode cX1_arrive 124 = .ok (.aload_n 1, 1) := dk_43 (dk_at dksX1_arrive_5 9 rfl rfl)
theorem dX1_arrive_125 : decode cX1_arrive 125 = .ok (.aload_n 3, 1) := dk_45 (dk_at dksX1_arrive_5 10 rfl rfl)
theorem dX1_arrive_126 : decode cX1_arrive 126 = .ok (.putfield 401, 3) := dk_181 1 145 (dk_at dksX1_arrive_5 11 rfl rfl)
theorem dX1_arrive_129 : decode cX1_arrive 129 = .ok (.aload_n 1, 1) := dk_43 (dk_at dksX1_arrive_5 14 rfl rfl)
theorem dX1_arrive_130 : decode cX1_arrive 130 = .ok (.aload_n 0, 1) := dk_42 (dk_at dksX1_arrive_5 15 rfl rfl)
theorem dX1_arrive_131 : decode cX1_arrive 131 = .ok (.getfield 415, 3) := dk_180 1 159 (dk_at dksX1_arrive_5 16 rfl rfl)
theorem dX1_arrive_134 : decode cX1_arrive 134 = .ok (.putfield 681, 3) := dk_181 2 169 (dk_at dksX1_arrive_5 19 rfl rfl)
theorem dX1_arrive_137 : decode cX1_arrive 137 = .ok (.return_, 1) := dk_177 (dk_at dksX1_arrive_5 22 rfl rfl)
abbrev cX1_close : ByteArray := prog_1_method_95_code
def yX1_close : MethodName := ⟨RX1, "close", "(LCityBrigade$Call;I)V"⟩
def dkwX1_close_0 : List UInt8 := [43, 28, 181, 2, 79, 43, 42, 180, 1, 159, 181, 2, 162, 177]
abbrev dktX1_close_0 : List UInt8 := dkwX1_close_0 ++ []
theorem dksX1_close_0 : cX1_close.data.toList.drop 0 = dktX1_close_0 := by decide +kernel
theorem dX1_close_0 : decode cX1_close 0 = .ok (.aload_n 1, 1) := dk_43 (dk_at dksX1_close_0 0 rfl rfl)
theorem dX1_close_1 : decode cX1_close 1 = .ok (.iload_n 2, 1) := dk_28 (dk_at dksX1_close_0 1 rfl rfl)
theorem dX1_close_2 : decode cX1_close 2 = .ok (.putfield 591, 3) := dk_181 2 79 (dk_at dksX1_close_0 2 rfl rfl)
theorem dX1_close_5 : decode cX1_close 5 = .ok (.aload_n 1, 1) := dk_43 (dk_at dksX1_close_0 5 rfl rfl)
theorem dX1_close_6 : decode cX1_close 6 = .ok (.aload_n 0, 1) := dk_42 (dk_at dksX1_close_0 6 rfl rfl)
theorem dX1_close_7 : decode cX1_close 7 = .ok (.getfield 415, 3) := dk_180 1 159 (dk_at dksX1_close_0 7 rfl rfl)
theorem dX1_close_10 : decode cX1_close 10 = .ok (.putfield 674, 3) := dk_181 2 162 (dk_at dksX1_close_0 10 rfl rfl)
theorem dX1_close_13 : decode cX1_close 13 = .ok (.return_, 1) := dk_177 (dk_at dksX1_close_0 13 rfl rfl)
abbrev cX1_goOver : ByteArray := prog_1_method_97_code
def yX1_goOver : MethodName := ⟨RX1, "goOver", "(LCityBrigade$Crew;)V"⟩
def dkwX1_goOver_1 : List UInt8 := [180, 1, 52, 182, 2, 82, 77, 44, 198, 0, 8, 43, 44, 181, 1, 145, 177]
abbrev dktX1_goOver_1 : List UInt8 := dkwX1_goOver_1 ++ []
def dkwX1_goOver_0 : List UInt8 := [43, 180, 1, 133, 5, 160, 0, 13, 43, 180, 1, 145, 182, 1, 29, 158, 0, 4, 177, 42, 43, 180, 1, 145]
abbrev dktX1_goOver_0 : List UInt8 := dkwX1_goOver_0 ++ dktX1_goOver_1
theorem dksX1_goOver_0 : cX1_goOver.data.toList.drop 0 = dktX1_goOver_0 := by decide +kernel
theorem dksX1_goOver_1 : cX1_goOver.data.toList.drop 24 = dktX1_goOver_1 := dk_seg dksX1_goOver_0 24 rfl rfl
theorem dX1_goOver_0 : decode cX1_goOver 0 = .ok (.aload_n 1, 1) := dk_43 (dk_at dksX1_goOver_0 0 rfl rfl)
theorem dX1_goOver_1 : decode cX1_goOver 1 = .ok (.getfield 389, 3) := dk_180 1 133 (dk_at dksX1_goOver_0 1 rfl rfl)
theorem dX1_goOver_4 : decode cX1_goOver 4 = .ok (.iconst 2, 1) := dk_5 (dk_at dksX1_goOver_0 4 rfl rfl)
theorem dX1_goOver_5 : decode cX1_goOver 5 = .ok (.if_icmp .ne 13, 3) := dk_160 0 13 (dk_at dksX1_goOver_0 5 rfl rfl)
theorem dX1_goOver_8 : decode cX1_goOver 8 = .ok (.aload_n 1, 1) := dk_43 (dk_at dksX1_goOver_0 8 rfl rfl)
theorem dX1_goOver_9 : decode cX1_goOver 9 = .ok (.getfield 401, 3) := dk_180 1 145 (dk_at dksX1_goOver_0 9 rfl rfl)
theorem dX1_goOver_12 : decode cX1_goOver 12 = .ok (.invokevirtual 285, 3) := dk_182 1 29 (dk_at dksX1_goOver_0 12 rfl rfl)
theorem dX1_goOver_15 : decode cX1_goOver 15 = .ok (.ifCond .le 4, 3) := dk_158 0 4 (dk_at dksX1_goOver_0 15 rfl rfl)
theorem dX1_goOver_18 : decode cX1_goOver 18 = .ok (.return_, 1) := dk_177 (dk_at dksX1_goOver_0 18 rfl rfl)
theorem dX1_goOver_19 : decode cX1_goOver 19 = .ok (.aload_n 0, 1) := dk_42 (dk_at dksX1_goOver_0 19 rfl rfl)
theorem dX1_goOver_20 : decode cX1_goOver 20 = .ok (.aload_n 1, 1) := dk_43 (dk_at dksX1_goOver_0 20 rfl rfl)
theorem dX1_goOver_21 : decode cX1_goOver 21 = .ok (.getfield 401, 3) := dk_180 1 145 (dk_at dksX1_goOver_0 21 rfl rfl)
theorem dX1_goOver_24 : decode cX1_goOver 24 = .ok (.getfield 308, 3) := dk_180 1 52 (dk_at dksX1_goOver_1 0 rfl rfl)
theorem dX1_goOver_27 : decode cX1_goOver 27 = .ok (.invokevirtual 594, 3) := dk_182 2 82 (dk_at dksX1_goOver_1 3 rfl rfl)
theorem dX1_goOver_30 : decode cX1_goOver 30 = .ok (.astore_n 2, 1) := dk_77 (dk_at dksX1_goOver_1 6 rfl rfl)
theorem dX1_goOver_31 : decode cX1_goOver 31 = .ok (.aload_n 2, 1) := dk_44 (dk_at dksX1_goOver_1 7 rfl rfl)
theorem dX1_goOver_32 : decode cX1_goOver 32 = .ok (.ifnull 8, 3) := dk_198 0 8 (dk_at dksX1_goOver_1 8 rfl rfl)
theorem dX1_goOver_35 : decode cX1_goOver 35 = .ok (.aload_n 1, 1) := dk_43 (dk_at dksX1_goOver_1 11 rfl rfl)
theorem dX1_goOver_36 : decode cX1_goOver 36 = .ok (.aload_n 2, 1) := dk_44 (dk_at dksX1_goOver_1 12 rfl rfl)
theorem dX1_goOver_37 : decode cX1_goOver 37 = .ok (.putfield 401, 3) := dk_181 1 145 (dk_at dksX1_goOver_1 13 rfl rfl)
theorem dX1_goOver_40 : decode cX1_goOver 40 = .ok (.return_, 1) := dk_177 (dk_at dksX1_goOver_1 16 rfl rfl)
abbrev cX1_work : ByteArray := prog_1_method_102_code
def yX1_work : MethodName := ⟨RX1, "work", "(LCityBrigade$Crew;)V"⟩
def dkwX1_work_9 : List UInt8 := [180, 2, 200, 46, 92, 46, 43, 180, 2, 181, 96, 79, 177]
abbrev dktX1_work_9 : List UInt8 := dkwX1_work_9 ++ []
def dkwX1_work_8 : List UInt8 := [180, 1, 76, 21, 4, 92, 46, 43, 180, 2, 181, 96, 79, 42, 180, 0, 37, 42, 180, 0, 81, 43]
abbrev dktX1_work_8 : List UInt8 := dkwX1_work_8 ++ dktX1_work_9
def dkwX1_work_7 : List UInt8 := [180, 0, 81, 43, 180, 2, 200, 42, 44, 180, 1, 52, 182, 1, 185, 180, 2, 201, 79, 44, 180, 0, 235]
abbrev dktX1_work_7 : List UInt8 := dkwX1_work_7 ++ dktX1_work_8
def dkwX1_work_6 : List UInt8 := [43, 89, 180, 2, 181, 5, 108, 181, 2, 181, 167, 0, 13, 43, 44, 21, 4, 182, 1, 7, 181, 1, 149, 42]
abbrev dktX1_work_6 : List UInt8 := dkwX1_work_6 ++ dktX1_work_7
def dkwX1_work_5 : List UInt8 := [177, 43, 21, 4, 181, 2, 183, 43, 21, 5, 181, 2, 181, 42, 43, 44, 21, 4, 182, 2, 196, 153, 0, 16]
abbrev dktX1_work_5 : List UInt8 := dkwX1_work_5 ++ dktX1_work_6
def dkwX1_work_4 : List UInt8 := [192, 1, 190, 42, 180, 1, 159, 43, 180, 2, 169, 100, 185, 2, 194, 2, 0, 54, 5, 21, 5, 154, 0, 4]
abbrev dktX1_work_4 : List UInt8 := dkwX1_work_4 ++ dktX1_work_5
def dkwX1_work_3 : List UInt8 := [2, 167, 0, 9, 42, 44, 29, 182, 2, 190, 54, 4, 21, 4, 2, 160, 0, 7, 3, 167, 0, 21, 43]
abbrev dktX1_work_3 : List UInt8 := dkwX1_work_3 ++ dktX1_work_4
def dkwX1_work_2 : List UInt8 := [154, 0, 4, 177, 43, 180, 1, 145, 77, 42, 43, 192, 1, 190, 44, 182, 1, 194, 62, 29, 2, 160, 0, 7]
abbrev dktX1_work_2 : List UInt8 := dkwX1_work_2 ++ dktX1_work_3
def dkwX1_work_1 : List UInt8 := [5, 159, 0, 4, 177, 43, 193, 1, 120, 153, 0, 11, 42, 43, 192, 1, 120, 182, 2, 186, 43, 193, 1, 190]
abbrev dktX1_work_1 : List UInt8 := dkwX1_work_1 ++ dktX1_work_2
def dkwX1_work_0 : List UInt8 := [43, 3, 181, 1, 181, 43, 3, 181, 2, 181, 43, 2, 181, 2, 183, 43, 2, 181, 1, 149, 43, 180, 1, 133]
abbrev dktX1_work_0 : List UInt8 := dkwX1_work_0 ++ dktX1_work_1
theorem dksX1_work_0 : cX1_work.data.toList.drop 0 = dktX1_work_0 := by decide +kernel
theorem dksX1_work_1 : cX1_work.data.toList.drop 24 = dktX1_work_1 := dk_seg dksX1_work_0 24 rfl rfl
theorem dksX1_work_2 : cX1_work.data.toList.drop 48 = dktX1_work_2 := dk_seg dksX1_work_1 24 rfl rfl
theorem dksX1_work_3 : cX1_work.data.toList.drop 72 = dktX1_work_3 := dk_seg dksX1_work_2 24 rfl rfl
theorem dksX1_work_4 : cX1_work.data.toList.drop 95 = dktX1_work_4 := dk_seg dksX1_work_3 23 rfl rfl
theorem dksX1_work_5 : cX1_work.data.toList.drop 119 = dktX1_work_5 := dk_seg dksX1_work_4 24 rfl rfl
theorem dksX1_work_6 : cX1_work.data.toList.drop 143 = dktX1_work_6 := dk_seg dksX1_work_5 24 rfl rfl
theorem dksX1_work_7 : cX1_work.data.toList.drop 167 = dktX1_work_7 := dk_seg dksX1_work_6 24 rfl rfl
theorem dksX1_work_8 : cX1_work.data.toList.drop 190 = dktX1_work_8 := dk_seg dksX1_work_7 23 rfl rfl
theorem dksX1_work_9 : cX1_work.data.toList.drop 212 = dktX1_work_9 := dk_seg dksX1_work_8 22 rfl rfl
theorem dX1_work_0 : decode cX1_work 0 = .ok (.aload_n 1, 1) := dk_43 (dk_at dksX1_work_0 0 rfl rfl)
theorem dX1_work_1 : decode cX1_work 1 = .ok (.iconst 0, 1) := dk_3 (dk_at dksX1_work_0 1 rfl rfl)
theorem dX1_work_2 : decode cX1_work 2 = .ok (.putfield 437, 3) := dk_181 1 181 (dk_at dksX1_work_0 2 rfl rfl)
theorem dX1_work_5 : decode cX1_work 5 = .ok (.aload_n 1, 1) := dk_43 (dk_at dksX1_work_0 5 rfl rfl)
theorem dX1_work_6 : decode cX1_work 6 = .ok (.iconst 0, 1) := dk_3 (dk_at dksX1_work_0 6 rfl rfl)
theorem dX1_work_7 : decode cX1_work 7 = .ok (.putfield 693, 3) := dk_181 2 181 (dk_at dksX1_work_0 7 rfl rfl)
theorem dX1_work_10 : decode cX1_work 10 = .ok (.aload_n 1, 1) := dk_43 (dk_at dksX1_work_0 10 rfl rfl)
theorem dX1_work_11 : decode cX1_work 11 = .ok (.iconst (-1), 1) := dk_2 (dk_at dksX1_work_0 11 rfl rfl)
theorem dX1_work_12 : decode cX1_work 12 = .ok (.putfield 695, 3) := dk_181 2 183 (dk_at dksX1_work_0 12 rfl rfl)
theorem dX1_work_15 : decode cX1_work 15 = .ok (.aload_n 1, 1) := dk_43 (dk_at dksX1_work_0 15 rfl rfl)
theorem dX1_work_16 : decode cX1_work 16 = .ok (.iconst (-1), 1) := dk_2 (dk_at dksX1_work_0 16 rfl rfl)
theorem dX1_work_17 : decode cX1_work 17 = .ok (.putfield 405, 3) := dk_181 1 149 (dk_at dksX1_work_0 17 rfl rfl)
theorem dX1_work_20 : decode cX1_work 20 = .ok (.aload_n 1, 1) := dk_43 (dk_at dksX1_work_0 20 rfl rfl)
theorem dX1_work_21 : decode cX1_work 21 = .ok (.getfield 389, 3) := dk_180 1 133 (dk_at dksX1_work_0 21 rfl rfl)
theorem dX1_work_24 : decode cX1_work 24 = .ok (.iconst 2, 1) := dk_5 (dk_at dksX1_work_1 0 rfl rfl)
theorem dX1_work_25 : decode cX1_work 25 = .ok (.if_icmp .eq 4, 3) := dk_159 0 4 (dk_at dksX1_work_1 1 rfl rfl)
theorem dX1_work_28 : decode cX1_work 28 = .ok (.return_, 1) := dk_177 (dk_at dksX1_work_1 4 rfl rfl)
theorem dX1_work_29 : decode cX1_work 29 = .ok (.aload_n 1, 1) := dk_43 (dk_at dksX1_work_1 5 rfl rfl)
theorem dX1_work_30 : decode cX1_work 30 = .ok (.instanceof 376, 3) := dk_193 1 120 (dk_at dksX1_work_1 6 rfl rfl)
theorem dX1_work_33 : decode cX1_work 33 = .ok (.ifCond .eq 11, 3) := dk_153 0 11 (dk_at dksX1_work_1 9 rfl rfl)
theorem dX1_work_36 : decode cX1_work 36 = .ok (.aload_n 0, 1) := dk_42 (dk_at dksX1_work_1 12 rfl rfl)
theorem dX1_work_37 : decode cX1_work 37 = .ok (.aload_n 1, 1) := dk_43 (dk_at dksX1_work_1 13 rfl rfl)
theorem dX1_work_38 : decode cX1_work 38 = .ok (.checkcast 376, 3) := dk_192 1 120 (dk_at dksX1_work_1 14 rfl rfl)
theorem dX1_work_41 : decode cX1_work 41 = .ok (.invokevirtual 698, 3) := dk_182 2 186 (dk_at dksX1_work_1 17 rfl rfl)
theorem dX1_work_44 : decode cX1_work 44 = .ok (.aload_n 1, 1) := dk_43 (dk_at dksX1_work_1 20 rfl rfl)
theorem dX1_work_45 : decode cX1_work 45 = .ok (.instanceof 446, 3) := dk_193 1 190 (dk_at dksX1_work_1 21 rfl rfl)
theorem dX1_work_48 : decode cX1_work 48 = .ok (.ifCond .ne 4, 3) := dk_154 0 4 (dk_at dksX1_work_2 0 rfl rfl)
theorem dX1_work_51 : decode cX1_work 51 = .ok (.return_, 1) := dk_177 (dk_at dksX1_work_2 3 rfl rfl)
theorem dX1_work_52 : decode cX1_work 52 = .ok (.aload_n 1, 1) := dk_43 (dk_at dksX1_work_2 4 rfl rfl)
theorem dX1_work_53 : decode cX1_work 53 = .ok (.getfield 401, 3) := dk_180 1 145 (dk_at dksX1_work_2 5 rfl rfl)
theorem dX1_work_56 : decode cX1_work 56 = .ok (.astore_n 2, 1) := dk_77 (dk_at dksX1_work_2 8 rfl rfl)
theorem dX1_work_57 : decode cX1_work 57 = .ok (.aload_n 0, 1) := dk_42 (dk_at dksX1_work_2 9 rfl rfl)
theorem dX1_work_58 : decode cX1_work 58 = .ok (.aload_n 1, 1) := dk_43 (dk_at dksX1_work_2 10 rfl rfl)
theorem dX1_work_59 : decode cX1_work 59 = .ok (.checkcast 446, 3) := dk_192 1 190 (dk_at dksX1_work_2 11 rfl rfl)
theorem dX1_work_62 : decode cX1_work 62 = .ok (.aload_n 2, 1) := dk_44 (dk_at dksX1_work_2 14 rfl rfl)
theorem dX1_work_63 : decode cX1_work 63 = .ok (.invokevirtual 450, 3) := dk_182 1 194 (dk_at dksX1_work_2 15 rfl rfl)
theorem dX1_work_66 : decode cX1_work 66 = .ok (.istore_n 3, 1) := dk_62 (dk_at dksX1_work_2 18 rfl rfl)
theorem dX1_work_67 : decode cX1_work 67 = .ok (.iload_n 3, 1) := dk_29 (dk_at dksX1_work_2 19 rfl rfl)
theorem dX1_work_68 : decode cX1_work 68 = .ok (.iconst (-1), 1) := dk_2 (dk_at dksX1_work_2 20 rfl rfl)
theorem dX1_work_69 : decode cX1_work 69 = .ok (.if_icmp .ne 7, 3) := dk_160 0 7 (dk_at dksX1_work_2 21 rfl rfl)
theorem dX1_work_72 : decode cX1_work 72 = .ok (.iconst (-1), 1) := dk_2 (dk_at dksX1_work_3 0 rfl rfl)
theorem dX1_work_73 : decode cX1_work 73 = .ok (.goto 9, 3) := dk_167 0 9 (dk_at dksX1_work_3 1 rfl rfl)
theorem dX1_work_76 : decode cX1_work 76 = .ok (.aload_n 0, 1) := dk_42 (dk_at dksX1_work_3 4 rfl rfl)
theorem dX1_work_77 : decode cX1_work 77 = .ok (.aload_n 2, 1) := dk_44 (dk_at dksX1_work_3 5 rfl rfl)
theorem dX1_work_78 : decode cX1_work 78 = .ok (.iload_n 3, 1) := dk_29 (dk_at dksX1_work_3 6 rfl rfl)
theorem dX1_work_79 : decode cX1_work 79 = .ok (.invokevirtual 702, 3) := dk_182 2 190 (dk_at dksX1_work_3 7 rfl rfl)
theorem dX1_work_82 : decode cX1_work 82 = .ok (.istore 4, 2) := dk_54 4 (dk_at dksX1_work_3 10 rfl rfl)
theorem dX1_work_84 : decode cX1_work 84 = .ok (.iload 4, 2) := dk_21 4 (dk_at dksX1_work_3 12 rfl rfl)
theorem dX1_work_86 : decode cX1_work 86 = .ok (.iconst (-1), 1) := dk_2 (dk_at dksX1_work_3 14 rfl rfl)
theorem dX1_work_87 : decode cX1_work 87 = .ok (.if_icmp .ne 7, 3) := dk_160 0 7 (dk_at dksX1_work_3 15 rfl rfl)
theorem dX1_work_90 : decode cX1_work 90 = .ok (.iconst 0, 1) := dk_3 (dk_at dksX1_work_3 18 rfl rfl)
theorem dX1_work_91 : decode cX1_work 91 = .ok (.goto 21, 3) := dk_167 0 21 (dk_at dksX1_work_3 19 rfl rfl)
theorem dX1_work_94 : decode cX1_work 94 = .ok (.aload_n 1, 1) := dk_43 (dk_at dksX1_work_3 22 rfl rfl)
theorem dX1_work_95 : decode cX1_work 95 = .ok (.checkcast 446, 3) := dk_192 1 190 (dk_at dksX1_work_4 0 rfl rfl)
theorem dX1_work_98 : decode cX1_work 98 = .ok (.aload_n 0, 1) := dk_42 (dk_at dksX1_work_4 3 rfl rfl)
theorem dX1_work_99 : decode cX1_work 99 = .ok (.getfield 415, 3) := dk_180 1 159 (dk_at dksX1_work_4 4 rfl rfl)
theorem dX1_work_102 : decode cX1_work 102 = .ok (.aload_n 1, 1) := dk_43 (dk_at dksX1_work_4 7 rfl rfl)
theorem dX1_work_103 : decode cX1_work 103 = .ok (.getfield 681, 3) := dk_180 2 169 (dk_at dksX1_work_4 8 rfl rfl)
theorem dX1_work_106 : decode cX1_work 106 = .ok (.isub, 1) := dk_100 (dk_at dksX1_work_4 11 rfl rfl)
theorem dX1_work_107 : decode cX1_work 107 = .ok (.invokeinterface 706 2, 5) := by decide +kernel
theorem dX1_work_112 : decode cX1_work 112 = .ok (.istore 5, 2) := dk_54 5 (dk_at dksX1_work_4 17 rfl rfl)
theorem dX1_work_114 : decode cX1_work 114 = .ok (.iload 5, 2) := dk_21 5 (dk_at dksX1_work_4 19 rfl rfl)
theorem dX1_work_116 : decode cX1_work 116 = .ok (.ifCond .ne 4, 3) := dk_154 0 4 (dk_at dksX1_work_4 21 rfl rfl)
theorem dX1_work_119 : decode cX1_work 119 = .ok (.return_, 1) := dk_177 (dk_at dksX1_work_5 0 rfl rfl)
theorem dX1_work_120 : decode cX1_work 120 = .ok (.aload_n 1, 1) := dk_43 (dk_at dksX1_work_5 1 rfl rfl)
theorem dX1_work_121 : decode cX1_work 121 = .ok (.iload 4, 2) := dk_21 4 (dk_at dksX1_work_5 2 rfl rfl)
theorem dX1_work_123 : decode cX1_work 123 = .ok (.putfield 695, 3) := dk_181 2 183 (dk_at dksX1_work_5 4 rfl rfl)
theorem dX1_work_126 : decode cX1_work 126 = .ok (.aload_n 1, 1) := dk_43 (dk_at dksX1_work_5 7 rfl rfl)
theorem dX1_work_127 : decode cX1_work 127 = .ok (.iload 5, 2) := dk_21 5 (dk_at dksX1_work_5 8 rfl rfl)
theorem dX1_work_129 : decode cX1_work 129 = .ok (.putfield 693, 3) := dk_181 2 181 (dk_at dksX1_work_5 10 rfl rfl)
theorem dX1_work_132 : decode cX1_work 132 = .ok (.aload_n 0, 1) := dk_42 (dk_at dksX1_work_5 13 rfl rfl)
theorem dX1_work_133 : decode cX1_work 133 = .ok (.aload_n 1, 1) := dk_43 (dk_at dksX1_work_5 14 rfl rfl)
theorem dX1_work_134 : decode cX1_work 134 = .ok (.aload_n 2, 1) := dk_44 (dk_at dksX1_work_5 15 rfl rfl)
theorem dX1_work_135 : decode cX1_work 135 = .ok (.iload 4, 2) := dk_21 4 (dk_at dksX1_work_5 16 rfl rfl)
theorem dX1_work_137 : decode cX1_work 137 = .ok (.invokevirtual 708, 3) := dk_182 2 196 (dk_at dksX1_work_5 18 rfl rfl)
theorem dX1_work_140 : decode cX1_work 140 = .ok (.ifCond .eq 16, 3) := dk_153 0 16 (dk_at dksX1_work_5 21 rfl rfl)
theorem dX1_work_143 : decode cX1_work 143 = .ok (.aload_n 1, 1) := dk_43 (dk_at dksX1_work_6 0 rfl rfl)
theorem dX1_work_144 : decode cX1_work 144 = .ok (.dup, 1) := dk_89 (dk_at dksX1_work_6 1 rfl rfl)
theorem dX1_work_145 : decode cX1_work 145 = .ok (.getfield 693, 3) := dk_180 2 181 (dk_at dksX1_work_6 2 rfl rfl)
theorem dX1_work_148 : decode cX1_work 148 = .ok (.iconst 2, 1) := dk_5 (dk_at dksX1_work_6 5 rfl rfl)
theorem dX1_work_149 : decode cX1_work 149 = .ok (.idiv, 1) := dk_108 (dk_at dksX1_work_6 6 rfl rfl)
theorem dX1_work_150 : decode cX1_work 150 = .ok (.putfield 693, 3) := dk_181 2 181 (dk_at dksX1_work_6 7 rfl rfl)
theorem dX1_work_153 : decode cX1_work 153 = .ok (.goto 13, 3) := dk_167 0 13 (dk_at dksX1_work_6 10 rfl rfl)
theorem dX1_work_156 : decode cX1_work 156 = .ok (.aload_n 1, 1) := dk_43 (dk_at dksX1_work_6 13 rfl rfl)
theorem dX1_work_157 : decode cX1_work 157 = .ok (.aload_n 2, 1) := dk_44 (dk_at dksX1_work_6 14 rfl rfl)
theorem dX1_work_158 : decode cX1_work 158 = .ok (.iload 4, 2) := dk_21 4 (dk_at dksX1_work_6 15 rfl rfl)
theorem dX1_work_160 : decode cX1_work 160 = .ok (.invokevirtual 263, 3) := dk_182 1 7 (dk_at dksX1_work_6 17 rfl rfl)
theorem dX1_work_163 : decode cX1_work 163 = .ok (.putfield 405, 3) := dk_181 1 149 (dk_at dksX1_work_6 20 rfl rfl)
theorem dX1_work_166 : decode cX1_work 166 = .ok (.aload_n 0, 1) := dk_42 (dk_at dksX1_work_6 23 rfl rfl)
theorem dX1_work_167 : decode cX1_work 167 = .ok (.getfield 81, 3) := dk_180 0 81 (dk_at dksX1_work_7 0 rfl rfl)
theorem dX1_work_170 : decode cX1_work 170 = .ok (.aload_n 1, 1) := dk_43 (dk_at dksX1_work_7 3 rfl rfl)
theorem dX1_work_171 : decode cX1_work 171 = .ok (.getfield 712, 3) := dk_180 2 200 (dk_at dksX1_work_7 4 rfl rfl)
theorem dX1_work_174 : decode cX1_work 174 = .ok (.aload_n 0, 1) := dk_42 (dk_at dksX1_work_7 7 rfl rfl)
theorem dX1_work_175 : decode cX1_work 175 = .ok (.aload_n 2, 1) := dk_44 (dk_at dksX1_work_7 8 rfl rfl)
theorem dX1_work_176 : decode cX1_work 176 = .ok (.getfield 308, 3) := dk_180 1 52 (dk_at dksX1_work_7 9 rfl rfl)
theorem dX1_work_179 : decode cX1_work 179 = .ok (.invokevirtual 441, 3) := dk_182 1 185 (dk_at dksX1_work_7 12 rfl rfl)
theorem dX1_work_182 : decode cX1_work 182 = .ok (.getfield 713, 3) := dk_180 2 201 (dk_at dksX1_work_7 15 rfl rfl)
theorem dX1_work_185 : decode cX1_work 185 = .ok (.iastore, 1) := dk_79 (dk_at dksX1_work_7 18 rfl rfl)
theorem dX1_work_186 : decode cX1_work 186 = .ok (.aload_n 2, 1) := dk_44 (dk_at dksX1_work_7 19 rfl rfl)
theorem dX1_work_187 : decode cX1_work 187 = .ok (.getfield 235, 3) := dk_180 0 235 (dk_at dksX1_work_7 20 rfl rfl)
theorem dX1_work_190 : decode cX1_work 190 = .ok (.getfield 332, 3) := dk_180 1 76 (dk_at dksX1_work_8 0 rfl rfl)
theorem dX1_work_193 : decode cX1_work 193 = .ok (.iload 4, 2) := dk_21 4 (dk_at dksX1_work_8 3 rfl rfl)
theorem dX1_work_195 : decode cX1_work 195 = .ok (.dup2, 1) := dk_92 (dk_at dksX1_work_8 5 rfl rfl)
theorem dX1_work_196 : decode cX1_work 196 = .ok (.iaload, 1) := dk_46 (dk_at dksX1_work_8 6 rfl rfl)
theorem dX1_work_197 : decode cX1_work 197 = .ok (.aload_n 1, 1) := dk_43 (dk_at dksX1_work_8 7 rfl rfl)
theorem dX1_work_198 : decode cX1_work 198 = .ok (.getfield 693, 3) := dk_180 2 181 (dk_at dksX1_work_8 8 rfl rfl)
theorem dX1_work_201 : decode cX1_work 201 = .ok (.iadd, 1) := dk_96 (dk_at dksX1_work_8 11 rfl rfl)
theorem dX1_work_202 : decode cX1_work 202 = .ok (.iastore, 1) := dk_79 (dk_at dksX1_work_8 12 rfl rfl)
theorem dX1_work_203 : decode cX1_work 203 = .ok (.aload_n 0, 1) := dk_42 (dk_at dksX1_work_8 13 rfl rfl)
theorem dX1_work_204 : decode cX1_work 204 = .ok (.getfield 37, 3) := dk_180 0 37 (dk_at dksX1_work_8 14 rfl rfl)
theorem dX1_work_207 : decode cX1_work 207 = .ok (.aload_n 0, 1) := dk_42 (dk_at dksX1_work_8 17 rfl rfl)
theorem dX1_work_208 : decode cX1_work 208 = .ok (.getfield 81, 3) := dk_180 0 81 (dk_at dksX1_work_8 18 rfl rfl)
theorem dX1_work_211 : decode cX1_work 211 = .ok (.aload_n 1, 1) := dk_43 (dk_at dksX1_work_8 21 rfl rfl)
theorem dX1_work_212 : decode cX1_work 212 = .ok (.getfield 712, 3) := dk_180 2 200 (dk_at dksX1_work_9 0 rfl rfl)
theorem dX1_work_215 : decode cX1_work 215 = .ok (.iaload, 1) := dk_46 (dk_at dksX1_work_9 3 rfl rfl)
theorem dX1_work_216 : decode cX1_work 216 = .ok (.dup2, 1) := dk_92 (dk_at dksX1_work_9 4 rfl rfl)
theorem dX1_work_217 : decode cX1_work 217 = .ok (.iaload, 1) := dk_46 (dk_at dksX1_work_9 5 rfl rfl)
theorem dX1_work_218 : decode cX1_work 218 = .ok (.aload_n 1, 1) := dk_43 (dk_at dksX1_work_9 6 rfl rfl)
theorem dX1_work_219 : decode cX1_work 219 = .ok (.getfield 693, 3) := dk_180 2 181 (dk_at dksX1_work_9 7 rfl rfl)
theorem dX1_work_222 : decode cX1_work 222 = .ok (.iadd, 1) := dk_96 (dk_at dksX1_work_9 10 rfl rfl)
theorem dX1_work_223 : decode cX1_work 223 = .ok (.iastore, 1) := dk_79 (dk_at dksX1_work_9 11 rfl rfl)
theorem dX1_work_224 : decode cX1_work 224 = .ok (.return_, 1) := dk_177 (dk_at dksX1_work_9 12 rfl rfl)
abbrev cX1_save : ByteArray := prog_1_method_99_code
def yX1_save : MethodName := ⟨RX1, "save", "(LCityBrigade$Ladder;)V"⟩
def dkwX1_save_3 : List UInt8 := [180, 1, 36, 21, 4, 96, 181, 1, 36, 177, 132, 3, 255, 167, 255, 190, 177]
abbrev dktX1_save_3 : List UInt8 := dkwX1_save_3 ++ []
def dkwX1_save_2 : List UInt8 := [44, 180, 0, 254, 29, 46, 184, 1, 86, 54, 4, 44, 180, 0, 254, 29, 92, 46, 21, 4, 100, 79, 44, 89]
abbrev dktX1_save_2 : List UInt8 := dkwX1_save_2 ++ dktX1_save_3
def dkwX1_save_1 : List UInt8 := [180, 0, 235, 180, 0, 239, 29, 51, 154, 0, 50, 44, 180, 0, 254, 29, 46, 154, 0, 6, 167, 0, 38, 5]
abbrev dktX1_save_1 : List UInt8 := dkwX1_save_1 ++ dktX1_save_2
def dkwX1_save_0 : List UInt8 := [43, 180, 2, 170, 77, 43, 180, 2, 171, 44, 180, 0, 209, 184, 1, 86, 4, 100, 62, 29, 155, 0, 68, 44]
abbrev dktX1_save_0 : List UInt8 := dkwX1_save_0 ++ dktX1_save_1
theorem dksX1_save_0 : cX1_save.data.toList.drop 0 = dktX1_save_0 := by decide +kernel
theorem dksX1_save_1 : cX1_save.data.toList.drop 24 = dktX1_save_1 := dk_seg dksX1_save_0 24 rfl rfl
theorem dksX1_save_2 : cX1_save.data.toList.drop 48 = dktX1_save_2 := dk_seg dksX1_save_1 24 rfl rfl
theorem dksX1_save_3 : cX1_save.data.toList.drop 72 = dktX1_save_3 := dk_seg dksX1_save_2 24 rfl rfl
theorem dX1_save_0 : decode cX1_save 0 = .ok (.aload_n 1, 1) := dk_43 (dk_at dksX1_save_0 0 rfl rfl)
theorem dX1_save_1 : decode cX1_save 1 = .ok (.getfield 682, 3) := dk_180 2 170 (dk_at dksX1_save_0 1 rfl rfl)
theorem dX1_save_4 : decode cX1_save 4 = .ok (.astore_n 2, 1) := dk_77 (dk_at dksX1_save_0 4 rfl rfl)
theorem dX1_save_5 : decode cX1_save 5 = .ok (.aload_n 1, 1) := dk_43 (dk_at dksX1_save_0 5 rfl rfl)
theorem dX1_save_6 : decode cX1_save 6 = .ok (.getfield 683, 3) := dk_180 2 171 (dk_at dksX1_save_0 6 rfl rfl)
theorem dX1_save_9 : decode cX1_save 9 = .ok (.aload_n 2, 1) := dk_44 (dk_at dksX1_save_0 9 rfl rfl)
theorem dX1_save_10 : decode cX1_save 10 = .ok (.getfield 209, 3) := dk_180 0 209 (dk_at dksX1_save_0 10 rfl rfl)
theorem dX1_save_13 : decode cX1_save 13 = .ok (.invokestatic 342, 3) := dk_184 1 86 (dk_at dksX1_save_0 13 rfl rfl)
theorem dX1_save_16 : decode cX1_save 16 = .ok (.iconst 1, 1) := dk_4 (dk_at dksX1_save_0 16 rfl rfl)
theorem dX1_save_17 : decode cX1_save 17 = .ok (.isub, 1) := dk_100 (dk_at dksX1_save_0 17 rfl rfl)
theorem dX1_save_18 : decode cX1_save 18 = .ok (.istore_n 3, 1) := dk_62 (dk_at dksX1_save_0 18 rfl rfl)
theorem dX1_save_19 : decode cX1_save 19 = .ok (.iload_n 3, 1) := dk_29 (dk_at dksX1_save_0 19 rfl rfl)
theorem dX1_save_20 : decode cX1_save 20 = .ok (.ifCond .lt 68, 3) := dk_155 0 68 (dk_at dksX1_save_0 20 rfl rfl)
theorem dX1_save_23 : decode cX1_save 23 = .ok (.aload_n 2, 1) := dk_44 (dk_at dksX1_save_0 23 rfl rfl)
theorem dX1_save_24 : decode cX1_save 24 = .ok (.getfield 235, 3) := dk_180 0 235 (dk_at dksX1_save_1 0 rfl rfl)
theorem dX1_save_27 : decode cX1_save 27 = .ok (.getfield 239, 3) := dk_180 0 239 (dk_at dksX1_save_1 3 rfl rfl)
theorem dX1_save_30 : decode cX1_save 30 = .ok (.iload_n 3, 1) := dk_29 (dk_at dksX1_save_1 6 rfl rfl)
theorem dX1_save_31 : decode cX1_save 31 = .ok (.baload, 1) := dk_51 (dk_at dksX1_save_1 7 rfl rfl)
theorem dX1_save_32 : decode cX1_save 32 = .ok (.ifCond .ne 50, 3) := dk_154 0 50 (dk_at dksX1_save_1 8 rfl rfl)
theorem dX1_save_35 : decode cX1_save 35 = .ok (.aload_n 2, 1) := dk_44 (dk_at dksX1_save_1 11 rfl rfl)
theorem dX1_save_36 : decode cX1_save 36 = .ok (.getfield 254, 3) := dk_180 0 254 (dk_at dksX1_save_1 12 rfl rfl)
theorem dX1_save_39 : decode cX1_save 39 = .ok (.iload_n 3, 1) := dk_29 (dk_at dksX1_save_1 15 rfl rfl)
theorem dX1_save_40 : decode cX1_save 40 = .ok (.iaload, 1) := dk_46 (dk_at dksX1_save_1 16 rfl rfl)
theorem dX1_save_41 : decode cX1_save 41 = .ok (.ifCond .ne 6, 3) := dk_154 0 6 (dk_at dksX1_save_1 17 rfl rfl)
theorem dX1_save_44 : decode cX1_save 44 = .ok (.goto 38, 3) := dk_167 0 38 (dk_at dksX1_save_1 20 rfl rfl)
theorem dX1_save_47 : decode cX1_save 47 = .ok (.iconst 2, 1) := dk_5 (dk_at dksX1_save_1 23 rfl rfl)
theorem dX1_save_48 : decode cX1_save 48 = .ok (.aload_n 2, 1) := dk_44 (dk_at dksX1_save_2 0 rfl rfl)
theorem dX1_save_49 : decode cX1_save 49 = .ok (.getfield 254, 3) := dk_180 0 254 (dk_at dksX1_save_2 1 rfl rfl)
theorem dX1_save_52 : decode cX1_save 52 = .ok (.iload_n 3, 1) := dk_29 (dk_at dksX1_save_2 4 rfl rfl)
theorem dX1_save_53 : decode cX1_save 53 = .ok (.iaload, 1) := dk_46 (dk_at dksX1_save_2 5 rfl rfl)
theorem dX1_save_54 : decode cX1_save 54 = .ok (.invokestatic 342, 3) := dk_184 1 86 (dk_at dksX1_save_2 6 rfl rfl)
theorem dX1_save_57 : decode cX1_save 57 = .ok (.istore 4, 2) := dk_54 4 (dk_at dksX1_save_2 9 rfl rfl)
theorem dX1_save_59 : decode cX1_save 59 = .ok (.aload_n 2, 1) := dk_44 (dk_at dksX1_save_2 11 rfl rfl)
theorem dX1_save_60 : decode cX1_save 60 = .ok (.getfield 254, 3) := dk_180 0 254 (dk_at dksX1_save_2 12 rfl rfl)
theorem dX1_save_63 : decode cX1_save 63 = .ok (.iload_n 3, 1) := dk_29 (dk_at dksX1_save_2 15 rfl rfl)
theorem dX1_save_64 : decode cX1_save 64 = .ok (.dup2, 1) := dk_92 (dk_at dksX1_save_2 16 rfl rfl)
theorem dX1_save_65 : decode cX1_save 65 = .ok (.iaload, 1) := dk_46 (dk_at dksX1_save_2 17 rfl rfl)
theorem dX1_save_66 : decode cX1_save 66 = .ok (.iload 4, 2) := dk_21 4 (dk_at dksX1_save_2 18 rfl rfl)
theorem dX1_save_68 : decode cX1_save 68 = .ok (.isub, 1) := dk_100 (dk_at dksX1_save_2 20 rfl rfl)
theorem dX1_save_69 : decode cX1_save 69 = .ok (.iastore, 1) := dk_79 (dk_at dksX1_save_2 21 rfl rfl)
theorem dX1_save_70 : decode cX1_save 70 = .ok (.aload_n 2, 1) := dk_44 (dk_at dksX1_save_2 22 rfl rfl)
theorem dX1_save_71 : decode cX1_save 71 = .ok (.dup, 1) := dk_89 (dk_at dksX1_save_2 23 rfl rfl)
theorem dX1_save_72 : decode cX1_save 72 = .ok (.getfield 292, 3) := dk_180 1 36 (dk_at dksX1_save_3 0 rfl rfl)
theorem dX1_save_75 : decode cX1_save 75 = .ok (.iload 4, 2) := dk_21 4 (dk_at dksX1_save_3 3 rfl rfl)
theorem dX1_save_77 : decode cX1_save 77 = .ok (.iadd, 1) := dk_96 (dk_at dksX1_save_3 5 rfl rfl)
theorem dX1_save_78 : decode cX1_save 78 = .ok (.putfield 292, 3) := dk_181 1 36 (dk_at dksX1_save_3 6 rfl rfl)
theorem dX1_save_81 : decode cX1_save 81 = .ok (.return_, 1) := dk_177 (dk_at dksX1_save_3 9 rfl rfl)
theorem dX1_save_82 : decode cX1_save 82 = .ok (.iinc 3 (-1), 3) := dk_132 3 255 (dk_at dksX1_save_3 10 rfl rfl)
theorem dX1_save_85 : decode cX1_save 85 = .ok (.goto (-66), 3) := dk_167 255 190 (dk_at dksX1_save_3 13 rfl rfl)
theorem dX1_save_88 : decode cX1_save 88 = .ok (.return_, 1) := dk_177 (dk_at dksX1_save_3 16 rfl rfl)
abbrev cX1_roomFor : ByteArray := prog_1_method_100_code
def yX1_roomFor : MethodName := ⟨RX1, "roomFor", "(LCityBrigade$House;I)I"⟩
def dkwX1_roomFor_4 : List UInt8 := [163, 0, 6, 167, 0, 11, 21, 6, 54, 4, 21, 7, 54, 5, 132, 6, 1, 167, 255, 161, 21, 4, 172]
abbrev dktX1_roomFor_4 : List UInt8 := dkwX1_roomFor_4 ++ []
def dkwX1_roomFor_3 : List UInt8 := [21, 6, 46, 7, 108, 100, 167, 0, 4, 3, 54, 7, 21, 4, 2, 159, 0, 13, 21, 7, 21, 5]
abbrev dktX1_roomFor_3 : List UInt8 := dkwX1_roomFor_3 ++ dktX1_roomFor_4
def dkwX1_roomFor_2 : List UInt8 := [167, 0, 60, 29, 153, 0, 29, 43, 180, 0, 235, 180, 1, 10, 21, 6, 46, 43, 180, 0, 235, 180, 1, 76]
abbrev dktX1_roomFor_2 : List UInt8 := dkwX1_roomFor_2 ++ dktX1_roomFor_3
def dkwX1_roomFor_1 : List UInt8 := [43, 21, 6, 182, 1, 7, 28, 163, 0, 82, 43, 43, 180, 0, 235, 21, 6, 182, 1, 18, 154, 0, 6]
abbrev dktX1_roomFor_1 : List UInt8 := dkwX1_roomFor_1 ++ dktX1_roomFor_2
def dkwX1_roomFor_0 : List UInt8 := [42, 43, 182, 2, 174, 62, 2, 54, 4, 3, 54, 5, 3, 54, 6, 21, 6, 43, 182, 0, 205, 162, 0, 92]
abbrev dktX1_roomFor_0 : List UInt8 := dkwX1_roomFor_0 ++ dktX1_roomFor_1
theorem dksX1_roomFor_0 : cX1_roomFor.data.toList.drop 0 = dktX1_roomFor_0 := by decide +kernel
theorem dksX1_roomFor_1 : cX1_roomFor.data.toList.drop 24 = dktX1_roomFor_1 := dk_seg dksX1_roomFor_0 24 rfl rfl
theorem dksX1_roomFor_2 : cX1_roomFor.data.toList.drop 47 = dktX1_roomFor_2 := dk_seg dksX1_roomFor_1 23 rfl rfl
theorem dksX1_roomFor_3 : cX1_roomFor.data.toList.drop 71 = dktX1_roomFor_3 := dk_seg dksX1_roomFor_2 24 rfl rfl
theorem dksX1_roomFor_4 : cX1_roomFor.data.toList.drop 93 = dktX1_roomFor_4 := dk_seg dksX1_roomFor_3 22 rfl rfl
theorem dX1_roomFor_0 : decode cX1_roomFor 0 = .ok (.aload_n 0, 1) := dk_42 (dk_at dksX1_roomFor_0 0 rfl rfl)
theorem dX1_roomFor_1 : decode cX1_roomFor 1 = .ok (.aload_n 1, 1) := dk_43 (dk_at dksX1_roomFor_0 1 rfl rfl)
theorem dX1_roomFor_2 : decode cX1_roomFor 2 = .ok (.invokevirtual 686, 3) := dk_182 2 174 (dk_at dksX1_roomFor_0 2 rfl rfl)
theorem dX1_roomFor_5 : decode cX1_roomFor 5 = .ok (.istore_n 3, 1) := dk_62 (dk_at dksX1_roomFor_0 5 rfl rfl)
theorem dX1_roomFor_6 : decode cX1_roomFor 6 = .ok (.iconst (-1), 1) := dk_2 (dk_at dksX1_roomFor_0 6 rfl rfl)
theorem dX1_roomFor_7 : decode cX1_roomFor 7 = .ok (.istore 4, 2) := dk_54 4 (dk_at dksX1_roomFor_0 7 rfl rfl)
theorem dX1_roomFor_9 : decode cX1_roomFor 9 = .ok (.iconst 0, 1) := dk_3 (dk_at dksX1_roomFor_0 9 rfl rfl)
theorem dX1_roomFor_10 : decode cX1_roomFor 10 = .ok (.istore 5, 2) := dk_54 5 (dk_at dksX1_roomFor_0 10 rfl rfl)
theorem dX1_roomFor_12 : decode cX1_roomFor 12 = .ok (.iconst 0, 1) := dk_3 (dk_at dksX1_roomFor_0 12 rfl rfl)
theorem dX1_roomFor_13 : decode cX1_roomFor 13 = .ok (.istore 6, 2) := dk_54 6 (dk_at dksX1_roomFor_0 13 rfl rfl)
theorem dX1_roomFor_15 : decode cX1_roomFor 15 = .ok (.iload 6, 2) := dk_21 6 (dk_at dksX1_roomFor_0 15 rfl rfl)
theorem dX1_roomFor_17 : decode cX1_roomFor 17 = .ok (.aload_n 1, 1) := dk_43 (dk_at dksX1_roomFor_0 17 rfl rfl)
theorem dX1_roomFor_18 : decode cX1_roomFor 18 = .ok (.invokevirtual 205, 3) := dk_182 0 205 (dk_at dksX1_roomFor_0 18 rfl rfl)
theorem dX1_roomFor_21 : decode cX1_roomFor 21 = .ok (.if_icmp .ge 92, 3) := dk_162 0 92 (dk_at dksX1_roomFor_0 21 rfl rfl)
theorem dX1_roomFor_24 : decode cX1_roomFor 24 = .ok (.aload_n 1, 1) := dk_43 (dk_at dksX1_roomFor_1 0 rfl rfl)
theorem dX1_roomFor_25 : decode cX1_roomFor 25 = .ok (.iload 6, 2) := dk_21 6 (dk_at dksX1_roomFor_1 1 rfl rfl)
theorem dX1_roomFor_27 : decode cX1_roomFor 27 = .ok (.invokevirtual 263, 3) := dk_182 1 7 (dk_at dksX1_roomFor_1 3 rfl rfl)
theorem dX1_roomFor_30 : decode cX1_roomFor 30 = .ok (.iload_n 2, 1) := dk_28 (dk_at dksX1_roomFor_1 6 rfl rfl)
theorem dX1_roomFor_31 : decode cX1_roomFor 31 = .ok (.if_icmp .gt 82, 3) := dk_163 0 82 (dk_at dksX1_roomFor_1 7 rfl rfl)
theorem dX1_roomFor_34 : decode cX1_roomFor 34 = .ok (.aload_n 1, 1) := dk_43 (dk_at dksX1_roomFor_1 10 rfl rfl)
theorem dX1_roomFor_35 : decode cX1_roomFor 35 = .ok (.aload_n 1, 1) := dk_43 (dk_at dksX1_roomFor_1 11 rfl rfl)
theorem dX1_roomFor_36 : decode cX1_roomFor 36 = .ok (.getfield 235, 3) := dk_180 0 235 (dk_at dksX1_roomFor_1 12 rfl rfl)
theorem dX1_roomFor_39 : decode cX1_roomFor 39 = .ok (.iload 6, 2) := dk_21 6 (dk_at dksX1_roomFor_1 15 rfl rfl)
theorem dX1_roomFor_41 : decode cX1_roomFor 41 = .ok (.invokevirtual 274, 3) := dk_182 1 18 (dk_at dksX1_roomFor_1 17 rfl rfl)
theorem dX1_roomFor_44 : decode cX1_roomFor 44 = .ok (.ifCond .ne 6, 3) := dk_154 0 6 (dk_at dksX1_roomFor_1 20 rfl rfl)
theorem dX1_roomFor_47 : decode cX1_roomFor 47 = .ok (.goto 60, 3) := dk_167 0 60 (dk_at dksX1_roomFor_2 0 rfl rfl)
theorem dX1_roomFor_50 : decode cX1_roomFor 50 = .ok (.iload_n 3, 1) := dk_29 (dk_at dksX1_roomFor_2 3 rfl rfl)
theorem dX1_roomFor_51 : decode cX1_roomFor 51 = .ok (.ifCond .eq 29, 3) := dk_153 0 29 (dk_at dksX1_roomFor_2 4 rfl rfl)
theorem dX1_roomFor_54 : decode cX1_roomFor 54 = .ok (.aload_n 1, 1) := dk_43 (dk_at dksX1_roomFor_2 7 rfl rfl)
theorem dX1_roomFor_55 : decode cX1_roomFor 55 = .ok (.getfield 235, 3) := dk_180 0 235 (dk_at dksX1_roomFor_2 8 rfl rfl)
theorem dX1_roomFor_58 : decode cX1_roomFor 58 = .ok (.getfield 266, 3) := dk_180 1 10 (dk_at dksX1_roomFor_2 11 rfl rfl)
theorem dX1_roomFor_61 : decode cX1_roomFor 61 = .ok (.iload 6, 2) := dk_21 6 (dk_at dksX1_roomFor_2 14 rfl rfl)
theorem dX1_roomFor_63 : decode cX1_roomFor 63 = .ok (.iaload, 1) := dk_46 (dk_at dksX1_roomFor_2 16 rfl rfl)
theorem dX1_roomFor_64 : decode cX1_roomFor 64 = .ok (.aload_n 1, 1) := dk_43 (dk_at dksX1_roomFor_2 17 rfl rfl)
theorem dX1_roomFor_65 : decode cX1_roomFor 65 = .ok (.getfield 235, 3) := dk_180 0 235 (dk_at dksX1_roomFor_2 18 rfl rfl)
theorem dX1_roomFor_68 : decode cX1_roomFor 68 = .ok (.getfield 332, 3) := dk_180 1 76 (dk_at dksX1_roomFor_2 21 rfl rfl)
theorem dX1_roomFor_71 : decode cX1_roomFor 71 = .ok (.iload 6, 2) := dk_21 6 (dk_at dksX1_roomFor_3 0 rfl rfl)
theorem dX1_roomFor_73 : decode cX1_roomFor 73 = .ok (.iaload, 1) := dk_46 (dk_at dksX1_roomFor_3 2 rfl rfl)
theorem dX1_roomFor_74 : decode cX1_roomFor 74 = .ok (.iconst 4, 1) := dk_7 (dk_at dksX1_roomFor_3 3 rfl rfl)
theorem dX1_roomFor_75 : decode cX1_roomFor 75 = .ok (.idiv, 1) := dk_108 (dk_at dksX1_roomFor_3 4 rfl rfl)
theorem dX1_roomFor_76 : decode cX1_roomFor 76 = .ok (.isub, 1) := dk_100 (dk_at dksX1_roomFor_3 5 rfl rfl)
theorem dX1_roomFor_77 : decode cX1_roomFor 77 = .ok (.goto 4, 3) := dk_167 0 4 (dk_at dksX1_roomFor_3 6 rfl rfl)
theorem dX1_roomFor_80 : decode cX1_roomFor 80 = .ok (.iconst 0, 1) := dk_3 (dk_at dksX1_roomFor_3 9 rfl rfl)
theorem dX1_roomFor_81 : decode cX1_roomFor 81 = .ok (.istore 7, 2) := dk_54 7 (dk_at dksX1_roomFor_3 10 rfl rfl)
theorem dX1_roomFor_83 : decode cX1_roomFor 83 = .ok (.iload 4, 2) := dk_21 4 (dk_at dksX1_roomFor_3 12 rfl rfl)
theorem dX1_roomFor_85 : decode cX1_roomFor 85 = .ok (.iconst (-1), 1) := dk_2 (dk_at dksX1_roomFor_3 14 rfl rfl)
theorem dX1_roomFor_86 : decode cX1_roomFor 86 = .ok (.if_icmp .eq 13, 3) := dk_159 0 13 (dk_at dksX1_roomFor_3 15 rfl rfl)
theorem dX1_roomFor_89 : decode cX1_roomFor 89 = .ok (.iload 7, 2) := dk_21 7 (dk_at dksX1_roomFor_3 18 rfl rfl)
theorem dX1_roomFor_91 : decode cX1_roomFor 91 = .ok (.iload 5, 2) := dk_21 5 (dk_at dksX1_roomFor_3 20 rfl rfl)
theorem dX1_roomFor_93 : decode cX1_roomFor 93 = .ok (.if_icmp .gt 6, 3) := dk_163 0 6 (dk_at dksX1_roomFor_4 0 rfl rfl)
theorem dX1_roomFor_96 : decode cX1_roomFor 96 = .ok (.goto 11, 3) := dk_167 0 11 (dk_at dksX1_roomFor_4 3 rfl rfl)
theorem dX1_roomFor_99 : decode cX1_roomFor 99 = .ok (.iload 6, 2) := dk_21 6 (dk_at dksX1_roomFor_4 6 rfl rfl)
theorem dX1_roomFor_101 : decode cX1_roomFor 101 = .ok (.istore 4, 2) := dk_54 4 (dk_at dksX1_roomFor_4 8 rfl rfl)
theorem dX1_roomFor_103 : decode cX1_roomFor 103 = .ok (.iload 7, 2) := dk_21 7 (dk_at dksX1_roomFor_4 10 rfl rfl)
theorem dX1_roomFor_105 : decode cX1_roomFor 105 = .ok (.istore 5, 2) := dk_54 5 (dk_at dksX1_roomFor_4 12 rfl rfl)
theorem dX1_roomFor_107 : decode cX1_roomFor 107 = .ok (.iinc 6 1, 3) := dk_132 6 1 (dk_at dksX1_roomFor_4 14 rfl rfl)
theorem dX1_roomFor_110 : decode cX1_roomFor 110 = .ok (.goto (-95), 3) := dk_167 255 161 (dk_at dksX1_roomFor_4 17 rfl rfl)
theorem dX1_roomFor_113 : decode cX1_roomFor 113 = .ok (.iload 4, 2) := dk_21 4 (dk_at dksX1_roomFor_4 20 rfl rfl)
theorem dX1_roomFor_115 : decode cX1_roomFor 115 = .ok (.ireturn, 1) := dk_172 (dk_at dksX1_roomFor_4 22 rfl rfl)
abbrev cX1_hasChief : ByteArray := prog_1_method_98_code
def yX1_hasChief : MethodName := ⟨RX1, "hasChief", "(LCityBrigade$House;)Z"⟩
def dkwX1_hasChief_2 : List UInt8 := [4, 172, 132, 2, 1, 167, 255, 205, 3, 172]
abbrev dktX1_hasChief_2 : List UInt8 := dkwX1_hasChief_2 ++ []
def dkwX1_hasChief_1 : List UInt8 := [180, 0, 48, 28, 50, 180, 1, 145, 43, 166, 0, 17, 42, 180, 0, 48, 28, 50, 193, 1, 123, 153, 0, 5]
abbrev dktX1_hasChief_1 : List UInt8 := dkwX1_hasChief_1 ++ dktX1_hasChief_2
def dkwX1_hasChief_0 : List UInt8 := [3, 61, 28, 42, 180, 1, 109, 162, 0, 49, 42, 180, 0, 48, 28, 50, 180, 1, 133, 5, 160, 0, 30, 42]
abbrev dktX1_hasChief_0 : List UInt8 := dkwX1_hasChief_0 ++ dktX1_hasChief_1
theorem dksX1_hasChief_0 : cX1_hasChief.data.toList.drop 0 = dktX1_hasChief_0 := by decide +kernel
theorem dksX1_hasChief_1 : cX1_hasChief.data.toList.drop 24 = dktX1_hasChief_1 := dk_seg dksX1_hasChief_0 24 rfl rfl
theorem dksX1_hasChief_2 : cX1_hasChief.data.toList.drop 48 = dktX1_hasChief_2 := dk_seg dksX1_hasChief_1 24 rfl rfl
theorem dX1_hasChief_0 : decode cX1_hasChief 0 = .ok (.iconst 0, 1) := dk_3 (dk_at dksX1_hasChief_0 0 rfl rfl)
theorem dX1_hasChief_1 : decode cX1_hasChief 1 = .ok (.istore_n 2, 1) := dk_61 (dk_at dksX1_hasChief_0 1 rfl rfl)
theorem dX1_hasChief_2 : decode cX1_hasChief 2 = .ok (.iload_n 2, 1) := dk_28 (dk_at dksX1_hasChief_0 2 rfl rfl)
theorem dX1_hasChief_3 : decode cX1_hasChief 3 = .ok (.aload_n 0, 1) := dk_42 (dk_at dksX1_hasChief_0 3 rfl rfl)
theorem dX1_hasChief_4 : decode cX1_hasChief 4 = .ok (.getfield 365, 3) := dk_180 1 109 (dk_at dksX1_hasChief_0 4 rfl rfl)
theorem dX1_hasChief_7 : decode cX1_hasChief 7 = .ok (.if_icmp .ge 49, 3) := dk_162 0 49 (dk_at dksX1_hasChief_0 7 rfl rfl)
theorem dX1_hasChief_10 : decode cX1_hasChief 10 = .ok (.aload_n 0, 1) := dk_42 (dk_at dksX1_hasChief_0 10 rfl rfl)
theorem dX1_hasChief_11 : decode cX1_hasChief 11 = .ok (.getfield 48, 3) := dk_180 0 48 (dk_at dksX1_hasChief_0 11 rfl rfl)
theorem dX1_hasChief_14 : decode cX1_hasChief 14 = .ok (.iload_n 2, 1) := dk_28 (dk_at dksX1_hasChief_0 14 rfl rfl)
theorem dX1_hasChief_15 : decode cX1_hasChief 15 = .ok (.aaload, 1) := dk_50 (dk_at dksX1_hasChief_0 15 rfl rfl)
theorem dX1_hasChief_16 : decode cX1_hasChief 16 = .ok (.getfield 389, 3) := dk_180 1 133 (dk_at dksX1_hasChief_0 16 rfl rfl)
theorem dX1_hasChief_19 : decode cX1_hasChief 19 = .ok (.iconst 2, 1) := dk_5 (dk_at dksX1_hasChief_0 19 rfl rfl)
theorem dX1_hasChief_20 : decode cX1_hasChief 20 = .ok (.if_icmp .ne 30, 3) := dk_160 0 30 (dk_at dksX1_hasChief_0 20 rfl rfl)
theorem dX1_hasChief_23 : decode cX1_hasChief 23 = .ok (.aload_n 0, 1) := dk_42 (dk_at dksX1_hasChief_0 23 rfl rfl)
theorem dX1_hasChief_24 : decode cX1_hasChief 24 = .ok (.getfield 48, 3) := dk_180 0 48 (dk_at dksX1_hasChief_1 0 rfl rfl)
theorem dX1_hasChief_27 : decode cX1_hasChief 27 = .ok (.iload_n 2, 1) := dk_28 (dk_at dksX1_hasChief_1 3 rfl rfl)
theorem dX1_hasChief_28 : decode cX1_hasChief 28 = .ok (.aaload, 1) := dk_50 (dk_at dksX1_hasChief_1 4 rfl rfl)
theorem dX1_hasChief_29 : decode cX1_hasChief 29 = .ok (.getfield 401, 3) := dk_180 1 145 (dk_at dksX1_hasChief_1 5 rfl rfl)
theorem dX1_hasChief_32 : decode cX1_hasChief 32 = .ok (.aload_n 1, 1) := dk_43 (dk_at dksX1_hasChief_1 8 rfl rfl)
theorem dX1_hasChief_33 : decode cX1_hasChief 33 = .ok (.if_acmp .ne 17, 3) := dk_166 0 17 (dk_at dksX1_hasChief_1 9 rfl rfl)
theorem dX1_hasChief_36 : decode cX1_hasChief 36 = .ok (.aload_n 0, 1) := dk_42 (dk_at dksX1_hasChief_1 12 rfl rfl)
theorem dX1_hasChief_37 : decode cX1_hasChief 37 = .ok (.getfield 48, 3) := dk_180 0 48 (dk_at dksX1_hasChief_1 13 rfl rfl)
theorem dX1_hasChief_40 : decode cX1_hasChief 40 = .ok (.iload_n 2, 1) := dk_28 (dk_at dksX1_hasChief_1 16 rfl rfl)
theorem dX1_hasChief_41 : decode cX1_hasChief 41 = .ok (.aaload, 1) := dk_50 (dk_at dksX1_hasChief_1 17 rfl rfl)
theorem dX1_hasChief_42 : decode cX1_hasChief 42 = .ok (.instanceof 379, 3) := dk_193 1 123 (dk_at dksX1_hasChief_1 18 rfl rfl)
theorem dX1_hasChief_45 : decode cX1_hasChief 45 = .ok (.ifCond .eq 5, 3) := dk_153 0 5 (dk_at dksX1_hasChief_1 21 rfl rfl)
theorem dX1_hasChief_48 : decode cX1_hasChief 48 = .ok (.iconst 1, 1) := dk_4 (dk_at dksX1_hasChief_2 0 rfl rfl)
theorem dX1_hasChief_49 : decode cX1_hasChief 49 = .ok (.ireturn, 1) := dk_172 (dk_at dksX1_hasChief_2 1 rfl rfl)
theorem dX1_hasChief_50 : decode cX1_hasChief 50 = .ok (.iinc 2 1, 3) := dk_132 2 1 (dk_at dksX1_hasChief_2 2 rfl rfl)
theorem dX1_hasChief_53 : decode cX1_hasChief 53 = .ok (.goto (-51), 3) := dk_167 255 205 (dk_at dksX1_hasChief_2 5 rfl rfl)
theorem dX1_hasChief_56 : decode cX1_hasChief 56 = .ok (.iconst 0, 1) := dk_3 (dk_at dksX1_hasChief_2 8 rfl rfl)
theorem dX1_hasChief_57 : decode cX1_hasChief 57 = .ok (.ireturn, 1) := dk_172 (dk_at dksX1_hasChief_2 9 rfl rfl)
abbrev cX1_leaves : ByteArray := prog_1_method_101_code
def yX1_leaves : MethodName := ⟨RX1, "leaves", "(LCityBrigade$Crew;LCityBrigade$House;I)Z"⟩
def dkwX1_leaves_4 : List UInt8 := [180, 0, 52, 16, 103, 44, 182, 1, 29, 79, 42, 180, 2, 71, 42, 180, 0, 52, 182, 2, 112, 172]
abbrev dktX1_leaves_4 : List UInt8 := dkwX1_leaves_4 ++ []
def dkwX1_leaves_3 : List UInt8 := [44, 180, 0, 235, 180, 1, 10, 29, 46, 79, 42, 180, 0, 52, 16, 109, 43, 180, 2, 178, 79, 42]
abbrev dktX1_leaves_3 : List UInt8 := dkwX1_leaves_3 ++ dktX1_leaves_4
def dkwX1_leaves_2 : List UInt8 := [108, 79, 42, 180, 0, 52, 16, 101, 42, 180, 1, 159, 43, 180, 2, 169, 100, 79, 42, 180, 0, 52, 16, 116]
abbrev dktX1_leaves_2 : List UInt8 := dkwX1_leaves_2 ++ dktX1_leaves_3
def dkwX1_leaves_1 : List UInt8 := [79, 42, 180, 0, 52, 16, 98, 16, 100, 44, 44, 180, 0, 235, 21, 4, 182, 1, 25, 104, 44, 182, 1, 93]
abbrev dktX1_leaves_1 : List UInt8 := dkwX1_leaves_1 ++ dktX1_leaves_2
def dkwX1_leaves_0 : List UInt8 := [42, 180, 2, 71, 199, 0, 5, 3, 172, 44, 29, 182, 1, 7, 54, 4, 42, 180, 0, 52, 16, 118, 21, 4]
abbrev dktX1_leaves_0 : List UInt8 := dkwX1_leaves_0 ++ dktX1_leaves_1
theorem dksX1_leaves_0 : cX1_leaves.data.toList.drop 0 = dktX1_leaves_0 := by decide +kernel
theorem dksX1_leaves_1 : cX1_leaves.data.toList.drop 24 = dktX1_leaves_1 := dk_seg dksX1_leaves_0 24 rfl rfl
theorem dksX1_leaves_2 : cX1_leaves.data.toList.drop 48 = dktX1_leaves_2 := dk_seg dksX1_leaves_1 24 rfl rfl
theorem dksX1_leaves_3 : cX1_leaves.data.toList.drop 72 = dktX1_leaves_3 := dk_seg dksX1_leaves_2 24 rfl rfl
theorem dksX1_leaves_4 : cX1_leaves.data.toList.drop 94 = dktX1_leaves_4 := dk_seg dksX1_leaves_3 22 rfl rfl
theorem dX1_leaves_0 : decode cX1_leaves 0 = .ok (.aload_n 0, 1) := dk_42 (dk_at dksX1_leaves_0 0 rfl rfl)
theorem dX1_leaves_1 : decode cX1_leaves 1 = .ok (.getfield 583, 3) := dk_180 2 71 (dk_at dksX1_leaves_0 1 rfl rfl)
theorem dX1_leaves_4 : decode cX1_leaves 4 = .ok (.ifnonnull 5, 3) := dk_199 0 5 (dk_at dksX1_leaves_0 4 rfl rfl)
theorem dX1_leaves_7 : decode cX1_leaves 7 = .ok (.iconst 0, 1) := dk_3 (dk_at dksX1_leaves_0 7 rfl rfl)
theorem dX1_leaves_8 : decode cX1_leaves 8 = .ok (.ireturn, 1) := dk_172 (dk_at dksX1_leaves_0 8 rfl rfl)
theorem dX1_leaves_9 : decode cX1_leaves 9 = .ok (.aload_n 2, 1) := dk_44 (dk_at dksX1_leaves_0 9 rfl rfl)
theorem dX1_leaves_10 : decode cX1_leaves 10 = .ok (.iload_n 3, 1) := dk_29 (dk_at dksX1_leaves_0 10 rfl rfl)
theorem dX1_leaves_11 : decode cX1_leaves 11 = .ok (.invokevirtual 263, 3) := dk_182 1 7 (dk_at dksX1_leaves_0 11 rfl rfl)
theorem dX1_leaves_14 : decode cX1_leaves 14 = .ok (.istore 4, 2) := dk_54 4 (dk_at dksX1_leaves_0 14 rfl rfl)
theorem dX1_leaves_16 : decode cX1_leaves 16 = .ok (.aload_n 0, 1) := dk_42 (dk_at dksX1_leaves_0 16 rfl rfl)
theorem dX1_leaves_17 : decode cX1_leaves 17 = .ok (.getfield 52, 3) := dk_180 0 52 (dk_at dksX1_leaves_0 17 rfl rfl)
theorem dX1_leaves_20 : decode cX1_leaves 20 = .ok (.bipush 118, 2) := dk_16 118 (dk_at dksX1_leaves_0 20 rfl rfl)
theorem dX1_leaves_22 : decode cX1_leaves 22 = .ok (.iload 4, 2) := dk_21 4 (dk_at dksX1_leaves_0 22 rfl rfl)
theorem dX1_leaves_24 : decode cX1_leaves 24 = .ok (.iastore, 1) := dk_79 (dk_at dksX1_leaves_1 0 rfl rfl)
theorem dX1_leaves_25 : decode cX1_leaves 25 = .ok (.aload_n 0, 1) := dk_42 (dk_at dksX1_leaves_1 1 rfl rfl)
theorem dX1_leaves_26 : decode cX1_leaves 26 = .ok (.getfield 52, 3) := dk_180 0 52 (dk_at dksX1_leaves_1 2 rfl rfl)
theorem dX1_leaves_29 : decode cX1_leaves 29 = .ok (.bipush 98, 2) := dk_16 98 (dk_at dksX1_leaves_1 5 rfl rfl)
theorem dX1_leaves_31 : decode cX1_leaves 31 = .ok (.bipush 100, 2) := dk_16 100 (dk_at dksX1_leaves_1 7 rfl rfl)
theorem dX1_leaves_33 : decode cX1_leaves 33 = .ok (.aload_n 2, 1) := dk_44 (dk_at dksX1_leaves_1 9 rfl rfl)
theorem dX1_leaves_34 : decode cX1_leaves 34 = .ok (.aload_n 2, 1) := dk_44 (dk_at dksX1_leaves_1 10 rfl rfl)
theorem dX1_leaves_35 : decode cX1_leaves 35 = .ok (.getfield 235, 3) := dk_180 0 235 (dk_at dksX1_leaves_1 11 rfl rfl)
theorem dX1_leaves_38 : decode cX1_leaves 38 = .ok (.iload 4, 2) := dk_21 4 (dk_at dksX1_leaves_1 14 rfl rfl)
theorem dX1_leaves_40 : decode cX1_leaves 40 = .ok (.invokevirtual 281, 3) := dk_182 1 25 (dk_at dksX1_leaves_1 16 rfl rfl)
theorem dX1_leaves_43 : decode cX1_leaves 43 = .ok (.imul, 1) := dk_104 (dk_at dksX1_leaves_1 19 rfl rfl)
theorem dX1_leaves_44 : decode cX1_leaves 44 = .ok (.aload_n 2, 1) := dk_44 (dk_at dksX1_leaves_1 20 rfl rfl)
theorem dX1_leaves_45 : decode cX1_leaves 45 = .ok (.invokevirtual 349, 3) := dk_182 1 93 (dk_at dksX1_leaves_1 21 rfl rfl)
theorem dX1_leaves_48 : decode cX1_leaves 48 = .ok (.idiv, 1) := dk_108 (dk_at dksX1_leaves_2 0 rfl rfl)
theorem dX1_leaves_49 : decode cX1_leaves 49 = .ok (.iastore, 1) := dk_79 (dk_at dksX1_leaves_2 1 rfl rfl)
theorem dX1_leaves_50 : decode cX1_leaves 50 = .ok (.aload_n 0, 1) := dk_42 (dk_at dksX1_leaves_2 2 rfl rfl)
theorem dX1_leaves_51 : decode cX1_leaves 51 = .ok (.getfield 52, 3) := dk_180 0 52 (dk_at dksX1_leaves_2 3 rfl rfl)
theorem dX1_leaves_54 : decode cX1_leaves 54 = .ok (.bipush 101, 2) := dk_16 101 (dk_at dksX1_leaves_2 6 rfl rfl)
theorem dX1_leaves_56 : decode cX1_leaves 56 = .ok (.aload_n 0, 1) := dk_42 (dk_at dksX1_leaves_2 8 rfl rfl)
theorem dX1_leaves_57 : decode cX1_leaves 57 = .ok (.getfield 415, 3) := dk_180 1 159 (dk_at dksX1_leaves_2 9 rfl rfl)
theorem dX1_leaves_60 : decode cX1_leaves 60 = .ok (.aload_n 1, 1) := dk_43 (dk_at dksX1_leaves_2 12 rfl rfl)
theorem dX1_leaves_61 : decode cX1_leaves 61 = .ok (.getfield 681, 3) := dk_180 2 169 (dk_at dksX1_leaves_2 13 rfl rfl)
theorem dX1_leaves_64 : decode cX1_leaves 64 = .ok (.isub, 1) := dk_100 (dk_at dksX1_leaves_2 16 rfl rfl)
theorem dX1_leaves_65 : decode cX1_leaves 65 = .ok (.iastore, 1) := dk_79 (dk_at dksX1_leaves_2 17 rfl rfl)
theorem dX1_leaves_66 : decode cX1_leaves 66 = .ok (.aload_n 0, 1) := dk_42 (dk_at dksX1_leaves_2 18 rfl rfl)
theorem dX1_leaves_67 : decode cX1_leaves 67 = .ok (.getfield 52, 3) := dk_180 0 52 (dk_at dksX1_leaves_2 19 rfl rfl)
theorem dX1_leaves_70 : decode cX1_leaves 70 = .ok (.bipush 116, 2) := dk_16 116 (dk_at dksX1_leaves_2 22 rfl rfl)
theorem dX1_leaves_72 : decode cX1_leaves 72 = .ok (.aload_n 2, 1) := dk_44 (dk_at dksX1_leaves_3 0 rfl rfl)
theorem dX1_leaves_73 : decode cX1_leaves 73 = .ok (.getfield 235, 3) := dk_180 0 235 (dk_at dksX1_leaves_3 1 rfl rfl)
theorem dX1_leaves_76 : decode cX1_leaves 76 = .ok (.getfield 266, 3) := dk_180 1 10 (dk_at dksX1_leaves_3 4 rfl rfl)
theorem dX1_leaves_79 : decode cX1_leaves 79 = .ok (.iload_n 3, 1) := dk_29 (dk_at dksX1_leaves_3 7 rfl rfl)
theorem dX1_leaves_80 : decode cX1_leaves 80 = .ok (.iaload, 1) := dk_46 (dk_at dksX1_leaves_3 8 rfl rfl)
theorem dX1_leaves_81 : decode cX1_leaves 81 = .ok (.iastore, 1) := dk_79 (dk_at dksX1_leaves_3 9 rfl rfl)
theorem dX1_leaves_82 : decode cX1_leaves 82 = .ok (.aload_n 0, 1) := dk_42 (dk_at dksX1_leaves_3 10 rfl rfl)
theorem dX1_leaves_83 : decode cX1_leaves 83 = .ok (.getfield 52, 3) := dk_180 0 52 (dk_at dksX1_leaves_3 11 rfl rfl)
theorem dX1_leaves_86 : decode cX1_leaves 86 = .ok (.bipush 109, 2) := dk_16 109 (dk_at dksX1_leaves_3 14 rfl rfl)
theorem dX1_leaves_88 : decode cX1_leaves 88 = .ok (.aload_n 1, 1) := dk_43 (dk_at dksX1_leaves_3 16 rfl rfl)
theorem dX1_leaves_89 : decode cX1_leaves 89 = .ok (.getfield 690, 3) := dk_180 2 178 (dk_at dksX1_leaves_3 17 rfl rfl)
theorem dX1_leaves_92 : decode cX1_leaves 92 = .ok (.iastore, 1) := dk_79 (dk_at dksX1_leaves_3 20 rfl rfl)
theorem dX1_leaves_93 : decode cX1_leaves 93 = .ok (.aload_n 0, 1) := dk_42 (dk_at dksX1_leaves_3 21 rfl rfl)
theorem dX1_leaves_94 : decode cX1_leaves 94 = .ok (.getfield 52, 3) := dk_180 0 52 (dk_at dksX1_leaves_4 0 rfl rfl)
theorem dX1_leaves_97 : decode cX1_leaves 97 = .ok (.bipush 103, 2) := dk_16 103 (dk_at dksX1_leaves_4 3 rfl rfl)
theorem dX1_leaves_99 : decode cX1_leaves 99 = .ok (.aload_n 2, 1) := dk_44 (dk_at dksX1_leaves_4 5 rfl rfl)
theorem dX1_leaves_100 : decode cX1_leaves 100 = .ok (.invokevirtual 285, 3) := dk_182 1 29 (dk_at dksX1_leaves_4 6 rfl rfl)
theorem dX1_leaves_103 : decode cX1_leaves 103 = .ok (.iastore, 1) := dk_79 (dk_at dksX1_leaves_4 9 rfl rfl)
theorem dX1_leaves_104 : decode cX1_leaves 104 = .ok (.aload_n 0, 1) := dk_42 (dk_at dksX1_leaves_4 10 rfl rfl)
theorem dX1_leaves_105 : decode cX1_leaves 105 = .ok (.getfield 583, 3) := dk_180 2 71 (dk_at dksX1_leaves_4 11 rfl rfl)
theorem dX1_leaves_108 : decode cX1_leaves 108 = .ok (.aload_n 0, 1) := dk_42 (dk_at dksX1_leaves_4 14 rfl rfl)
theorem dX1_leaves_109 : decode cX1_leaves 109 = .ok (.getfield 52, 3) := dk_180 0 52 (dk_at dksX1_leaves_4 15 rfl rfl)
theorem dX1_leaves_112 : decode cX1_leaves 112 = .ok (.invokevirtual 624, 3) := dk_182 2 112 (dk_at dksX1_leaves_4 18 rfl rfl)
theorem dX1_leaves_115 : decode cX1_leaves 115 = .ok (.ireturn, 1) := dk_172 (dk_at dksX1_leaves_4 21 rfl rfl)
abbrev cX1_share : ByteArray := prog_1_method_103_code
def yX1_share : MethodName := ⟨RX1, "share", "()V"⟩
def dkwX1_share_7 : List UInt8 := [132, 1, 1, 167, 255, 138, 177]
abbrev dktX1_share_7 : List UInt8 := dkwX1_share_7 ++ []
def dkwX1_share_6 : List UInt8 := [46, 44, 180, 1, 181, 96, 79, 44, 180, 1, 145, 89, 180, 1, 49, 44, 180, 1, 181, 96, 181, 1, 49]
abbrev dktX1_share_6 : List UInt8 := dkwX1_share_6 ++ dktX1_share_7
def dkwX1_share_5 : List UInt8 := [180, 0, 37, 29, 46, 108, 181, 1, 181, 44, 180, 1, 145, 180, 0, 235, 180, 1, 76, 44, 180, 2, 183, 92]
abbrev dktX1_share_5 : List UInt8 := dkwX1_share_5 ++ dktX1_share_6
def dkwX1_share_4 : List UInt8 := [163, 0, 10, 44, 180, 2, 181, 167, 0, 21, 44, 180, 2, 181, 42, 180, 0, 34, 29, 46, 104, 42]
abbrev dktX1_share_4 : List UInt8 := dkwX1_share_4 ++ dktX1_share_5
def dkwX1_share_3 : List UInt8 := [167, 0, 92, 42, 180, 0, 81, 27, 46, 62, 44, 42, 180, 0, 37, 29, 46, 42, 180, 0, 34, 29, 46]
abbrev dktX1_share_3 : List UInt8 := dkwX1_share_3 ++ dktX1_share_4
def dkwX1_share_2 : List UInt8 := [42, 180, 1, 109, 162, 0, 116, 42, 180, 0, 48, 27, 50, 77, 44, 180, 2, 183, 2, 160, 0, 6]
abbrev dktX1_share_2 : List UInt8 := dkwX1_share_2 ++ dktX1_share_3
def dkwX1_share_1 : List UInt8 := [180, 0, 235, 180, 1, 76, 28, 3, 79, 132, 2, 1, 167, 255, 232, 132, 1, 1, 167, 255, 216, 3, 60, 27]
abbrev dktX1_share_1 : List UInt8 := dkwX1_share_1 ++ dktX1_share_2
def dkwX1_share_0 : List UInt8 := [3, 60, 27, 42, 180, 0, 199, 162, 0, 38, 3, 61, 28, 16, 24, 162, 0, 24, 42, 180, 0, 30, 27, 50]
abbrev dktX1_share_0 : List UInt8 := dkwX1_share_0 ++ dktX1_share_1
theorem dksX1_share_0 : cX1_share.data.toList.drop 0 = dktX1_share_0 := by decide +kernel
theorem dksX1_share_1 : cX1_share.data.toList.drop 24 = dktX1_share_1 := dk_seg dksX1_share_0 24 rfl rfl
theorem dksX1_share_2 : cX1_share.data.toList.drop 48 = dktX1_share_2 := dk_seg dksX1_share_1 24 rfl rfl
theorem dksX1_share_3 : cX1_share.data.toList.drop 70 = dktX1_share_3 := dk_seg dksX1_share_2 22 rfl rfl
theorem dksX1_share_4 : cX1_share.data.toList.drop 93 = dktX1_share_4 := dk_seg dksX1_share_3 23 rfl rfl
theorem dksX1_share_5 : cX1_share.data.toList.drop 115 = dktX1_share_5 := dk_seg dksX1_share_4 22 rfl rfl
theorem dksX1_share_6 : cX1_share.data.toList.drop 139 = dktX1_share_6 := dk_seg dksX1_share_5 24 rfl rfl
theorem dksX1_share_7 : cX1_share.data.toList.drop 162 = dktX1_share_7 := dk_seg dksX1_share_6 23 rfl rfl
theorem dX1_share_0 : decode cX1_share 0 = .ok (.iconst 0, 1) := dk_3 (dk_at dksX1_share_0 0 rfl rfl)
theorem dX1_share_1 : decode cX1_share 1 = .ok (.istore_n 1, 1) := dk_60 (dk_at dksX1_share_0 1 rfl rfl)
theorem dX1_share_2 : decode cX1_share 2 = .ok (.iload_n 1, 1) := dk_27 (dk_at dksX1_share_0 2 rfl rfl)
theorem dX1_share_3 : decode cX1_share 3 = .ok (.aload_n 0, 1) := dk_42 (dk_at dksX1_share_0 3 rfl rfl)
theorem dX1_share_4 : decode cX1_share 4 = .ok (.getfield 199, 3) := dk_180 0 199 (dk_at dksX1_share_0 4 rfl rfl)
theorem dX1_share_7 : decode cX1_share 7 = .ok (.if_icmp .ge 38, 3) := dk_162 0 38 (dk_at dksX1_share_0 7 rfl rfl)
theorem dX1_share_10 : decode cX1_share 10 = .ok (.iconst 0, 1) := dk_3 (dk_at dksX1_share_0 10 rfl rfl)
theorem dX1_share_11 : decode cX1_share 11 = .ok (.istore_n 2, 1) := dk_61 (dk_at dksX1_share_0 11 rfl rfl)
theorem dX1_share_12 : decode cX1_share 12 = .ok (.iload_n 2, 1) := dk_28 (dk_at dksX1_share_0 12 rfl rfl)
theorem dX1_share_13 : decode cX1_share 13 = .ok (.bipush 24, 2) := dk_16 24 (dk_at dksX1_share_0 13 rfl rfl)
theorem dX1_share_15 : decode cX1_share 15 = .ok (.if_icmp .ge 24, 3) := dk_162 0 24 (dk_at dksX1_share_0 15 rfl rfl)
theorem dX1_share_18 : decode cX1_share 18 = .ok (.aload_n 0, 1) := dk_42 (dk_at dksX1_share_0 18 rfl rfl)
theorem dX1_share_19 : decode cX1_share 19 = .ok (.getfield 30, 3) := dk_180 0 30 (dk_at dksX1_share_0 19 rfl rfl)
theorem dX1_share_22 : decode cX1_share 22 = .ok (.iload_n 1, 1) := dk_27 (dk_at dksX1_share_0 22 rfl rfl)
theorem dX1_share_23 : decode cX1_share 23 = .ok (.aaload, 1) := dk_50 (dk_at dksX1_share_0 23 rfl rfl)
theorem dX1_share_24 : decode cX1_share 24 = .ok (.getfield 235, 3) := dk_180 0 235 (dk_at dksX1_share_1 0 rfl rfl)
theorem dX1_share_27 : decode cX1_share 27 = .ok (.getfield 332, 3) := dk_180 1 76 (dk_at dksX1_share_1 3 rfl rfl)
theorem dX1_share_30 : decode cX1_share 30 = .ok (.iload_n 2, 1) := dk_28 (dk_at dksX1_share_1 6 rfl rfl)
theorem dX1_share_31 : decode cX1_share 31 = .ok (.iconst 0, 1) := dk_3 (dk_at dksX1_share_1 7 rfl rfl)
theorem dX1_share_32 : decode cX1_share 32 = .ok (.iastore, 1) := dk_79 (dk_at dksX1_share_1 8 rfl rfl)
theorem dX1_share_33 : decode cX1_share 33 = .ok (.iinc 2 1, 3) := dk_132 2 1 (dk_at dksX1_share_1 9 rfl rfl)
theorem dX1_share_36 : decode cX1_share 36 = .ok (.goto (-24), 3) := dk_167 255 232 (dk_at dksX1_share_1 12 rfl rfl)
theorem dX1_share_39 : decode cX1_share 39 = .ok (.iinc 1 1, 3) := dk_132 1 1 (dk_at dksX1_share_1 15 rfl rfl)
theorem dX1_share_42 : decode cX1_share 42 = .ok (.goto (-40), 3) := dk_167 255 216 (dk_at dksX1_share_1 18 rfl rfl)
theorem dX1_share_45 : decode cX1_share 45 = .ok (.iconst 0, 1) := dk_3 (dk_at dksX1_share_1 21 rfl rfl)
theorem dX1_share_46 : decode cX1_share 46 = .ok (.istore_n 1, 1) := dk_60 (dk_at dksX1_share_1 22 rfl rfl)
theorem dX1_share_47 : decode cX1_share 47 = .ok (.iload_n 1, 1) := dk_27 (dk_at dksX1_share_1 23 rfl rfl)
theorem dX1_share_48 : decode cX1_share 48 = .ok (.aload_n 0, 1) := dk_42 (dk_at dksX1_share_2 0 rfl rfl)
theorem dX1_share_49 : decode cX1_share 49 = .ok (.getfield 365, 3) := dk_180 1 109 (dk_at dksX1_share_2 1 rfl rfl)
theorem dX1_share_52 : decode cX1_share 52 = .ok (.if_icmp .ge 116, 3) := dk_162 0 116 (dk_at dksX1_share_2 4 rfl rfl)
theorem dX1_share_55 : decode cX1_share 55 = .ok (.aload_n 0, 1) := dk_42 (dk_at dksX1_share_2 7 rfl rfl)
theorem dX1_share_56 : decode cX1_share 56 = .ok (.getfield 48, 3) := dk_180 0 48 (dk_at dksX1_share_2 8 rfl rfl)
theorem dX1_share_59 : decode cX1_share 59 = .ok (.iload_n 1, 1) := dk_27 (dk_at dksX1_share_2 11 rfl rfl)
theorem dX1_share_60 : decode cX1_share 60 = .ok (.aaload, 1) := dk_50 (dk_at dksX1_share_2 12 rfl rfl)
theorem dX1_share_61 : decode cX1_share 61 = .ok (.astore_n 2, 1) := dk_77 (dk_at dksX1_share_2 13 rfl rfl)
theorem dX1_share_62 : decode cX1_share 62 = .ok (.aload_n 2, 1) := dk_44 (dk_at dksX1_share_2 14 rfl rfl)
theorem dX1_share_63 : decode cX1_share 63 = .ok (.getfield 695, 3) := dk_180 2 183 (dk_at dksX1_share_2 15 rfl rfl)
theorem dX1_share_66 : decode cX1_share 66 = .ok (.iconst (-1), 1) := dk_2 (dk_at dksX1_share_2 18 rfl rfl)
theorem dX1_share_67 : decode cX1_share 67 = .ok (.if_icmp .ne 6, 3) := dk_160 0 6 (dk_at dksX1_share_2 19 rfl rfl)
theorem dX1_share_70 : decode cX1_share 70 = .ok (.goto 92, 3) := dk_167 0 92 (dk_at dksX1_share_3 0 rfl rfl)
theorem dX1_share_73 : decode cX1_share 73 = .ok (.aload_n 0, 1) := dk_42 (dk_at dksX1_share_3 3 rfl rfl)
theorem dX1_share_74 : decode cX1_share 74 = .ok (.getfield 81, 3) := dk_180 0 81 (dk_at dksX1_share_3 4 rfl rfl)
theorem dX1_share_77 : decode cX1_share 77 = .ok (.iload_n 1, 1) := dk_27 (dk_at dksX1_share_3 7 rfl rfl)
theorem dX1_share_78 : decode cX1_share 78 = .ok (.iaload, 1) := dk_46 (dk_at dksX1_share_3 8 rfl rfl)
theorem dX1_share_79 : decode cX1_share 79 = .ok (.istore_n 3, 1) := dk_62 (dk_at dksX1_share_3 9 rfl rfl)
theorem dX1_share_80 : decode cX1_share 80 = .ok (.aload_n 2, 1) := dk_44 (dk_at dksX1_share_3 10 rfl rfl)
theorem dX1_share_81 : decode cX1_share 81 = .ok (.aload_n 0, 1) := dk_42 (dk_at dksX1_share_3 11 rfl rfl)
theorem dX1_share_82 : decode cX1_share 82 = .ok (.getfield 37, 3) := dk_180 0 37 (dk_at dksX1_share_3 12 rfl rfl)
theorem dX1_share_85 : decode cX1_share 85 = .ok (.iload_n 3, 1) := dk_29 (dk_at dksX1_share_3 15 rfl rfl)
theorem dX1_share_86 : decode cX1_share 86 = .ok (.iaload, 1) := dk_46 (dk_at dksX1_share_3 16 rfl rfl)
theorem dX1_share_87 : decode cX1_share 87 = .ok (.aload_n 0, 1) := dk_42 (dk_at dksX1_share_3 17 rfl rfl)
theorem dX1_share_88 : decode cX1_share 88 = .ok (.getfield 34, 3) := dk_180 0 34 (dk_at dksX1_share_3 18 rfl rfl)
theorem dX1_share_91 : decode cX1_share 91 = .ok (.iload_n 3, 1) := dk_29 (dk_at dksX1_share_3 21 rfl rfl)
theorem dX1_share_92 : decode cX1_share 92 = .ok (.iaload, 1) := dk_46 (dk_at dksX1_share_3 22 rfl rfl)
theorem dX1_share_93 : decode cX1_share 93 = .ok (.if_icmp .gt 10, 3) := dk_163 0 10 (dk_at dksX1_share_4 0 rfl rfl)
theorem dX1_share_96 : decode cX1_share 96 = .ok (.aload_n 2, 1) := dk_44 (dk_at dksX1_share_4 3 rfl rfl)
theorem dX1_share_97 : decode cX1_share 97 = .ok (.getfield 693, 3) := dk_180 2 181 (dk_at dksX1_share_4 4 rfl rfl)
theorem dX1_share_100 : decode cX1_share 100 = .ok (.goto 21, 3) := dk_167 0 21 (dk_at dksX1_share_4 7 rfl rfl)
theorem dX1_share_103 : decode cX1_share 103 = .ok (.aload_n 2, 1) := dk_44 (dk_at dksX1_share_4 10 rfl rfl)
theorem dX1_share_104 : decode cX1_share 104 = .ok (.getfield 693, 3) := dk_180 2 181 (dk_at dksX1_share_4 11 rfl rfl)
theorem dX1_share_107 : decode cX1_share 107 = .ok (.aload_n 0, 1) := dk_42 (dk_at dksX1_share_4 14 rfl rfl)
theorem dX1_share_108 : decode cX1_share 108 = .ok (.getfield 34, 3) := dk_180 0 34 (dk_at dksX1_share_4 15 rfl rfl)
theorem dX1_share_111 : decode cX1_share 111 = .ok (.iload_n 3, 1) := dk_29 (dk_at dksX1_share_4 18 rfl rfl)
theorem dX1_share_112 : decode cX1_share 112 = .ok (.iaload, 1) := dk_46 (dk_at dksX1_share_4 19 rfl rfl)
theorem dX1_share_113 : decode cX1_share 113 = .ok (.imul, 1) := dk_104 (dk_at dksX1_share_4 20 rfl rfl)
theorem dX1_share_114 : decode cX1_share 114 = .ok (.aload_n 0, 1) := dk_42 (dk_at dksX1_share_4 21 rfl rfl)
theorem dX1_share_115 : decode cX1_share 115 = .ok (.getfield 37, 3) := dk_180 0 37 (dk_at dksX1_share_5 0 rfl rfl)
theorem dX1_share_118 : decode cX1_share 118 = .ok (.iload_n 3, 1) := dk_29 (dk_at dksX1_share_5 3 rfl rfl)
theorem dX1_share_119 : decode cX1_share 119 = .ok (.iaload, 1) := dk_46 (dk_at dksX1_share_5 4 rfl rfl)
theorem dX1_share_120 : decode cX1_share 120 = .ok (.idiv, 1) := dk_108 (dk_at dksX1_share_5 5 rfl rfl)
theorem dX1_share_121 : decode cX1_share 121 = .ok (.putfield 437, 3) := dk_181 1 181 (dk_at dksX1_share_5 6 rfl rfl)
theorem dX1_share_124 : decode cX1_share 124 = .ok (.aload_n 2, 1) := dk_44 (dk_at dksX1_share_5 9 rfl rfl)
theorem dX1_share_125 : decode cX1_share 125 = .ok (.getfield 401, 3) := dk_180 1 145 (dk_at dksX1_share_5 10 rfl rfl)
theorem dX1_share_128 : decode cX1_share 128 = .ok (.getfield 235, 3) := dk_180 0 235 (dk_at dksX1_share_5 13 rfl rfl)
theorem dX1_share_131 : decode cX1_share 131 = .ok (.getfield 332, 3) := dk_180 1 76 (dk_at dksX1_share_5 16 rfl rfl)
theorem dX1_share_134 : decode cX1_share 134 = .ok (.aload_n 2, 1) := dk_44 (dk_at dksX1_share_5 19 rfl rfl)
theorem dX1_share_135 : decode cX1_share 135 = .ok (.getfield 695, 3) := dk_180 2 183 (dk_at dksX1_share_5 20 rfl rfl)
theorem dX1_share_138 : decode cX1_share 138 = .ok (.dup2, 1) := dk_92 (dk_at dksX1_share_5 23 rfl rfl)
theorem dX1_share_139 : decode cX1_share 139 = .ok (.iaload, 1) := dk_46 (dk_at dksX1_share_6 0 rfl rfl)
theorem dX1_share_140 : decode cX1_share 140 = .ok (.aload_n 2, 1) := dk_44 (dk_at dksX1_share_6 1 rfl rfl)
theorem dX1_share_141 : decode cX1_share 141 = .ok (.getfield 437, 3) := dk_180 1 181 (dk_at dksX1_share_6 2 rfl rfl)
theorem dX1_share_144 : decode cX1_share 144 = .ok (.iadd, 1) := dk_96 (dk_at dksX1_share_6 5 rfl rfl)
theorem dX1_share_145 : decode cX1_share 145 = .ok (.iastore, 1) := dk_79 (dk_at dksX1_share_6 6 rfl rfl)
theorem dX1_share_146 : decode cX1_share 146 = .ok (.aload_n 2, 1) := dk_44 (dk_at dksX1_share_6 7 rfl rfl)
theorem dX1_share_147 : decode cX1_share 147 = .ok (.getfield 401, 3) := dk_180 1 145 (dk_at dksX1_share_6 8 rfl rfl)
theorem dX1_share_150 : decode cX1_share 150 = .ok (.dup, 1) := dk_89 (dk_at dksX1_share_6 11 rfl rfl)
theorem dX1_share_151 : decode cX1_share 151 = .ok (.getfield 305, 3) := dk_180 1 49 (dk_at dksX1_share_6 12 rfl rfl)
theorem dX1_share_154 : decode cX1_share 154 = .ok (.aload_n 2, 1) := dk_44 (dk_at dksX1_share_6 15 rfl rfl)
theorem dX1_share_155 : decode cX1_share 155 = .ok (.getfield 437, 3) := dk_180 1 181 (dk_at dksX1_share_6 16 rfl rfl)
theorem dX1_share_158 : decode cX1_share 158 = .ok (.iadd, 1) := dk_96 (dk_at dksX1_share_6 19 rfl rfl)
theorem dX1_share_159 : decode cX1_share 159 = .ok (.putfield 305, 3) := dk_181 1 49 (dk_at dksX1_share_6 20 rfl rfl)
theorem dX1_share_162 : decode cX1_share 162 = .ok (.iinc 1 1, 3) := dk_132 1 1 (dk_at dksX1_share_7 0 rfl rfl)
theorem dX1_share_165 : decode cX1_share 165 = .ok (.goto (-118), 3) := dk_167 255 138 (dk_at dksX1_share_7 3 rfl rfl)
theorem dX1_share_168 : decode cX1_share 168 = .ok (.return_, 1) := dk_177 (dk_at dksX1_share_7 6 rfl rfl)
abbrev cX1_change : ByteArray := prog_1_method_33_code
def yX1_change : MethodName := ⟨RX1, "change", "(Z)V"⟩
def dkwX1_change_15 : List UInt8 := [3, 182, 1, 89, 132, 2, 1, 167, 255, 215, 177]
abbrev dktX1_change_15 : List UInt8 := dkwX1_change_15 ++ []
def dkwX1_change_14 : List UInt8 := [180, 0, 30, 28, 50, 42, 42, 180, 0, 30, 28, 50, 27, 182, 1, 62, 27, 154, 0, 7, 4, 167, 0, 4]
abbrev dktX1_change_14 : List UInt8 := dkwX1_change_14 ++ dktX1_change_15
def dkwX1_change_13 : List UInt8 := [132, 5, 1, 167, 255, 113, 132, 2, 1, 167, 255, 81, 3, 61, 28, 42, 180, 0, 199, 162, 0, 39, 42, 42]
abbrev dktX1_change_13 : List UInt8 := dkwX1_change_13 ++ dktX1_change_14
def dkwX1_change_12 : List UInt8 := [180, 1, 79, 21, 5, 46, 96, 184, 1, 86, 184, 1, 13, 79, 25, 4, 180, 1, 76, 21, 5, 3, 79]
abbrev dktX1_change_12 : List UInt8 := dkwX1_change_12 ++ dktX1_change_13
def dkwX1_change_11 : List UInt8 := [21, 6, 51, 153, 0, 7, 3, 167, 0, 30, 3, 17, 3, 232, 25, 4, 180, 1, 10, 21, 5, 46, 25, 4]
abbrev dktX1_change_11 : List UInt8 := dkwX1_change_11 ++ dktX1_change_12
def dkwX1_change_10 : List UInt8 := [180, 1, 22, 21, 6, 92, 46, 21, 7, 96, 79, 25, 4, 180, 1, 10, 21, 5, 25, 4, 180, 0, 239]
abbrev dktX1_change_10 : List UInt8 := dkwX1_change_10 ++ dktX1_change_11
def dkwX1_change_9 : List UInt8 := [108, 96, 184, 1, 86, 54, 7, 25, 4, 180, 0, 248, 21, 5, 92, 46, 21, 7, 100, 79, 25, 4]
abbrev dktX1_change_9 : List UInt8 := dkwX1_change_9 ++ dktX1_change_10
def dkwX1_change_8 : List UInt8 := [51, 153, 0, 56, 25, 4, 180, 0, 248, 21, 5, 46, 4, 25, 4, 180, 1, 10, 21, 5, 46, 17, 0, 250]
abbrev dktX1_change_8 : List UInt8 := dkwX1_change_8 ++ dktX1_change_9
def dkwX1_change_7 : List UInt8 := [21, 5, 45, 182, 0, 205, 162, 0, 140, 45, 21, 5, 182, 1, 7, 54, 6, 25, 4, 180, 1, 66, 21, 5]
abbrev dktX1_change_7 : List UInt8 := dkwX1_change_7 ++ dktX1_change_8
def dkwX1_change_6 : List UInt8 := [180, 0, 199, 162, 0, 173, 42, 180, 0, 30, 28, 50, 78, 42, 45, 27, 182, 1, 62, 58, 4, 3, 54, 5]
abbrev dktX1_change_6 : List UInt8 := dkwX1_change_6 ++ dktX1_change_7
def dkwX1_change_5 : List UInt8 := [29, 27, 182, 1, 82, 79, 132, 3, 1, 167, 255, 217, 132, 2, 1, 167, 255, 201, 3, 61, 28, 42]
abbrev dktX1_change_5 : List UInt8 := dkwX1_change_5 ++ dktX1_change_6
def dkwX1_change_4 : List UInt8 := [50, 182, 0, 205, 162, 0, 32, 42, 42, 180, 0, 30, 28, 50, 27, 182, 1, 62, 180, 1, 79, 29, 42, 28]
abbrev dktX1_change_4 : List UInt8 := dkwX1_change_4 ++ dktX1_change_5
def dkwX1_change_3 : List UInt8 := [132, 2, 1, 167, 255, 187, 3, 61, 28, 42, 180, 0, 199, 162, 0, 53, 3, 62, 29, 42, 180, 0, 30, 28]
abbrev dktX1_change_3 : List UInt8 := dkwX1_change_3 ++ dktX1_change_4
def dkwX1_change_2 : List UInt8 := [42, 42, 180, 0, 30, 28, 50, 27, 182, 1, 62, 29, 182, 1, 18, 84, 132, 3, 1, 167, 255, 203]
abbrev dktX1_change_2 : List UInt8 := dkwX1_change_2 ++ dktX1_change_3
def dkwX1_change_1 : List UInt8 := [162, 0, 46, 42, 42, 180, 0, 30, 28, 50, 27, 182, 1, 62, 180, 1, 66, 29, 42, 180, 0, 30, 28, 50]
abbrev dktX1_change_1 : List UInt8 := dkwX1_change_1 ++ dktX1_change_2
def dkwX1_change_0 : List UInt8 := [3, 61, 28, 42, 180, 0, 199, 162, 0, 67, 3, 62, 29, 42, 180, 0, 30, 28, 50, 182, 0, 205]
abbrev dktX1_change_0 : List UInt8 := dkwX1_change_0 ++ dktX1_change_1
theorem dksX1_change_0 : cX1_change.data.toList.drop 0 = dktX1_change_0 := by decide +kernel
theorem dksX1_change_1 : cX1_change.data.toList.drop 22 = dktX1_change_1 := dk_seg dksX1_change_0 22 rfl rfl
theorem dksX1_change_2 : cX1_change.data.toList.drop 46 = dktX1_change_2 := dk_seg dksX1_change_1 24 rfl rfl
theorem dksX1_change_3 : cX1_change.data.toList.drop 68 = dktX1_change_3 := dk_seg dksX1_change_2 22 rfl rfl
theorem dksX1_change_4 : cX1_change.data.toList.drop 92 = dktX1_change_4 := dk_seg dksX1_change_3 24 rfl rfl
theorem dksX1_change_5 : cX1_change.data.toList.drop 116 = dktX1_change_5 := dk_seg dksX1_change_4 24 rfl rfl
theorem dksX1_change_6 : cX1_change.data.toList.drop 138 = dktX1_change_6 := dk_seg dksX1_change_5 22 rfl rfl
theorem dksX1_change_7 : cX1_change.data.toList.drop 162 = dktX1_change_7 := dk_seg dksX1_change_6 24 rfl rfl
theorem dksX1_change_8 : cX1_change.data.toList.drop 186 = dktX1_change_8 := dk_seg dksX1_change_7 24 rfl rfl
theorem dksX1_change_9 : cX1_change.data.toList.drop 210 = dktX1_change_9 := dk_seg dksX1_change_8 24 rfl rfl
theorem dksX1_change_10 : cX1_change.data.toList.drop 232 = dktX1_change_10 := dk_seg dksX1_change_9 22 rfl rfl
theorem dksX1_change_11 : cX1_change.data.toList.drop 255 = dktX1_change_11 := dk_seg dksX1_change_10 23 rfl rfl
theorem dksX1_change_12 : cX1_change.data.toList.drop 279 = dktX1_change_12 := dk_seg dksX1_change_11 24 rfl rfl
theorem dksX1_change_13 : cX1_change.data.toList.drop 302 = dktX1_change_13 := dk_seg dksX1_change_12 23 rfl rfl
theorem dksX1_change_14 : cX1_change.data.toList.drop 326 = dktX1_change_14 := dk_seg dksX1_change_13 24 rfl rfl
theorem dksX1_change_15 : cX1_change.data.toList.drop 350 = dktX1_change_15 := dk_seg dksX1_change_14 24 rfl rfl
theorem dX1_change_0 : decode cX1_change 0 = .ok (.iconst 0, 1) := dk_3 (dk_at dksX1_change_0 0 rfl rfl)
theorem dX1_change_1 : decode cX1_change 1 = .ok (.istore_n 2, 1) := dk_61 (dk_at dksX1_change_0 1 rfl rfl)
theorem dX1_change_2 : decode cX1_change 2 = .ok (.iload_n 2, 1) := dk_28 (dk_at dksX1_change_0 2 rfl rfl)
theorem dX1_change_3 : decode cX1_change 3 = .ok (.aload_n 0, 1) := dk_42 (dk_at dksX1_change_0 3 rfl rfl)
theorem dX1_change_4 : decode cX1_change 4 = .ok (.getfield 199, 3) := dk_180 0 199 (dk_at dksX1_change_0 4 rfl rfl)
theorem dX1_change_7 : decode cX1_change 7 = .ok (.if_icmp .ge 67, 3) := dk_162 0 67 (dk_at dksX1_change_0 7 rfl rfl)
theorem dX1_change_10 : decode cX1_change 10 = .ok (.iconst 0, 1) := dk_3 (dk_at dksX1_change_0 10 rfl rfl)
theorem dX1_change_11 : decode cX1_change 11 = .ok (.istore_n 3, 1) := dk_62 (dk_at dksX1_change_0 11 rfl rfl)
theorem dX1_change_12 : decode cX1_change 12 = .ok (.iload_n 3, 1) := dk_29 (dk_at dksX1_change_0 12 rfl rfl)
theorem dX1_change_13 : decode cX1_change 13 = .ok (.aload_n 0, 1) := dk_42 (dk_at dksX1_change_0 13 rfl rfl)
theorem dX1_change_14 : decode cX1_change 14 = .ok (.getfield 30, 3) := dk_180 0 30 (dk_at dksX1_change_0 14 rfl rfl)
theorem dX1_change_17 : decode cX1_change 17 = .ok (.iload_n 2, 1) := dk_28 (dk_at dksX1_change_0 17 rfl rfl)
theorem dX1_change_18 : decode cX1_change 18 = .ok (.aaload, 1) := dk_50 (dk_at dksX1_change_0 18 rfl rfl)
theorem dX1_change_19 : decode cX1_change 19 = .ok (.invokevirtual 205, 3) := dk_182 0 205 (dk_at dksX1_change_0 19 rfl rfl)
theorem dX1_change_22 : decode cX1_change 22 = .ok (.if_icmp .ge 46, 3) := dk_162 0 46 (dk_at dksX1_change_1 0 rfl rfl)
theorem dX1_change_25 : decode cX1_change 25 = .ok (.aload_n 0, 1) := dk_42 (dk_at dksX1_change_1 3 rfl rfl)
theorem dX1_change_26 : decode cX1_change 26 = .ok (.aload_n 0, 1) := dk_42 (dk_at dksX1_change_1 4 rfl rfl)
theorem dX1_change_27 : decode cX1_change 27 = .ok (.getfield 30, 3) := dk_180 0 30 (dk_at dksX1_change_1 5 rfl rfl)
theorem dX1_change_30 : decode cX1_change 30 = .ok (.iload_n 2, 1) := dk_28 (dk_at dksX1_change_1 8 rfl rfl)
theorem dX1_change_31 : decode cX1_change 31 = .ok (.aaload, 1) := dk_50 (dk_at dksX1_change_1 9 rfl rfl)
theorem dX1_change_32 : decode cX1_change 32 = .ok (.iload_n 1, 1) := dk_27 (dk_at dksX1_change_1 10 rfl rfl)
theorem dX1_change_33 : decode cX1_change 33 = .ok (.invokevirtual 318, 3) := dk_182 1 62 (dk_at dksX1_change_1 11 rfl rfl)
theorem dX1_change_36 : decode cX1_change 36 = .ok (.getfield 322, 3) := dk_180 1 66 (dk_at dksX1_change_1 14 rfl rfl)
theorem dX1_change_39 : decode cX1_change 39 = .ok (.iload_n 3, 1) := dk_29 (dk_at dksX1_change_1 17 rfl rfl)
theorem dX1_change_40 : decode cX1_change 40 = .ok (.aload_n 0, 1) := dk_42 (dk_at dksX1_change_1 18 rfl rfl)
theorem dX1_change_41 : decode cX1_change 41 = .ok (.getfield 30, 3) := dk_180 0 30 (dk_at dksX1_change_1 19 rfl rfl)
theorem dX1_change_44 : decode cX1_change 44 = .ok (.iload_n 2, 1) := dk_28 (dk_at dksX1_change_1 22 rfl rfl)
theorem dX1_change_45 : decode cX1_change 45 = .ok (.aaload, 1) := dk_50 (dk_at dksX1_change_1 23 rfl rfl)
theorem dX1_change_46 : decode cX1_change 46 = .ok (.aload_n 0, 1) := dk_42 (dk_at dksX1_change_2 0 rfl rfl)
theorem dX1_change_47 : decode cX1_change 47 = .ok (.aload_n 0, 1) := dk_42 (dk_at dksX1_change_2 1 rfl rfl)
theorem dX1_change_48 : decode cX1_change 48 = .ok (.getfield 30, 3) := dk_180 0 30 (dk_at dksX1_change_2 2 rfl rfl)
theorem dX1_change_51 : decode cX1_change 51 = .ok (.iload_n 2, 1) := dk_28 (dk_at dksX1_change_2 5 rfl rfl)
theorem dX1_change_52 : decode cX1_change 52 = .ok (.aaload, 1) := dk_50 (dk_at dksX1_change_2 6 rfl rfl)
theorem dX1_change_53 : decode cX1_change 53 = .ok (.iload_n 1, 1) := dk_27 (dk_at dksX1_change_2 7 rfl rfl)
theorem dX1_change_54 : decode cX1_change 54 = .ok (.invokevirtual 318, 3) := dk_182 1 62 (dk_at dksX1_change_2 8 rfl rfl)
theorem dX1_change_57 : decode cX1_change 57 = .ok (.iload_n 3, 1) := dk_29 (dk_at dksX1_change_2 11 rfl rfl)
theorem dX1_change_58 : decode cX1_change 58 = .ok (.invokevirtual 274, 3) := dk_182 1 18 (dk_at dksX1_change_2 12 rfl rfl)
theorem dX1_change_61 : decode cX1_change 61 = .ok (.bastore, 1) := dk_84 (dk_at dksX1_change_2 15 rfl rfl)
theorem dX1_change_62 : decode cX1_change 62 = .ok (.iinc 3 1, 3) := dk_132 3 1 (dk_at dksX1_change_2 16 rfl rfl)
theorem dX1_change_65 : decode cX1_change 65 = .ok (.goto (-53), 3) := dk_167 255 203 (dk_at dksX1_change_2 19 rfl rfl)
theorem dX1_change_68 : decode cX1_change 68 = .ok (.iinc 2 1, 3) := dk_132 2 1 (dk_at dksX1_change_3 0 rfl rfl)
theorem dX1_change_71 : decode cX1_change 71 = .ok (.goto (-69), 3) := dk_167 255 187 (dk_at dksX1_change_3 3 rfl rfl)
theorem dX1_change_74 : decode cX1_change 74 = .ok (.iconst 0, 1) := dk_3 (dk_at dksX1_change_3 6 rfl rfl)
theorem dX1_change_75 : decode cX1_change 75 = .ok (.istore_n 2, 1) := dk_61 (dk_at dksX1_change_3 7 rfl rfl)
theorem dX1_change_76 : decode cX1_change 76 = .ok (.iload_n 2, 1) := dk_28 (dk_at dksX1_change_3 8 rfl rfl)
theorem dX1_change_77 : decode cX1_change 77 = .ok (.aload_n 0, 1) := dk_42 (dk_at dksX1_change_3 9 rfl rfl)
theorem dX1_change_78 : decode cX1_change 78 = .ok (.getfield 199, 3) := dk_180 0 199 (dk_at dksX1_change_3 10 rfl rfl)
theorem dX1_change_81 : decode cX1_change 81 = .ok (.if_icmp .ge 53, 3) := dk_162 0 53 (dk_at dksX1_change_3 13 rfl rfl)
theorem dX1_change_84 : decode cX1_change 84 = .ok (.iconst 0, 1) := dk_3 (dk_at dksX1_change_3 16 rfl rfl)
theorem dX1_change_85 : decode cX1_change 85 = .ok (.istore_n 3, 1) := dk_62 (dk_at dksX1_change_3 17 rfl rfl)
theorem dX1_change_86 : decode cX1_change 86 = .ok (.iload_n 3, 1) := dk_29 (dk_at dksX1_change_3 18 rfl rfl)
theorem dX1_change_87 : decode cX1_change 87 = .ok (.aload_n 0, 1) := dk_42 (dk_at dksX1_change_3 19 rfl rfl)
theorem dX1_change_88 : decode cX1_change 88 = .ok (.getfield 30, 3) := dk_180 0 30 (dk_at dksX1_change_3 20 rfl rfl)
theorem dX1_change_91 : decode cX1_change 91 = .ok (.iload_n 2, 1) := dk_28 (dk_at dksX1_change_3 23 rfl rfl)
theorem dX1_change_92 : decode cX1_change 92 = .ok (.aaload, 1) := dk_50 (dk_at dksX1_change_4 0 rfl rfl)
theorem dX1_change_93 : decode cX1_change 93 = .ok (.invokevirtual 205, 3) := dk_182 0 205 (dk_at dksX1_change_4 1 rfl rfl)
theorem dX1_change_96 : decode cX1_change 96 = .ok (.if_icmp .ge 32, 3) := dk_162 0 32 (dk_at dksX1_change_4 4 rfl rfl)
theorem dX1_change_99 : decode cX1_change 99 = .ok (.aload_n 0, 1) := dk_42 (dk_at dksX1_change_4 7 rfl rfl)
theorem dX1_change_100 : decode cX1_change 100 = .ok (.aload_n 0, 1) := dk_42 (dk_at dksX1_change_4 8 rfl rfl)
theorem dX1_change_101 : decode cX1_change 101 = .ok (.getfield 30, 3) := dk_180 0 30 (dk_at dksX1_change_4 9 rfl rfl)
theorem dX1_change_104 : decode cX1_change 104 = .ok (.iload_n 2, 1) := dk_28 (dk_at dksX1_change_4 12 rfl rfl)
theorem dX1_change_105 : decode cX1_change 105 = .ok (.aaload, 1) := dk_50 (dk_at dksX1_change_4 13 rfl rfl)
theorem dX1_change_106 : decode cX1_change 106 = .ok (.iload_n 1, 1) := dk_27 (dk_at dksX1_change_4 14 rfl rfl)
theorem dX1_change_107 : decode cX1_change 107 = .ok (.invokevirtual 318, 3) := dk_182 1 62 (dk_at dksX1_change_4 15 rfl rfl)
theorem dX1_change_110 : decode cX1_change 110 = .ok (.getfield 335, 3) := dk_180 1 79 (dk_at dksX1_change_4 18 rfl rfl)
theorem dX1_change_113 : decode cX1_change 113 = .ok (.iload_n 3, 1) := dk_29 (dk_at dksX1_change_4 21 rfl rfl)
theorem dX1_change_114 : decode cX1_change 114 = .ok (.aload_n 0, 1) := dk_42 (dk_at dksX1_change_4 22 rfl rfl)
theorem dX1_change_115 : decode cX1_change 115 = .ok (.iload_n 2, 1) := dk_28 (dk_at dksX1_change_4 23 rfl rfl)
theorem dX1_change_116 : decode cX1_change 116 = .ok (.iload_n 3, 1) := dk_29 (dk_at dksX1_change_5 0 rfl rfl)
theorem dX1_change_117 : decode cX1_change 117 = .ok (.iload_n 1, 1) := dk_27 (dk_at dksX1_change_5 1 rfl rfl)
theorem dX1_change_118 : decode cX1_change 118 = .ok (.invokevirtual 338, 3) := dk_182 1 82 (dk_at dksX1_change_5 2 rfl rfl)
theorem dX1_change_121 : decode cX1_change 121 = .ok (.iastore, 1) := dk_79 (dk_at dksX1_change_5 5 rfl rfl)
theorem dX1_change_122 : decode cX1_change 122 = .ok (.iinc 3 1, 3) := dk_132 3 1 (dk_at dksX1_change_5 6 rfl rfl)
theorem dX1_change_125 : decode cX1_change 125 = .ok (.goto (-39), 3) := dk_167 255 217 (dk_at dksX1_change_5 9 rfl rfl)
theorem dX1_change_128 : decode cX1_change 128 = .ok (.iinc 2 1, 3) := dk_132 2 1 (dk_at dksX1_change_5 12 rfl rfl)
theorem dX1_change_131 : decode cX1_change 131 = .ok (.goto (-55), 3) := dk_167 255 201 (dk_at dksX1_change_5 15 rfl rfl)
theorem dX1_change_134 : decode cX1_change 134 = .ok (.iconst 0, 1) := dk_3 (dk_at dksX1_change_5 18 rfl rfl)
theorem dX1_change_135 : decode cX1_change 135 = .ok (.istore_n 2, 1) := dk_61 (dk_at dksX1_change_5 19 rfl rfl)
theorem dX1_change_136 : decode cX1_change 136 = .ok (.iload_n 2, 1) := dk_28 (dk_at dksX1_change_5 20 rfl rfl)
theorem dX1_change_137 : decode cX1_change 137 = .ok (.aload_n 0, 1) := dk_42 (dk_at dksX1_change_5 21 rfl rfl)
theorem dX1_change_138 : decode cX1_change 138 = .ok (.getfield 199, 3) := dk_180 0 199 (dk_at dksX1_change_6 0 rfl rfl)
theorem dX1_change_141 : decode cX1_change 141 = .ok (.if_icmp .ge 173, 3) := dk_162 0 173 (dk_at dksX1_change_6 3 rfl rfl)
theorem dX1_change_144 : decode cX1_change 144 = .ok (.aload_n 0, 1) := dk_42 (dk_at dksX1_change_6 6 rfl rfl)
theorem dX1_change_145 : decode cX1_change 145 = .ok (.getfield 30, 3) := dk_180 0 30 (dk_at dksX1_change_6 7 rfl rfl)
theorem dX1_change_148 : decode cX1_change 148 = .ok (.iload_n 2, 1) := dk_28 (dk_at dksX1_change_6 10 rfl rfl)
theorem dX1_change_149 : decode cX1_change 149 = .ok (.aaload, 1) := dk_50 (dk_at dksX1_change_6 11 rfl rfl)
theorem dX1_change_150 : decode cX1_change 150 = .ok (.astore_n 3, 1) := dk_78 (dk_at dksX1_change_6 12 rfl rfl)
theorem dX1_change_151 : decode cX1_change 151 = .ok (.aload_n 0, 1) := dk_42 (dk_at dksX1_change_6 13 rfl rfl)
theorem dX1_change_152 : decode cX1_change 152 = .ok (.aload_n 3, 1) := dk_45 (dk_at dksX1_change_6 14 rfl rfl)
theorem dX1_change_153 : decode cX1_change 153 = .ok (.iload_n 1, 1) := dk_27 (dk_at dksX1_change_6 15 rfl rfl)
theorem dX1_change_154 : decode cX1_change 154 = .ok (.invokevirtual 318, 3) := dk_182 1 62 (dk_at dksX1_change_6 16 rfl rfl)
theorem dX1_change_157 : decode cX1_change 157 = .ok (.astore 4, 2) := dk_58 4 (dk_at dksX1_change_6 19 rfl rfl)
theorem dX1_change_159 : decode cX1_change 159 = .ok (.iconst 0, 1) := dk_3 (dk_at dksX1_change_6 21 rfl rfl)
theorem dX1_change_160 : decode cX1_change 160 = .ok (.istore 5, 2) := dk_54 5 (dk_at dksX1_change_6 22 rfl rfl)
theorem dX1_change_162 : decode cX1_change 162 = .ok (.iload 5, 2) := dk_21 5 (dk_at dksX1_change_7 0 rfl rfl)
theorem dX1_change_164 : decode cX1_change 164 = .ok (.aload_n 3, 1) := dk_45 (dk_at dksX1_change_7 2 rfl rfl)
theorem dX1_change_165 : decode cX1_change 165 = .ok (.invokevirtual 205, 3) := dk_182 0 205 (dk_at dksX1_change_7 3 rfl rfl)
theorem dX1_change_168 : decode cX1_change 168 = .ok (.if_icmp .ge 140, 3) := dk_162 0 140 (dk_at dksX1_change_7 6 rfl rfl)
theorem dX1_change_171 : decode cX1_change 171 = .ok (.aload_n 3, 1) := dk_45 (dk_at dksX1_change_7 9 rfl rfl)
theorem dX1_change_172 : decode cX1_change 172 = .ok (.iload 5, 2) := dk_21 5 (dk_at dksX1_change_7 10 rfl rfl)
theorem dX1_change_174 : decode cX1_change 174 = .ok (.invokevirtual 263, 3) := dk_182 1 7 (dk_at dksX1_change_7 12 rfl rfl)
theorem dX1_change_177 : decode cX1_change 177 = .ok (.istore 6, 2) := dk_54 6 (dk_at dksX1_change_7 15 rfl rfl)
theorem dX1_change_179 : decode cX1_change 179 = .ok (.aload 4, 2) := dk_25 4 (dk_at dksX1_change_7 17 rfl rfl)
theorem dX1_change_181 : decode cX1_change 181 = .ok (.getfield 322, 3) := dk_180 1 66 (dk_at dksX1_change_7 19 rfl rfl)
theorem dX1_change_184 : decode cX1_change 184 = .ok (.iload 5, 2) := dk_21 5 (dk_at dksX1_change_7 22 rfl rfl)
theorem dX1_change_186 : decode cX1_change 186 = .ok (.baload, 1) := dk_51 (dk_at dksX1_change_8 0 rfl rfl)
theorem dX1_change_187 : decode cX1_change 187 = .ok (.ifCond .eq 56, 3) := dk_153 0 56 (dk_at dksX1_change_8 1 rfl rfl)
theorem dX1_change_190 : decode cX1_change 190 = .ok (.aload 4, 2) := dk_25 4 (dk_at dksX1_change_8 4 rfl rfl)
theorem dX1_change_192 : decode cX1_change 192 = .ok (.getfield 248, 3) := dk_180 0 248 (dk_at dksX1_change_8 6 rfl rfl)
theorem dX1_change_195 : decode cX1_change 195 = .ok (.iload 5, 2) := dk_21 5 (dk_at dksX1_change_8 9 rfl rfl)
theorem dX1_change_197 : decode cX1_change 197 = .ok (.iaload, 1) := dk_46 (dk_at dksX1_change_8 11 rfl rfl)
theorem dX1_change_198 : decode cX1_change 198 = .ok (.iconst 1, 1) := dk_4 (dk_at dksX1_change_8 12 rfl rfl)
theorem dX1_change_199 : decode cX1_change 199 = .ok (.aload 4, 2) := dk_25 4 (dk_at dksX1_change_8 13 rfl rfl)
theorem dX1_change_201 : decode cX1_change 201 = .ok (.getfield 266, 3) := dk_180 1 10 (dk_at dksX1_change_8 15 rfl rfl)
theorem dX1_change_204 : decode cX1_change 204 = .ok (.iload 5, 2) := dk_21 5 (dk_at dksX1_change_8 18 rfl rfl)
theorem dX1_change_206 : decode cX1_change 206 = .ok (.iaload, 1) := dk_46 (dk_at dksX1_change_8 20 rfl rfl)
theorem dX1_change_207 : decode cX1_change 207 = .ok (.sipush 250, 3) := dk_17 0 250 (dk_at dksX1_change_8 21 rfl rfl)
theorem dX1_change_210 : decode cX1_change 210 = .ok (.idiv, 1) := dk_108 (dk_at dksX1_change_9 0 rfl rfl)
theorem dX1_change_211 : decode cX1_change 211 = .ok (.iadd, 1) := dk_96 (dk_at dksX1_change_9 1 rfl rfl)
theorem dX1_change_212 : decode cX1_change 212 = .ok (.invokestatic 342, 3) := dk_184 1 86 (dk_at dksX1_change_9 2 rfl rfl)
theorem dX1_change_215 : decode cX1_change 215 = .ok (.istore 7, 2) := dk_54 7 (dk_at dksX1_change_9 5 rfl rfl)
theorem dX1_change_217 : decode cX1_change 217 = .ok (.aload 4, 2) := dk_25 4 (dk_at dksX1_change_9 7 rfl rfl)
theorem dX1_change_219 : decode cX1_change 219 = .ok (.getfield 248, 3) := dk_180 0 248 (dk_at dksX1_change_9 9 rfl rfl)
theorem dX1_change_222 : decode cX1_change 222 = .ok (.iload 5, 2) := dk_21 5 (dk_at dksX1_change_9 12 rfl rfl)
theorem dX1_change_224 : decode cX1_change 224 = .ok (.dup2, 1) := dk_92 (dk_at dksX1_change_9 14 rfl rfl)
theorem dX1_change_225 : decode cX1_change 225 = .ok (.iaload, 1) := dk_46 (dk_at dksX1_change_9 15 rfl rfl)
theorem dX1_change_226 : decode cX1_change 226 = .ok (.iload 7, 2) := dk_21 7 (dk_at dksX1_change_9 16 rfl rfl)
theorem dX1_change_228 : decode cX1_change 228 = .ok (.isub, 1) := dk_100 (dk_at dksX1_change_9 18 rfl rfl)
theorem dX1_change_229 : decode cX1_change 229 = .ok (.iastore, 1) := dk_79 (dk_at dksX1_change_9 19 rfl rfl)
theorem dX1_change_230 : decode cX1_change 230 = .ok (.aload 4, 2) := dk_25 4 (dk_at dksX1_change_9 20 rfl rfl)
theorem dX1_change_232 : decode cX1_change 232 = .ok (.getfield 278, 3) := dk_180 1 22 (dk_at dksX1_change_10 0 rfl rfl)
theorem dX1_change_235 : decode cX1_change 235 = .ok (.iload 6, 2) := dk_21 6 (dk_at dksX1_change_10 3 rfl rfl)
theorem dX1_change_237 : decode cX1_change 237 = .ok (.dup2, 1) := dk_92 (dk_at dksX1_change_10 5 rfl rfl)
theorem dX1_change_238 : decode cX1_change 238 = .ok (.iaload, 1) := dk_46 (dk_at dksX1_change_10 6 rfl rfl)
theorem dX1_change_239 : decode cX1_change 239 = .ok (.iload 7, 2) := dk_21 7 (dk_at dksX1_change_10 7 rfl rfl)
theorem dX1_change_241 : decode cX1_change 241 = .ok (.iadd, 1) := dk_96 (dk_at dksX1_change_10 9 rfl rfl)
theorem dX1_change_242 : decode cX1_change 242 = .ok (.iastore, 1) := dk_79 (dk_at dksX1_change_10 10 rfl rfl)
theorem dX1_change_243 : decode cX1_change 243 = .ok (.aload 4, 2) := dk_25 4 (dk_at dksX1_change_10 11 rfl rfl)
theorem dX1_change_245 : decode cX1_change 245 = .ok (.getfield 266, 3) := dk_180 1 10 (dk_at dksX1_change_10 13 rfl rfl)
theorem dX1_change_248 : decode cX1_change 248 = .ok (.iload 5, 2) := dk_21 5 (dk_at dksX1_change_10 16 rfl rfl)
theorem dX1_change_250 : decode cX1_change 250 = .ok (.aload 4, 2) := dk_25 4 (dk_at dksX1_change_10 18 rfl rfl)
theorem dX1_change_252 : decode cX1_change 252 = .ok (.getfield 239, 3) := dk_180 0 239 (dk_at dksX1_change_10 20 rfl rfl)
theorem dX1_change_255 : decode cX1_change 255 = .ok (.iload 6, 2) := dk_21 6 (dk_at dksX1_change_11 0 rfl rfl)
theorem dX1_change_257 : decode cX1_change 257 = .ok (.baload, 1) := dk_51 (dk_at dksX1_change_11 2 rfl rfl)
theorem dX1_change_258 : decode cX1_change 258 = .ok (.ifCond .eq 7, 3) := dk_153 0 7 (dk_at dksX1_change_11 3 rfl rfl)
theorem dX1_change_261 : decode cX1_change 261 = .ok (.iconst 0, 1) := dk_3 (dk_at dksX1_change_11 6 rfl rfl)
theorem dX1_change_262 : decode cX1_change 262 = .ok (.goto 30, 3) := dk_167 0 30 (dk_at dksX1_change_11 7 rfl rfl)
theorem dX1_change_265 : decode cX1_change 265 = .ok (.iconst 0, 1) := dk_3 (dk_at dksX1_change_11 10 rfl rfl)
theorem dX1_change_266 : decode cX1_change 266 = .ok (.sipush 1000, 3) := dk_17 3 232 (dk_at dksX1_change_11 11 rfl rfl)
theorem dX1_change_269 : decode cX1_change 269 = .ok (.aload 4, 2) := dk_25 4 (dk_at dksX1_change_11 14 rfl rfl)
theorem dX1_change_271 : decode cX1_change 271 = .ok (.getfield 266, 3) := dk_180 1 10 (dk_at dksX1_change_11 16 rfl rfl)
theorem dX1_change_274 : decode cX1_change 274 = .ok (.iload 5, 2) := dk_21 5 (dk_at dksX1_change_11 19 rfl rfl)
theorem dX1_change_276 : decode cX1_change 276 = .ok (.iaload, 1) := dk_46 (dk_at dksX1_change_11 21 rfl rfl)
theorem dX1_change_277 : decode cX1_change 277 = .ok (.aload 4, 2) := dk_25 4 (dk_at dksX1_change_11 22 rfl rfl)
theorem dX1_change_279 : decode cX1_change 279 = .ok (.getfield 335, 3) := dk_180 1 79 (dk_at dksX1_change_12 0 rfl rfl)
theorem dX1_change_282 : decode cX1_change 282 = .ok (.iload 5, 2) := dk_21 5 (dk_at dksX1_change_12 3 rfl rfl)
theorem dX1_change_284 : decode cX1_change 284 = .ok (.iaload, 1) := dk_46 (dk_at dksX1_change_12 5 rfl rfl)
theorem dX1_change_285 : decode cX1_change 285 = .ok (.iadd, 1) := dk_96 (dk_at dksX1_change_12 6 rfl rfl)
theorem dX1_change_286 : decode cX1_change 286 = .ok (.invokestatic 342, 3) := dk_184 1 86 (dk_at dksX1_change_12 7 rfl rfl)
theorem dX1_change_289 : decode cX1_change 289 = .ok (.invokestatic 269, 3) := dk_184 1 13 (dk_at dksX1_change_12 10 rfl rfl)
theorem dX1_change_292 : decode cX1_change 292 = .ok (.iastore, 1) := dk_79 (dk_at dksX1_change_12 13 rfl rfl)
theorem dX1_change_293 : decode cX1_change 293 = .ok (.aload 4, 2) := dk_25 4 (dk_at dksX1_change_12 14 rfl rfl)
theorem dX1_change_295 : decode cX1_change 295 = .ok (.getfield 332, 3) := dk_180 1 76 (dk_at dksX1_change_12 16 rfl rfl)
theorem dX1_change_298 : decode cX1_change 298 = .ok (.iload 5, 2) := dk_21 5 (dk_at dksX1_change_12 19 rfl rfl)
theorem dX1_change_300 : decode cX1_change 300 = .ok (.iconst 0, 1) := dk_3 (dk_at dksX1_change_12 21 rfl rfl)
theorem dX1_change_301 : decode cX1_change 301 = .ok (.iastore, 1) := dk_79 (dk_at dksX1_change_12 22 rfl rfl)
theorem dX1_change_302 : decode cX1_change 302 = .ok (.iinc 5 1, 3) := dk_132 5 1 (dk_at dksX1_change_13 0 rfl rfl)
theorem dX1_change_305 : decode cX1_change 305 = .ok (.goto (-143), 3) := dk_167 255 113 (dk_at dksX1_change_13 3 rfl rfl)
theorem dX1_change_308 : decode cX1_change 308 = .ok (.iinc 2 1, 3) := dk_132 2 1 (dk_at dksX1_change_13 6 rfl rfl)
theorem dX1_change_311 : decode cX1_change 311 = .ok (.goto (-175), 3) := dk_167 255 81 (dk_at dksX1_change_13 9 rfl rfl)
theorem dX1_change_314 : decode cX1_change 314 = .ok (.iconst 0, 1) := dk_3 (dk_at dksX1_change_13 12 rfl rfl)
theorem dX1_change_315 : decode cX1_change 315 = .ok (.istore_n 2, 1) := dk_61 (dk_at dksX1_change_13 13 rfl rfl)
theorem dX1_change_316 : decode cX1_change 316 = .ok (.iload_n 2, 1) := dk_28 (dk_at dksX1_change_13 14 rfl rfl)
theorem dX1_change_317 : decode cX1_change 317 = .ok (.aload_n 0, 1) := dk_42 (dk_at dksX1_change_13 15 rfl rfl)
theorem dX1_change_318 : decode cX1_change 318 = .ok (.getfield 199, 3) := dk_180 0 199 (dk_at dksX1_change_13 16 rfl rfl)
theorem dX1_change_321 : decode cX1_change 321 = .ok (.if_icmp .ge 39, 3) := dk_162 0 39 (dk_at dksX1_change_13 19 rfl rfl)
theorem dX1_change_324 : decode cX1_change 324 = .ok (.aload_n 0, 1) := dk_42 (dk_at dksX1_change_13 22 rfl rfl)
theorem dX1_change_325 : decode cX1_change 325 = .ok (.aload_n 0, 1) := dk_42 (dk_at dksX1_change_13 23 rfl rfl)
theorem dX1_change_326 : decode cX1_change 326 = .ok (.getfield 30, 3) := dk_180 0 30 (dk_at dksX1_change_14 0 rfl rfl)
theorem dX1_change_329 : decode cX1_change 329 = .ok (.iload_n 2, 1) := dk_28 (dk_at dksX1_change_14 3 rfl rfl)
theorem dX1_change_330 : decode cX1_change 330 = .ok (.aaload, 1) := dk_50 (dk_at dksX1_change_14 4 rfl rfl)
theorem dX1_change_331 : decode cX1_change 331 = .ok (.aload_n 0, 1) := dk_42 (dk_at dksX1_change_14 5 rfl rfl)
theorem dX1_change_332 : decode cX1_change 332 = .ok (.aload_n 0, 1) := dk_42 (dk_at dksX1_change_14 6 rfl rfl)
theorem dX1_change_333 : decode cX1_change 333 = .ok (.getfield 30, 3) := dk_180 0 30 (dk_at dksX1_change_14 7 rfl rfl)
theorem dX1_change_336 : decode cX1_change 336 = .ok (.iload_n 2, 1) := dk_28 (dk_at dksX1_change_14 10 rfl rfl)
theorem dX1_change_337 : decode cX1_change 337 = .ok (.aaload, 1) := dk_50 (dk_at dksX1_change_14 11 rfl rfl)
theorem dX1_change_338 : decode cX1_change 338 = .ok (.iload_n 1, 1) := dk_27 (dk_at dksX1_change_14 12 rfl rfl)
theorem dX1_change_339 : decode cX1_change 339 = .ok (.invokevirtual 318, 3) := dk_182 1 62 (dk_at dksX1_change_14 13 rfl rfl)
theorem dX1_change_342 : decode cX1_change 342 = .ok (.iload_n 1, 1) := dk_27 (dk_at dksX1_change_14 16 rfl rfl)
theorem dX1_change_343 : decode cX1_change 343 = .ok (.ifCond .ne 7, 3) := dk_154 0 7 (dk_at dksX1_change_14 17 rfl rfl)
theorem dX1_change_346 : decode cX1_change 346 = .ok (.iconst 1, 1) := dk_4 (dk_at dksX1_change_14 20 rfl rfl)
theorem dX1_change_347 : decode cX1_change 347 = .ok (.goto 4, 3) := dk_167 0 4 (dk_at dksX1_change_14 21 rfl rfl)
theorem dX1_change_350 : decode cX1_change 350 = .ok (.iconst 0, 1) := dk_3 (dk_at dksX1_change_15 0 rfl rfl)
theorem dX1_change_351 : decode cX1_change 351 = .ok (.invokevirtual 345, 3) := dk_182 1 89 (dk_at dksX1_change_15 1 rfl rfl)
theorem dX1_change_354 : decode cX1_change 354 = .ok (.iinc 2 1, 3) := dk_132 2 1 (dk_at dksX1_change_15 4 rfl rfl)
theorem dX1_change_357 : decode cX1_change 357 = .ok (.goto (-41), 3) := dk_167 255 215 (dk_at dksX1_change_15 7 rfl rfl)
theorem dX1_change_360 : decode cX1_change 360 = .ok (.return_, 1) := dk_177 (dk_at dksX1_change_15 10 rfl rfl)
abbrev cX1_blazeOf : ByteArray := prog_1_method_30_code
def yX1_blazeOf : MethodName := ⟨RX1, "blazeOf", "(LCityBrigade$House;Z)LCityBrigade$Blaze;"⟩
def dkwX1_blazeOf_0 : List UInt8 := [28, 153, 0, 10, 43, 180, 1, 59, 167, 0, 7, 43, 180, 0, 235, 176]
abbrev dktX1_blazeOf_0 : List UInt8 := dkwX1_blazeOf_0 ++ []
theorem dksX1_blazeOf_0 : cX1_blazeOf.data.toList.drop 0 = dktX1_blazeOf_0 := by decide +kernel
theorem dX1_blazeOf_0 : decode cX1_blazeOf 0 = .ok (.iload_n 2, 1) := dk_28 (dk_at dksX1_blazeOf_0 0 rfl rfl)
theorem dX1_blazeOf_1 : decode cX1_blazeOf 1 = .ok (.ifCond .eq 10, 3) := dk_153 0 10 (dk_at dksX1_blazeOf_0 1 rfl rfl)
theorem dX1_blazeOf_4 : decode cX1_blazeOf 4 = .ok (.aload_n 1, 1) := dk_43 (dk_at dksX1_blazeOf_0 4 rfl rfl)
theorem dX1_blazeOf_5 : decode cX1_blazeOf 5 = .ok (.getfield 315, 3) := dk_180 1 59 (dk_at dksX1_blazeOf_0 5 rfl rfl)
theorem dX1_blazeOf_8 : decode cX1_blazeOf 8 = .ok (.goto 7, 3) := dk_167 0 7 (dk_at dksX1_blazeOf_0 8 rfl rfl)
theorem dX1_blazeOf_11 : decode cX1_blazeOf 11 = .ok (.aload_n 1, 1) := dk_43 (dk_at dksX1_blazeOf_0 11 rfl rfl)
theorem dX1_blazeOf_12 : decode cX1_blazeOf 12 = .ok (.getfield 235, 3) := dk_180 0 235 (dk_at dksX1_blazeOf_0 12 rfl rfl)
theorem dX1_blazeOf_15 : decode cX1_blazeOf 15 = .ok (.areturn, 1) := dk_176 (dk_at dksX1_blazeOf_0 15 rfl rfl)
abbrev cX1_gainOf : ByteArray := prog_1_method_32_code
def yX1_gainOf : MethodName := ⟨RX1, "gainOf", "(IIZ)I"⟩
def dkwX1_gainOf_10 : List UInt8 := [180, 1, 76, 28, 46, 7, 108, 100, 172]
abbrev dktX1_gainOf_10 : List UInt8 := dkwX1_gainOf_10 ++ []
def dkwX1_gainOf_9 : List UInt8 := [29, 182, 1, 72, 96, 42, 42, 27, 4, 182, 1, 55, 25, 4, 21, 6, 29, 182, 1, 72, 96, 25, 5]
abbrev dktX1_gainOf_9 : List UInt8 := dkwX1_gainOf_9 ++ dktX1_gainOf_10
def dkwX1_gainOf_8 : List UInt8 := [180, 0, 245, 96, 51, 153, 0, 6, 132, 8, 5, 21, 8, 42, 42, 27, 2, 182, 1, 55, 25, 4, 21, 6]
abbrev dktX1_gainOf_8 : List UInt8 := dkwX1_gainOf_8 ++ dktX1_gainOf_9
def dkwX1_gainOf_7 : List UInt8 := [54, 8, 21, 6, 25, 4, 180, 0, 209, 4, 100, 162, 0, 22, 25, 5, 180, 1, 66, 28, 25, 4]
abbrev dktX1_gainOf_7 : List UInt8 := dkwX1_gainOf_7 ++ dktX1_gainOf_8
def dkwX1_gainOf_6 : List UInt8 := [51, 153, 0, 25, 21, 8, 21, 7, 25, 4, 180, 1, 69, 160, 0, 8, 16, 60, 167, 0, 5, 16, 20, 96]
abbrev dktX1_gainOf_6 : List UInt8 := dkwX1_gainOf_6 ++ dktX1_gainOf_7
def dkwX1_gainOf_5 : List UInt8 := [21, 8, 21, 9, 96, 54, 8, 21, 6, 158, 0, 41, 25, 5, 180, 1, 66, 28, 25, 4, 180, 0, 245, 100]
abbrev dktX1_gainOf_5 : List UInt8 := dkwX1_gainOf_5 ++ dktX1_gainOf_6
def dkwX1_gainOf_4 : List UInt8 := [21, 7, 25, 4, 180, 0, 245, 4, 100, 162, 0, 22, 25, 5, 180, 1, 66, 28, 4, 96, 51, 153, 0, 10]
abbrev dktX1_gainOf_4 : List UInt8 := dkwX1_gainOf_4 ++ dktX1_gainOf_5
def dkwX1_gainOf_3 : List UInt8 := [21, 7, 158, 0, 22, 25, 5, 180, 1, 66, 28, 4, 100, 51, 153, 0, 10, 21, 8, 21, 9, 96, 54, 8]
abbrev dktX1_gainOf_3 : List UInt8 := dkwX1_gainOf_3 ++ dktX1_gainOf_4
def dkwX1_gainOf_2 : List UInt8 := [167, 0, 5, 16, 246, 54, 8, 25, 4, 180, 0, 215, 153, 0, 8, 16, 30, 167, 0, 5, 16, 10, 54, 9]
abbrev dktX1_gainOf_2 : List UInt8 := dkwX1_gainOf_2 ++ dktX1_gainOf_3
def dkwX1_gainOf_1 : List UInt8 := [54, 6, 28, 25, 4, 180, 0, 245, 112, 54, 7, 25, 5, 180, 1, 66, 28, 51, 153, 0, 8, 16, 50]
abbrev dktX1_gainOf_1 : List UInt8 := dkwX1_gainOf_1 ++ dktX1_gainOf_2
def dkwX1_gainOf_0 : List UInt8 := [42, 180, 0, 30, 27, 50, 58, 4, 42, 25, 4, 29, 182, 1, 62, 58, 5, 25, 4, 28, 182, 1, 7]
abbrev dktX1_gainOf_0 : List UInt8 := dkwX1_gainOf_0 ++ dktX1_gainOf_1
theorem dksX1_gainOf_0 : cX1_gainOf.data.toList.drop 0 = dktX1_gainOf_0 := by decide +kernel
theorem dksX1_gainOf_1 : cX1_gainOf.data.toList.drop 23 = dktX1_gainOf_1 := dk_seg dksX1_gainOf_0 23 rfl rfl
theorem dksX1_gainOf_2 : cX1_gainOf.data.toList.drop 46 = dktX1_gainOf_2 := dk_seg dksX1_gainOf_1 23 rfl rfl
theorem dksX1_gainOf_3 : cX1_gainOf.data.toList.drop 70 = dktX1_gainOf_3 := dk_seg dksX1_gainOf_2 24 rfl rfl
theorem dksX1_gainOf_4 : cX1_gainOf.data.toList.drop 94 = dktX1_gainOf_4 := dk_seg dksX1_gainOf_3 24 rfl rfl
theorem dksX1_gainOf_5 : cX1_gainOf.data.toList.drop 118 = dktX1_gainOf_5 := dk_seg dksX1_gainOf_4 24 rfl rfl
theorem dksX1_gainOf_6 : cX1_gainOf.data.toList.drop 142 = dktX1_gainOf_6 := dk_seg dksX1_gainOf_5 24 rfl rfl
theorem dksX1_gainOf_7 : cX1_gainOf.data.toList.drop 166 = dktX1_gainOf_7 := dk_seg dksX1_gainOf_6 24 rfl rfl
theorem dksX1_gainOf_8 : cX1_gainOf.data.toList.drop 188 = dktX1_gainOf_8 := dk_seg dksX1_gainOf_7 22 rfl rfl
theorem dksX1_gainOf_9 : cX1_gainOf.data.toList.drop 212 = dktX1_gainOf_9 := dk_seg dksX1_gainOf_8 24 rfl rfl
theorem dksX1_gainOf_10 : cX1_gainOf.data.toList.drop 235 = dktX1_gainOf_10 := dk_seg dksX1_gainOf_9 23 rfl rfl
theorem dX1_gainOf_0 : decode cX1_gainOf 0 = .ok (.aload_n 0, 1) := dk_42 (dk_at dksX1_gainOf_0 0 rfl rfl)
theorem dX1_gainOf_1 : decode cX1_gainOf 1 = .ok (.getfield 30, 3) := dk_180 0 30 (dk_at dksX1_gainOf_0 1 rfl rfl)
theorem dX1_gainOf_4 : decode cX1_gainOf 4 = .ok (.iload_n 1, 1) := dk_27 (dk_at dksX1_gainOf_0 4 rfl rfl)
theorem dX1_gainOf_5 : decode cX1_gainOf 5 = .ok (.aaload, 1) := dk_50 (dk_at dksX1_gainOf_0 5 rfl rfl)
theorem dX1_gainOf_6 : decode cX1_gainOf 6 = .ok (.astore 4, 2) := dk_58 4 (dk_at dksX1_gainOf_0 6 rfl rfl)
theorem dX1_gainOf_8 : decode cX1_gainOf 8 = .ok (.aload_n 0, 1) := dk_42 (dk_at dksX1_gainOf_0 8 rfl rfl)
theorem dX1_gainOf_9 : decode cX1_gainOf 9 = .ok (.aload 4, 2) := dk_25 4 (dk_at dksX1_gainOf_0 9 rfl rfl)
theorem dX1_gainOf_11 : decode cX1_gainOf 11 = .ok (.iload_n 3, 1) := dk_29 (dk_at dksX1_gainOf_0 11 rfl rfl)
theorem dX1_gainOf_12 : decode cX1_gainOf 12 = .ok (.invokevirtual 318, 3) := dk_182 1 62 (dk_at dksX1_gainOf_0 12 rfl rfl)
theorem dX1_gainOf_15 : decode cX1_gainOf 15 = .ok (.astore 5, 2) := dk_58 5 (dk_at dksX1_gainOf_0 15 rfl rfl)
theorem dX1_gainOf_17 : decode cX1_gainOf 17 = .ok (.aload 4, 2) := dk_25 4 (dk_at dksX1_gainOf_0 17 rfl rfl)
theorem dX1_gainOf_19 : decode cX1_gainOf 19 = .ok (.iload_n 2, 1) := dk_28 (dk_at dksX1_gainOf_0 19 rfl rfl)
theorem dX1_gainOf_20 : decode cX1_gainOf 20 = .ok (.invokevirtual 263, 3) := dk_182 1 7 (dk_at dksX1_gainOf_0 20 rfl rfl)
theorem dX1_gainOf_23 : decode cX1_gainOf 23 = .ok (.istore 6, 2) := dk_54 6 (dk_at dksX1_gainOf_1 0 rfl rfl)
theorem dX1_gainOf_25 : decode cX1_gainOf 25 = .ok (.iload_n 2, 1) := dk_28 (dk_at dksX1_gainOf_1 2 rfl rfl)
theorem dX1_gainOf_26 : decode cX1_gainOf 26 = .ok (.aload 4, 2) := dk_25 4 (dk_at dksX1_gainOf_1 3 rfl rfl)
theorem dX1_gainOf_28 : decode cX1_gainOf 28 = .ok (.getfield 245, 3) := dk_180 0 245 (dk_at dksX1_gainOf_1 5 rfl rfl)
theorem dX1_gainOf_31 : decode cX1_gainOf 31 = .ok (.irem, 1) := dk_112 (dk_at dksX1_gainOf_1 8 rfl rfl)
theorem dX1_gainOf_32 : decode cX1_gainOf 32 = .ok (.istore 7, 2) := dk_54 7 (dk_at dksX1_gainOf_1 9 rfl rfl)
theorem dX1_gainOf_34 : decode cX1_gainOf 34 = .ok (.aload 5, 2) := dk_25 5 (dk_at dksX1_gainOf_1 11 rfl rfl)
theorem dX1_gainOf_36 : decode cX1_gainOf 36 = .ok (.getfield 322, 3) := dk_180 1 66 (dk_at dksX1_gainOf_1 13 rfl rfl)
theorem dX1_gainOf_39 : decode cX1_gainOf 39 = .ok (.iload_n 2, 1) := dk_28 (dk_at dksX1_gainOf_1 16 rfl rfl)
theorem dX1_gainOf_40 : decode cX1_gainOf 40 = .ok (.baload, 1) := dk_51 (dk_at dksX1_gainOf_1 17 rfl rfl)
theorem dX1_gainOf_41 : decode cX1_gainOf 41 = .ok (.ifCond .eq 8, 3) := dk_153 0 8 (dk_at dksX1_gainOf_1 18 rfl rfl)
theorem dX1_gainOf_44 : decode cX1_gainOf 44 = .ok (.bipush 50, 2) := dk_16 50 (dk_at dksX1_gainOf_1 21 rfl rfl)
theorem dX1_gainOf_46 : decode cX1_gainOf 46 = .ok (.goto 5, 3) := dk_167 0 5 (dk_at dksX1_gainOf_2 0 rfl rfl)
theorem dX1_gainOf_49 : decode cX1_gainOf 49 = .ok (.bipush (-10), 2) := dk_16 246 (dk_at dksX1_gainOf_2 3 rfl rfl)
theorem dX1_gainOf_51 : decode cX1_gainOf 51 = .ok (.istore 8, 2) := dk_54 8 (dk_at dksX1_gainOf_2 5 rfl rfl)
theorem dX1_gainOf_53 : decode cX1_gainOf 53 = .ok (.aload 4, 2) := dk_25 4 (dk_at dksX1_gainOf_2 7 rfl rfl)
theorem dX1_gainOf_55 : decode cX1_gainOf 55 = .ok (.getfield 215, 3) := dk_180 0 215 (dk_at dksX1_gainOf_2 9 rfl rfl)
theorem dX1_gainOf_58 : decode cX1_gainOf 58 = .ok (.ifCond .eq 8, 3) := dk_153 0 8 (dk_at dksX1_gainOf_2 12 rfl rfl)
theorem dX1_gainOf_61 : decode cX1_gainOf 61 = .ok (.bipush 30, 2) := dk_16 30 (dk_at dksX1_gainOf_2 15 rfl rfl)
theorem dX1_gainOf_63 : decode cX1_gainOf 63 = .ok (.goto 5, 3) := dk_167 0 5 (dk_at dksX1_gainOf_2 17 rfl rfl)
theorem dX1_gainOf_66 : decode cX1_gainOf 66 = .ok (.bipush 10, 2) := dk_16 10 (dk_at dksX1_gainOf_2 20 rfl rfl)
theorem dX1_gainOf_68 : decode cX1_gainOf 68 = .ok (.istore 9, 2) := dk_54 9 (dk_at dksX1_gainOf_2 22 rfl rfl)
theorem dX1_gainOf_70 : decode cX1_gainOf 70 = .ok (.iload 7, 2) := dk_21 7 (dk_at dksX1_gainOf_3 0 rfl rfl)
theorem dX1_gainOf_72 : decode cX1_gainOf 72 = .ok (.ifCond .le 22, 3) := dk_158 0 22 (dk_at dksX1_gainOf_3 2 rfl rfl)
theorem dX1_gainOf_75 : decode cX1_gainOf 75 = .ok (.aload 5, 2) := dk_25 5 (dk_at dksX1_gainOf_3 5 rfl rfl)
theorem dX1_gainOf_77 : decode cX1_gainOf 77 = .ok (.getfield 322, 3) := dk_180 1 66 (dk_at dksX1_gainOf_3 7 rfl rfl)
theorem dX1_gainOf_80 : decode cX1_gainOf 80 = .ok (.iload_n 2, 1) := dk_28 (dk_at dksX1_gainOf_3 10 rfl rfl)
theorem dX1_gainOf_81 : decode cX1_gainOf 81 = .ok (.iconst 1, 1) := dk_4 (dk_at dksX1_gainOf_3 11 rfl rfl)
theorem dX1_gainOf_82 : decode cX1_gainOf 82 = .ok (.isub, 1) := dk_100 (dk_at dksX1_gainOf_3 12 rfl rfl)
theorem dX1_gainOf_83 : decode cX1_gainOf 83 = .ok (.baload, 1) := dk_51 (dk_at dksX1_gainOf_3 13 rfl rfl)
theorem dX1_gainOf_84 : decode cX1_gainOf 84 = .ok (.ifCond .eq 10, 3) := dk_153 0 10 (dk_at dksX1_gainOf_3 14 rfl rfl)
theorem dX1_gainOf_87 : decode cX1_gainOf 87 = .ok (.iload 8, 2) := dk_21 8 (dk_at dksX1_gainOf_3 17 rfl rfl)
theorem dX1_gainOf_89 : decode cX1_gainOf 89 = .ok (.iload 9, 2) := dk_21 9 (dk_at dksX1_gainOf_3 19 rfl rfl)
theorem dX1_gainOf_91 : decode cX1_gainOf 91 = .ok (.iadd, 1) := dk_96 (dk_at dksX1_gainOf_3 21 rfl rfl)
theorem dX1_gainOf_92 : decode cX1_gainOf 92 = .ok (.istore 8, 2) := dk_54 8 (dk_at dksX1_gainOf_3 22 rfl rfl)
theorem dX1_gainOf_94 : decode cX1_gainOf 94 = .ok (.iload 7, 2) := dk_21 7 (dk_at dksX1_gainOf_4 0 rfl rfl)
theorem dX1_gainOf_96 : decode cX1_gainOf 96 = .ok (.aload 4, 2) := dk_25 4 (dk_at dksX1_gainOf_4 2 rfl rfl)
theorem dX1_gainOf_98 : decode cX1_gainOf 98 = .ok (.getfield 245, 3) := dk_180 0 245 (dk_at dksX1_gainOf_4 4 rfl rfl)
theorem dX1_gainOf_101 : decode cX1_gainOf 101 = .ok (.iconst 1, 1) := dk_4 (dk_at dksX1_gainOf_4 7 rfl rfl)
theorem dX1_gainOf_102 : decode cX1_gainOf 102 = .ok (.isub, 1) := dk_100 (dk_at dksX1_gainOf_4 8 rfl rfl)
theorem dX1_gainOf_103 : decode cX1_gainOf 103 = .ok (.if_icmp .ge 22, 3) := dk_162 0 22 (dk_at dksX1_gainOf_4 9 rfl rfl)
theorem dX1_gainOf_106 : decode cX1_gainOf 106 = .ok (.aload 5, 2) := dk_25 5 (dk_at dksX1_gainOf_4 12 rfl rfl)
theorem dX1_gainOf_108 : decode cX1_gainOf 108 = .ok (.getfield 322, 3) := dk_180 1 66 (dk_at dksX1_gainOf_4 14 rfl rfl)
theorem dX1_gainOf_111 : decode cX1_gainOf 111 = .ok (.iload_n 2, 1) := dk_28 (dk_at dksX1_gainOf_4 17 rfl rfl)
theorem dX1_gainOf_112 : decode cX1_gainOf 112 = .ok (.iconst 1, 1) := dk_4 (dk_at dksX1_gainOf_4 18 rfl rfl)
theorem dX1_gainOf_113 : decode cX1_gainOf 113 = .ok (.iadd, 1) := dk_96 (dk_at dksX1_gainOf_4 19 rfl rfl)
theorem dX1_gainOf_114 : decode cX1_gainOf 114 = .ok (.baload, 1) := dk_51 (dk_at dksX1_gainOf_4 20 rfl rfl)
theorem dX1_gainOf_115 : decode cX1_gainOf 115 = .ok (.ifCond .eq 10, 3) := dk_153 0 10 (dk_at dksX1_gainOf_4 21 rfl rfl)
theorem dX1_gainOf_118 : decode cX1_gainOf 118 = .ok (.iload 8, 2) := dk_21 8 (dk_at dksX1_gainOf_5 0 rfl rfl)
theorem dX1_gainOf_120 : decode cX1_gainOf 120 = .ok (.iload 9, 2) := dk_21 9 (dk_at dksX1_gainOf_5 2 rfl rfl)
theorem dX1_gainOf_122 : decode cX1_gainOf 122 = .ok (.iadd, 1) := dk_96 (dk_at dksX1_gainOf_5 4 rfl rfl)
theorem dX1_gainOf_123 : decode cX1_gainOf 123 = .ok (.istore 8, 2) := dk_54 8 (dk_at dksX1_gainOf_5 5 rfl rfl)
theorem dX1_gainOf_125 : decode cX1_gainOf 125 = .ok (.iload 6, 2) := dk_21 6 (dk_at dksX1_gainOf_5 7 rfl rfl)
theorem dX1_gainOf_127 : decode cX1_gainOf 127 = .ok (.ifCond .le 41, 3) := dk_158 0 41 (dk_at dksX1_gainOf_5 9 rfl rfl)
theorem dX1_gainOf_130 : decode cX1_gainOf 130 = .ok (.aload 5, 2) := dk_25 5 (dk_at dksX1_gainOf_5 12 rfl rfl)
theorem dX1_gainOf_132 : decode cX1_gainOf 132 = .ok (.getfield 322, 3) := dk_180 1 66 (dk_at dksX1_gainOf_5 14 rfl rfl)
theorem dX1_gainOf_135 : decode cX1_gainOf 135 = .ok (.iload_n 2, 1) := dk_28 (dk_at dksX1_gainOf_5 17 rfl rfl)
theorem dX1_gainOf_136 : decode cX1_gainOf 136 = .ok (.aload 4, 2) := dk_25 4 (dk_at dksX1_gainOf_5 18 rfl rfl)
theorem dX1_gainOf_138 : decode cX1_gainOf 138 = .ok (.getfield 245, 3) := dk_180 0 245 (dk_at dksX1_gainOf_5 20 rfl rfl)
theorem dX1_gainOf_141 : decode cX1_gainOf 141 = .ok (.isub, 1) := dk_100 (dk_at dksX1_gainOf_5 23 rfl rfl)
theorem dX1_gainOf_142 : decode cX1_gainOf 142 = .ok (.baload, 1) := dk_51 (dk_at dksX1_gainOf_6 0 rfl rfl)
theorem dX1_gainOf_143 : decode cX1_gainOf 143 = .ok (.ifCond .eq 25, 3) := dk_153 0 25 (dk_at dksX1_gainOf_6 1 rfl rfl)
theorem dX1_gainOf_146 : decode cX1_gainOf 146 = .ok (.iload 8, 2) := dk_21 8 (dk_at dksX1_gainOf_6 4 rfl rfl)
theorem dX1_gainOf_148 : decode cX1_gainOf 148 = .ok (.iload 7, 2) := dk_21 7 (dk_at dksX1_gainOf_6 6 rfl rfl)
theorem dX1_gainOf_150 : decode cX1_gainOf 150 = .ok (.aload 4, 2) := dk_25 4 (dk_at dksX1_gainOf_6 8 rfl rfl)
theorem dX1_gainOf_152 : decode cX1_gainOf 152 = .ok (.getfield 325, 3) := dk_180 1 69 (dk_at dksX1_gainOf_6 10 rfl rfl)
theorem dX1_gainOf_155 : decode cX1_gainOf 155 = .ok (.if_icmp .ne 8, 3) := dk_160 0 8 (dk_at dksX1_gainOf_6 13 rfl rfl)
theorem dX1_gainOf_158 : decode cX1_gainOf 158 = .ok (.bipush 60, 2) := dk_16 60 (dk_at dksX1_gainOf_6 16 rfl rfl)
theorem dX1_gainOf_160 : decode cX1_gainOf 160 = .ok (.goto 5, 3) := dk_167 0 5 (dk_at dksX1_gainOf_6 18 rfl rfl)
theorem dX1_gainOf_163 : decode cX1_gainOf 163 = .ok (.bipush 20, 2) := dk_16 20 (dk_at dksX1_gainOf_6 21 rfl rfl)
theorem dX1_gainOf_165 : decode cX1_gainOf 165 = .ok (.iadd, 1) := dk_96 (dk_at dksX1_gainOf_6 23 rfl rfl)
theorem dX1_gainOf_166 : decode cX1_gainOf 166 = .ok (.istore 8, 2) := dk_54 8 (dk_at dksX1_gainOf_7 0 rfl rfl)
theorem dX1_gainOf_168 : decode cX1_gainOf 168 = .ok (.iload 6, 2) := dk_21 6 (dk_at dksX1_gainOf_7 2 rfl rfl)
theorem dX1_gainOf_170 : decode cX1_gainOf 170 = .ok (.aload 4, 2) := dk_25 4 (dk_at dksX1_gainOf_7 4 rfl rfl)
theorem dX1_gainOf_172 : decode cX1_gainOf 172 = .ok (.getfield 209, 3) := dk_180 0 209 (dk_at dksX1_gainOf_7 6 rfl rfl)
theorem dX1_gainOf_175 : decode cX1_gainOf 175 = .ok (.iconst 1, 1) := dk_4 (dk_at dksX1_gainOf_7 9 rfl rfl)
theorem dX1_gainOf_176 : decode cX1_gainOf 176 = .ok (.isub, 1) := dk_100 (dk_at dksX1_gainOf_7 10 rfl rfl)
theorem dX1_gainOf_177 : decode cX1_gainOf 177 = .ok (.if_icmp .ge 22, 3) := dk_162 0 22 (dk_at dksX1_gainOf_7 11 rfl rfl)
theorem dX1_gainOf_180 : decode cX1_gainOf 180 = .ok (.aload 5, 2) := dk_25 5 (dk_at dksX1_gainOf_7 14 rfl rfl)
theorem dX1_gainOf_182 : decode cX1_gainOf 182 = .ok (.getfield 322, 3) := dk_180 1 66 (dk_at dksX1_gainOf_7 16 rfl rfl)
theorem dX1_gainOf_185 : decode cX1_gainOf 185 = .ok (.iload_n 2, 1) := dk_28 (dk_at dksX1_gainOf_7 19 rfl rfl)
theorem dX1_gainOf_186 : decode cX1_gainOf 186 = .ok (.aload 4, 2) := dk_25 4 (dk_at dksX1_gainOf_7 20 rfl rfl)
theorem dX1_gainOf_188 : decode cX1_gainOf 188 = .ok (.getfield 245, 3) := dk_180 0 245 (dk_at dksX1_gainOf_8 0 rfl rfl)
theorem dX1_gainOf_191 : decode cX1_gainOf 191 = .ok (.iadd, 1) := dk_96 (dk_at dksX1_gainOf_8 3 rfl rfl)
theorem dX1_gainOf_192 : decode cX1_gainOf 192 = .ok (.baload, 1) := dk_51 (dk_at dksX1_gainOf_8 4 rfl rfl)
theorem dX1_gainOf_193 : decode cX1_gainOf 193 = .ok (.ifCond .eq 6, 3) := dk_153 0 6 (dk_at dksX1_gainOf_8 5 rfl rfl)
theorem dX1_gainOf_196 : decode cX1_gainOf 196 = .ok (.iinc 8 5, 3) := dk_132 8 5 (dk_at dksX1_gainOf_8 8 rfl rfl)
theorem dX1_gainOf_199 : decode cX1_gainOf 199 = .ok (.iload 8, 2) := dk_21 8 (dk_at dksX1_gainOf_8 11 rfl rfl)
theorem dX1_gainOf_201 : decode cX1_gainOf 201 = .ok (.aload_n 0, 1) := dk_42 (dk_at dksX1_gainOf_8 13 rfl rfl)
theorem dX1_gainOf_202 : decode cX1_gainOf 202 = .ok (.aload_n 0, 1) := dk_42 (dk_at dksX1_gainOf_8 14 rfl rfl)
theorem dX1_gainOf_203 : decode cX1_gainOf 203 = .ok (.iload_n 1, 1) := dk_27 (dk_at dksX1_gainOf_8 15 rfl rfl)
theorem dX1_gainOf_204 : decode cX1_gainOf 204 = .ok (.iconst (-1), 1) := dk_2 (dk_at dksX1_gainOf_8 16 rfl rfl)
theorem dX1_gainOf_205 : decode cX1_gainOf 205 = .ok (.invokevirtual 311, 3) := dk_182 1 55 (dk_at dksX1_gainOf_8 17 rfl rfl)
theorem dX1_gainOf_208 : decode cX1_gainOf 208 = .ok (.aload 4, 2) := dk_25 4 (dk_at dksX1_gainOf_8 20 rfl rfl)
theorem dX1_gainOf_210 : decode cX1_gainOf 210 = .ok (.iload 6, 2) := dk_21 6 (dk_at dksX1_gainOf_8 22 rfl rfl)
theorem dX1_gainOf_212 : decode cX1_gainOf 212 = .ok (.iload_n 3, 1) := dk_29 (dk_at dksX1_gainOf_9 0 rfl rfl)
theorem dX1_gainOf_213 : decode cX1_gainOf 213 = .ok (.invokevirtual 328, 3) := dk_182 1 72 (dk_at dksX1_gainOf_9 1 rfl rfl)
theorem dX1_gainOf_216 : decode cX1_gainOf 216 = .ok (.iadd, 1) := dk_96 (dk_at dksX1_gainOf_9 4 rfl rfl)
theorem dX1_gainOf_217 : decode cX1_gainOf 217 = .ok (.aload_n 0, 1) := dk_42 (dk_at dksX1_gainOf_9 5 rfl rfl)
theorem dX1_gainOf_218 : decode cX1_gainOf 218 = .ok (.aload_n 0, 1) := dk_42 (dk_at dksX1_gainOf_9 6 rfl rfl)
theorem dX1_gainOf_219 : decode cX1_gainOf 219 = .ok (.iload_n 1, 1) := dk_27 (dk_at dksX1_gainOf_9 7 rfl rfl)
theorem dX1_gainOf_220 : decode cX1_gainOf 220 = .ok (.iconst 1, 1) := dk_4 (dk_at dksX1_gainOf_9 8 rfl rfl)
theorem dX1_gainOf_221 : decode cX1_gainOf 221 = .ok (.invokevirtual 311, 3) := dk_182 1 55 (dk_at dksX1_gainOf_9 9 rfl rfl)
theorem dX1_gainOf_224 : decode cX1_gainOf 224 = .ok (.aload 4, 2) := dk_25 4 (dk_at dksX1_gainOf_9 12 rfl rfl)
theorem dX1_gainOf_226 : decode cX1_gainOf 226 = .ok (.iload 6, 2) := dk_21 6 (dk_at dksX1_gainOf_9 14 rfl rfl)
theorem dX1_gainOf_228 : decode cX1_gainOf 228 = .ok (.iload_n 3, 1) := dk_29 (dk_at dksX1_gainOf_9 16 rfl rfl)
theorem dX1_gainOf_229 : decode cX1_gainOf 229 = .ok (.invokevirtual 328, 3) := dk_182 1 72 (dk_at dksX1_gainOf_9 17 rfl rfl)
theorem dX1_gainOf_232 : decode cX1_gainOf 232 = .ok (.iadd, 1) := dk_96 (dk_at dksX1_gainOf_9 20 rfl rfl)
theorem dX1_gainOf_233 : decode cX1_gainOf 233 = .ok (.aload 5, 2) := dk_25 5 (dk_at dksX1_gainOf_9 21 rfl rfl)
theorem dX1_gainOf_235 : decode cX1_gainOf 235 = .ok (.getfield 332, 3) := dk_180 1 76 (dk_at dksX1_gainOf_10 0 rfl rfl)
theorem dX1_gainOf_238 : decode cX1_gainOf 238 = .ok (.iload_n 2, 1) := dk_28 (dk_at dksX1_gainOf_10 3 rfl rfl)
theorem dX1_gainOf_239 : decode cX1_gainOf 239 = .ok (.iaload, 1) := dk_46 (dk_at dksX1_gainOf_10 4 rfl rfl)
theorem dX1_gainOf_240 : decode cX1_gainOf 240 = .ok (.iconst 4, 1) := dk_7 (dk_at dksX1_gainOf_10 5 rfl rfl)
theorem dX1_gainOf_241 : decode cX1_gainOf 241 = .ok (.idiv, 1) := dk_108 (dk_at dksX1_gainOf_10 6 rfl rfl)
theorem dX1_gainOf_242 : decode cX1_gainOf 242 = .ok (.isub, 1) := dk_100 (dk_at dksX1_gainOf_10 7 rfl rfl)
theorem dX1_gainOf_243 : decode cX1_gainOf 243 = .ok (.ireturn, 1) := dk_172 (dk_at dksX1_gainOf_10 8 rfl rfl)
abbrev cX1_beside : ByteArray := prog_1_method_28_code
def yX1_beside : MethodName := ⟨RX1, "beside", "(II)LCityBrigade$House;"⟩
def dkwX1_beside_2 : List UInt8 := [96, 62, 167, 255, 212, 1, 176]
abbrev dktX1_beside_2 : List UInt8 := dkwX1_beside_2 ++ []
def dkwX1_beside_1 : List UInt8 := [180, 1, 52, 42, 180, 0, 30, 27, 50, 180, 1, 52, 160, 0, 10, 42, 180, 0, 30, 29, 50, 176, 29, 28]
abbrev dktX1_beside_1 : List UInt8 := dkwX1_beside_1 ++ dktX1_beside_2
def dkwX1_beside_0 : List UInt8 := [27, 28, 96, 62, 29, 155, 0, 46, 29, 42, 180, 0, 199, 162, 0, 38, 42, 180, 0, 30, 29, 50]
abbrev dktX1_beside_0 : List UInt8 := dkwX1_beside_0 ++ dktX1_beside_1
theorem dksX1_beside_0 : cX1_beside.data.toList.drop 0 = dktX1_beside_0 := by decide +kernel
theorem dksX1_beside_1 : cX1_beside.data.toList.drop 22 = dktX1_beside_1 := dk_seg dksX1_beside_0 22 rfl rfl
theorem dksX1_beside_2 : cX1_beside.data.toList.drop 46 = dktX1_beside_2 := dk_seg dksX1_beside_1 24 rfl rfl
theorem dX1_beside_0 : decode cX1_beside 0 = .ok (.iload_n 1, 1) := dk_27 (dk_at dksX1_beside_0 0 rfl rfl)
theorem dX1_beside_1 : decode cX1_beside 1 = .ok (.iload_n 2, 1) := dk_28 (dk_at dksX1_beside_0 1 rfl rfl)
theorem dX1_beside_2 : decode cX1_beside 2 = .ok (.iadd, 1) := dk_96 (dk_at dksX1_beside_0 2 rfl rfl)
theorem dX1_beside_3 : decode cX1_beside 3 = .ok (.istore_n 3, 1) := dk_62 (dk_at dksX1_beside_0 3 rfl rfl)
theorem dX1_beside_4 : decode cX1_beside 4 = .ok (.iload_n 3, 1) := dk_29 (dk_at dksX1_beside_0 4 rfl rfl)
theorem dX1_beside_5 : decode cX1_beside 5 = .ok (.ifCond .lt 46, 3) := dk_155 0 46 (dk_at dksX1_beside_0 5 rfl rfl)
theorem dX1_beside_8 : decode cX1_beside 8 = .ok (.iload_n 3, 1) := dk_29 (dk_at dksX1_beside_0 8 rfl rfl)
theorem dX1_beside_9 : decode cX1_beside 9 = .ok (.aload_n 0, 1) := dk_42 (dk_at dksX1_beside_0 9 rfl rfl)
theorem dX1_beside_10 : decode cX1_beside 10 = .ok (.getfield 199, 3) := dk_180 0 199 (dk_at dksX1_beside_0 10 rfl rfl)
theorem dX1_beside_13 : decode cX1_beside 13 = .ok (.if_icmp .ge 38, 3) := dk_162 0 38 (dk_at dksX1_beside_0 13 rfl rfl)
theorem dX1_beside_16 : decode cX1_beside 16 = .ok (.aload_n 0, 1) := dk_42 (dk_at dksX1_beside_0 16 rfl rfl)
theorem dX1_beside_17 : decode cX1_beside 17 = .ok (.getfield 30, 3) := dk_180 0 30 (dk_at dksX1_beside_0 17 rfl rfl)
theorem dX1_beside_20 : decode cX1_beside 20 = .ok (.iload_n 3, 1) := dk_29 (dk_at dksX1_beside_0 20 rfl rfl)
theorem dX1_beside_21 : decode cX1_beside 21 = .ok (.aaload, 1) := dk_50 (dk_at dksX1_beside_0 21 rfl rfl)
theorem dX1_beside_22 : decode cX1_beside 22 = .ok (.getfield 308, 3) := dk_180 1 52 (dk_at dksX1_beside_1 0 rfl rfl)
theorem dX1_beside_25 : decode cX1_beside 25 = .ok (.aload_n 0, 1) := dk_42 (dk_at dksX1_beside_1 3 rfl rfl)
theorem dX1_beside_26 : decode cX1_beside 26 = .ok (.getfield 30, 3) := dk_180 0 30 (dk_at dksX1_beside_1 4 rfl rfl)
theorem dX1_beside_29 : decode cX1_beside 29 = .ok (.iload_n 1, 1) := dk_27 (dk_at dksX1_beside_1 7 rfl rfl)
theorem dX1_beside_30 : decode cX1_beside 30 = .ok (.aaload, 1) := dk_50 (dk_at dksX1_beside_1 8 rfl rfl)
theorem dX1_beside_31 : decode cX1_beside 31 = .ok (.getfield 308, 3) := dk_180 1 52 (dk_at dksX1_beside_1 9 rfl rfl)
theorem dX1_beside_34 : decode cX1_beside 34 = .ok (.if_icmp .ne 10, 3) := dk_160 0 10 (dk_at dksX1_beside_1 12 rfl rfl)
theorem dX1_beside_37 : decode cX1_beside 37 = .ok (.aload_n 0, 1) := dk_42 (dk_at dksX1_beside_1 15 rfl rfl)
theorem dX1_beside_38 : decode cX1_beside 38 = .ok (.getfield 30, 3) := dk_180 0 30 (dk_at dksX1_beside_1 16 rfl rfl)
theorem dX1_beside_41 : decode cX1_beside 41 = .ok (.iload_n 3, 1) := dk_29 (dk_at dksX1_beside_1 19 rfl rfl)
theorem dX1_beside_42 : decode cX1_beside 42 = .ok (.aaload, 1) := dk_50 (dk_at dksX1_beside_1 20 rfl rfl)
theorem dX1_beside_43 : decode cX1_beside 43 = .ok (.areturn, 1) := dk_176 (dk_at dksX1_beside_1 21 rfl rfl)
theorem dX1_beside_44 : decode cX1_beside 44 = .ok (.iload_n 3, 1) := dk_29 (dk_at dksX1_beside_1 22 rfl rfl)
theorem dX1_beside_45 : decode cX1_beside 45 = .ok (.iload_n 2, 1) := dk_28 (dk_at dksX1_beside_1 23 rfl rfl)
theorem dX1_beside_46 : decode cX1_beside 46 = .ok (.iadd, 1) := dk_96 (dk_at dksX1_beside_2 0 rfl rfl)
theorem dX1_beside_47 : decode cX1_beside 47 = .ok (.istore_n 3, 1) := dk_62 (dk_at dksX1_beside_2 1 rfl rfl)
theorem dX1_beside_48 : decode cX1_beside 48 = .ok (.goto (-44), 3) := dk_167 255 212 (dk_at dksX1_beside_2 2 rfl rfl)
theorem dX1_beside_51 : decode cX1_beside 51 = .ok (.aconst_null, 1) := dk_1 (dk_at dksX1_beside_2 5 rfl rfl)
theorem dX1_beside_52 : decode cX1_beside 52 = .ok (.areturn, 1) := dk_176 (dk_at dksX1_beside_2 6 rfl rfl)
abbrev cX1_gainBy : ByteArray := prog_1_method_31_code
def yX1_gainBy : MethodName := ⟨RX1, "gainBy", "(LCityBrigade$House;LCityBrigade$House;IZ)I"⟩
def dkwX1_gainBy_3 : List UInt8 := [43, 180, 0, 218, 96, 108, 104, 172]
abbrev dktX1_gainBy_3 : List UInt8 := dkwX1_gainBy_3 ++ []
def dkwX1_gainBy_2 : List UInt8 := [96, 51, 153, 0, 6, 132, 5, 1, 132, 6, 1, 167, 255, 218, 21, 5, 16, 24, 4, 44, 180, 0, 218, 96]
abbrev dktX1_gainBy_2 : List UInt8 := dkwX1_gainBy_2 ++ dktX1_gainBy_3
def dkwX1_gainBy_1 : List UInt8 := [180, 0, 245, 162, 0, 35, 42, 43, 21, 4, 182, 1, 62, 180, 1, 66, 29, 43, 180, 0, 245, 104, 21, 6]
abbrev dktX1_gainBy_1 : List UInt8 := dkwX1_gainBy_1 ++ dktX1_gainBy_2
def dkwX1_gainBy_0 : List UInt8 := [43, 198, 0, 11, 29, 43, 180, 0, 209, 161, 0, 5, 3, 172, 3, 54, 5, 3, 54, 6, 21, 6, 43]
abbrev dktX1_gainBy_0 : List UInt8 := dkwX1_gainBy_0 ++ dktX1_gainBy_1
theorem dksX1_gainBy_0 : cX1_gainBy.data.toList.drop 0 = dktX1_gainBy_0 := by decide +kernel
theorem dksX1_gainBy_1 : cX1_gainBy.data.toList.drop 23 = dktX1_gainBy_1 := dk_seg dksX1_gainBy_0 23 rfl rfl
theorem dksX1_gainBy_2 : cX1_gainBy.data.toList.drop 47 = dktX1_gainBy_2 := dk_seg dksX1_gainBy_1 24 rfl rfl
theorem dksX1_gainBy_3 : cX1_gainBy.data.toList.drop 71 = dktX1_gainBy_3 := dk_seg dksX1_gainBy_2 24 rfl rfl
theorem dX1_gainBy_0 : decode cX1_gainBy 0 = .ok (.aload_n 1, 1) := dk_43 (dk_at dksX1_gainBy_0 0 rfl rfl)
theorem dX1_gainBy_1 : decode cX1_gainBy 1 = .ok (.ifnull 11, 3) := dk_198 0 11 (dk_at dksX1_gainBy_0 1 rfl rfl)
theorem dX1_gainBy_4 : decode cX1_gainBy 4 = .ok (.iload_n 3, 1) := dk_29 (dk_at dksX1_gainBy_0 4 rfl rfl)
theorem dX1_gainBy_5 : decode cX1_gainBy 5 = .ok (.aload_n 1, 1) := dk_43 (dk_at dksX1_gainBy_0 5 rfl rfl)
theorem dX1_gainBy_6 : decode cX1_gainBy 6 = .ok (.getfield 209, 3) := dk_180 0 209 (dk_at dksX1_gainBy_0 6 rfl rfl)
theorem dX1_gainBy_9 : decode cX1_gainBy 9 = .ok (.if_icmp .lt 5, 3) := dk_161 0 5 (dk_at dksX1_gainBy_0 9 rfl rfl)
theorem dX1_gainBy_12 : decode cX1_gainBy 12 = .ok (.iconst 0, 1) := dk_3 (dk_at dksX1_gainBy_0 12 rfl rfl)
theorem dX1_gainBy_13 : decode cX1_gainBy 13 = .ok (.ireturn, 1) := dk_172 (dk_at dksX1_gainBy_0 13 rfl rfl)
theorem dX1_gainBy_14 : decode cX1_gainBy 14 = .ok (.iconst 0, 1) := dk_3 (dk_at dksX1_gainBy_0 14 rfl rfl)
theorem dX1_gainBy_15 : decode cX1_gainBy 15 = .ok (.istore 5, 2) := dk_54 5 (dk_at dksX1_gainBy_0 15 rfl rfl)
theorem dX1_gainBy_17 : decode cX1_gainBy 17 = .ok (.iconst 0, 1) := dk_3 (dk_at dksX1_gainBy_0 17 rfl rfl)
theorem dX1_gainBy_18 : decode cX1_gainBy 18 = .ok (.istore 6, 2) := dk_54 6 (dk_at dksX1_gainBy_0 18 rfl rfl)
theorem dX1_gainBy_20 : decode cX1_gainBy 20 = .ok (.iload 6, 2) := dk_21 6 (dk_at dksX1_gainBy_0 20 rfl rfl)
theorem dX1_gainBy_22 : decode cX1_gainBy 22 = .ok (.aload_n 1, 1) := dk_43 (dk_at dksX1_gainBy_0 22 rfl rfl)
theorem dX1_gainBy_23 : decode cX1_gainBy 23 = .ok (.getfield 245, 3) := dk_180 0 245 (dk_at dksX1_gainBy_1 0 rfl rfl)
theorem dX1_gainBy_26 : decode cX1_gainBy 26 = .ok (.if_icmp .ge 35, 3) := dk_162 0 35 (dk_at dksX1_gainBy_1 3 rfl rfl)
theorem dX1_gainBy_29 : decode cX1_gainBy 29 = .ok (.aload_n 0, 1) := dk_42 (dk_at dksX1_gainBy_1 6 rfl rfl)
theorem dX1_gainBy_30 : decode cX1_gainBy 30 = .ok (.aload_n 1, 1) := dk_43 (dk_at dksX1_gainBy_1 7 rfl rfl)
theorem dX1_gainBy_31 : decode cX1_gainBy 31 = .ok (.iload 4, 2) := dk_21 4 (dk_at dksX1_gainBy_1 8 rfl rfl)
theorem dX1_gainBy_33 : decode cX1_gainBy 33 = .ok (.invokevirtual 318, 3) := dk_182 1 62 (dk_at dksX1_gainBy_1 10 rfl rfl)
theorem dX1_gainBy_36 : decode cX1_gainBy 36 = .ok (.getfield 322, 3) := dk_180 1 66 (dk_at dksX1_gainBy_1 13 rfl rfl)
theorem dX1_gainBy_39 : decode cX1_gainBy 39 = .ok (.iload_n 3, 1) := dk_29 (dk_at dksX1_gainBy_1 16 rfl rfl)
theorem dX1_gainBy_40 : decode cX1_gainBy 40 = .ok (.aload_n 1, 1) := dk_43 (dk_at dksX1_gainBy_1 17 rfl rfl)
theorem dX1_gainBy_41 : decode cX1_gainBy 41 = .ok (.getfield 245, 3) := dk_180 0 245 (dk_at dksX1_gainBy_1 18 rfl rfl)
theorem dX1_gainBy_44 : decode cX1_gainBy 44 = .ok (.imul, 1) := dk_104 (dk_at dksX1_gainBy_1 21 rfl rfl)
theorem dX1_gainBy_45 : decode cX1_gainBy 45 = .ok (.iload 6, 2) := dk_21 6 (dk_at dksX1_gainBy_1 22 rfl rfl)
theorem dX1_gainBy_47 : decode cX1_gainBy 47 = .ok (.iadd, 1) := dk_96 (dk_at dksX1_gainBy_2 0 rfl rfl)
theorem dX1_gainBy_48 : decode cX1_gainBy 48 = .ok (.baload, 1) := dk_51 (dk_at dksX1_gainBy_2 1 rfl rfl)
theorem dX1_gainBy_49 : decode cX1_gainBy 49 = .ok (.ifCond .eq 6, 3) := dk_153 0 6 (dk_at dksX1_gainBy_2 2 rfl rfl)
theorem dX1_gainBy_52 : decode cX1_gainBy 52 = .ok (.iinc 5 1, 3) := dk_132 5 1 (dk_at dksX1_gainBy_2 5 rfl rfl)
theorem dX1_gainBy_55 : decode cX1_gainBy 55 = .ok (.iinc 6 1, 3) := dk_132 6 1 (dk_at dksX1_gainBy_2 8 rfl rfl)
theorem dX1_gainBy_58 : decode cX1_gainBy 58 = .ok (.goto (-38), 3) := dk_167 255 218 (dk_at dksX1_gainBy_2 11 rfl rfl)
theorem dX1_gainBy_61 : decode cX1_gainBy 61 = .ok (.iload 5, 2) := dk_21 5 (dk_at dksX1_gainBy_2 14 rfl rfl)
theorem dX1_gainBy_63 : decode cX1_gainBy 63 = .ok (.bipush 24, 2) := dk_16 24 (dk_at dksX1_gainBy_2 16 rfl rfl)
theorem dX1_gainBy_65 : decode cX1_gainBy 65 = .ok (.iconst 1, 1) := dk_4 (dk_at dksX1_gainBy_2 18 rfl rfl)
theorem dX1_gainBy_66 : decode cX1_gainBy 66 = .ok (.aload_n 2, 1) := dk_44 (dk_at dksX1_gainBy_2 19 rfl rfl)
theorem dX1_gainBy_67 : decode cX1_gainBy 67 = .ok (.getfield 218, 3) := dk_180 0 218 (dk_at dksX1_gainBy_2 20 rfl rfl)
theorem dX1_gainBy_70 : decode cX1_gainBy 70 = .ok (.iadd, 1) := dk_96 (dk_at dksX1_gainBy_2 23 rfl rfl)
theorem dX1_gainBy_71 : decode cX1_gainBy 71 = .ok (.aload_n 1, 1) := dk_43 (dk_at dksX1_gainBy_3 0 rfl rfl)
theorem dX1_gainBy_72 : decode cX1_gainBy 72 = .ok (.getfield 218, 3) := dk_180 0 218 (dk_at dksX1_gainBy_3 1 rfl rfl)
theorem dX1_gainBy_75 : decode cX1_gainBy 75 = .ok (.iadd, 1) := dk_96 (dk_at dksX1_gainBy_3 4 rfl rfl)
theorem dX1_gainBy_76 : decode cX1_gainBy 76 = .ok (.idiv, 1) := dk_108 (dk_at dksX1_gainBy_3 5 rfl rfl)
theorem dX1_gainBy_77 : decode cX1_gainBy 77 = .ok (.imul, 1) := dk_104 (dk_at dksX1_gainBy_3 6 rfl rfl)
theorem dX1_gainBy_78 : decode cX1_gainBy 78 = .ok (.ireturn, 1) := dk_172 (dk_at dksX1_gainBy_3 7 rfl rfl)
abbrev cX1_fall : ByteArray := prog_1_method_34_code
def yX1_fall : MethodName := ⟨RX1, "fall", "(LCityBrigade$House;LCityBrigade$Blaze;Z)V"⟩
def dkwX1_fall_9 : List UInt8 := [177]
abbrev dktX1_fall_9 : List UInt8 := dkwX1_fall_9 ++ []
def dkwX1_fall_8 : List UInt8 := [181, 1, 39, 43, 180, 0, 254, 21, 4, 3, 79, 42, 43, 21, 4, 182, 1, 96, 132, 4, 255, 167, 255, 56]
abbrev dktX1_fall_8 : List UInt8 := dkwX1_fall_8 ++ dktX1_fall_9
def dkwX1_fall_7 : List UInt8 := [167, 255, 143, 29, 154, 0, 6, 167, 0, 34, 43, 89, 180, 1, 39, 43, 180, 0, 254, 21, 4, 46, 96]
abbrev dktX1_fall_7 : List UInt8 := dkwX1_fall_7 ++ dktX1_fall_8
def dkwX1_fall_6 : List UInt8 := [184, 1, 13, 79, 44, 180, 0, 248, 21, 6, 3, 79, 44, 180, 1, 10, 21, 6, 3, 79, 132, 5, 1]
abbrev dktX1_fall_6 : List UInt8 := dkwX1_fall_6 ++ dktX1_fall_7
def dkwX1_fall_5 : List UInt8 := [154, 0, 27, 44, 180, 1, 10, 21, 7, 44, 180, 1, 10, 21, 7, 46, 44, 180, 1, 10, 21, 6, 46]
abbrev dktX1_fall_5 : List UInt8 := dkwX1_fall_5 ++ dktX1_fall_6
def dkwX1_fall_4 : List UInt8 := [46, 44, 180, 0, 248, 21, 6, 46, 96, 184, 1, 86, 79, 44, 180, 0, 239, 21, 4, 4, 100, 51]
abbrev dktX1_fall_4 : List UInt8 := dkwX1_fall_4 ++ dktX1_fall_5
def dkwX1_fall_3 : List UInt8 := [21, 6, 43, 180, 0, 245, 100, 54, 7, 44, 180, 0, 248, 21, 7, 17, 7, 208, 44, 180, 0, 248, 21, 7]
abbrev dktX1_fall_3 : List UInt8 := dkwX1_fall_3 ++ dktX1_fall_4
def dkwX1_fall_2 : List UInt8 := [3, 54, 5, 21, 5, 43, 180, 0, 245, 162, 0, 110, 21, 4, 43, 180, 0, 245, 104, 21, 5, 96, 54, 6]
abbrev dktX1_fall_2 : List UInt8 := dkwX1_fall_2 ++ dktX1_fall_3
def dkwX1_fall_1 : List UInt8 := [44, 21, 4, 182, 1, 25, 43, 182, 1, 93, 162, 0, 6, 167, 0, 168, 44, 180, 0, 239, 21, 4, 4, 84]
abbrev dktX1_fall_1 : List UInt8 := dkwX1_fall_1 ++ dktX1_fall_2
def dkwX1_fall_0 : List UInt8 := [43, 180, 0, 209, 4, 100, 54, 4, 21, 4, 158, 0, 201, 44, 180, 0, 239, 21, 4, 51, 154, 0, 185, 43]
abbrev dktX1_fall_0 : List UInt8 := dkwX1_fall_0 ++ dktX1_fall_1
theorem dksX1_fall_0 : cX1_fall.data.toList.drop 0 = dktX1_fall_0 := by decide +kernel
theorem dksX1_fall_1 : cX1_fall.data.toList.drop 24 = dktX1_fall_1 := dk_seg dksX1_fall_0 24 rfl rfl
theorem dksX1_fall_2 : cX1_fall.data.toList.drop 48 = dktX1_fall_2 := dk_seg dksX1_fall_1 24 rfl rfl
theorem dksX1_fall_3 : cX1_fall.data.toList.drop 72 = dktX1_fall_3 := dk_seg dksX1_fall_2 24 rfl rfl
theorem dksX1_fall_4 : cX1_fall.data.toList.drop 96 = dktX1_fall_4 := dk_seg dksX1_fall_3 24 rfl rfl
theorem dksX1_fall_5 : cX1_fall.data.toList.drop 118 = dktX1_fall_5 := dk_seg dksX1_fall_4 22 rfl rfl
theorem dksX1_fall_6 : cX1_fall.data.toList.drop 141 = dktX1_fall_6 := dk_seg dksX1_fall_5 23 rfl rfl
theorem dksX1_fall_7 : cX1_fall.data.toList.drop 164 = dktX1_fall_7 := dk_seg dksX1_fall_6 23 rfl rfl
theorem dksX1_fall_8 : cX1_fall.data.toList.drop 187 = dktX1_fall_8 := dk_seg dksX1_fall_7 23 rfl rfl
theorem dksX1_fall_9 : cX1_fall.data.toList.drop 211 = dktX1_fall_9 := dk_seg dksX1_fall_8 24 rfl rfl
theorem dX1_fall_0 : decode cX1_fall 0 = .ok (.aload_n 1, 1) := dk_43 (dk_at dksX1_fall_0 0 rfl rfl)
theorem dX1_fall_1 : decode cX1_fall 1 = .ok (.getfield 209, 3) := dk_180 0 209 (dk_at dksX1_fall_0 1 rfl rfl)
theorem dX1_fall_4 : decode cX1_fall 4 = .ok (.iconst 1, 1) := dk_4 (dk_at dksX1_fall_0 4 rfl rfl)
theorem dX1_fall_5 : decode cX1_fall 5 = .ok (.isub, 1) := dk_100 (dk_at dksX1_fall_0 5 rfl rfl)
theorem dX1_fall_6 : decode cX1_fall 6 = .ok (.istore 4, 2) := dk_54 4 (dk_at dksX1_fall_0 6 rfl rfl)
theorem dX1_fall_8 : decode cX1_fall 8 = .ok (.iload 4, 2) := dk_21 4 (dk_at dksX1_fall_0 8 rfl rfl)
theorem dX1_fall_10 : decode cX1_fall 10 = .ok (.ifCond .le 201, 3) := dk_158 0 201 (dk_at dksX1_fall_0 10 rfl rfl)
theorem dX1_fall_13 : decode cX1_fall 13 = .ok (.aload_n 2, 1) := dk_44 (dk_at dksX1_fall_0 13 rfl rfl)
theorem dX1_fall_14 : decode cX1_fall 14 = .ok (.getfield 239, 3) := dk_180 0 239 (dk_at dksX1_fall_0 14 rfl rfl)
theorem dX1_fall_17 : decode cX1_fall 17 = .ok (.iload 4, 2) := dk_21 4 (dk_at dksX1_fall_0 17 rfl rfl)
theorem dX1_fall_19 : decode cX1_fall 19 = .ok (.baload, 1) := dk_51 (dk_at dksX1_fall_0 19 rfl rfl)
theorem dX1_fall_20 : decode cX1_fall 20 = .ok (.ifCond .ne 185, 3) := dk_154 0 185 (dk_at dksX1_fall_0 20 rfl rfl)
theorem dX1_fall_23 : decode cX1_fall 23 = .ok (.aload_n 1, 1) := dk_43 (dk_at dksX1_fall_0 23 rfl rfl)
theorem dX1_fall_24 : decode cX1_fall 24 = .ok (.aload_n 2, 1) := dk_44 (dk_at dksX1_fall_1 0 rfl rfl)
theorem dX1_fall_25 : decode cX1_fall 25 = .ok (.iload 4, 2) := dk_21 4 (dk_at dksX1_fall_1 1 rfl rfl)
theorem dX1_fall_27 : decode cX1_fall 27 = .ok (.invokevirtual 281, 3) := dk_182 1 25 (dk_at dksX1_fall_1 3 rfl rfl)
theorem dX1_fall_30 : decode cX1_fall 30 = .ok (.aload_n 1, 1) := dk_43 (dk_at dksX1_fall_1 6 rfl rfl)
theorem dX1_fall_31 : decode cX1_fall 31 = .ok (.invokevirtual 349, 3) := dk_182 1 93 (dk_at dksX1_fall_1 7 rfl rfl)
theorem dX1_fall_34 : decode cX1_fall 34 = .ok (.if_icmp .ge 6, 3) := dk_162 0 6 (dk_at dksX1_fall_1 10 rfl rfl)
theorem dX1_fall_37 : decode cX1_fall 37 = .ok (.goto 168, 3) := dk_167 0 168 (dk_at dksX1_fall_1 13 rfl rfl)
theorem dX1_fall_40 : decode cX1_fall 40 = .ok (.aload_n 2, 1) := dk_44 (dk_at dksX1_fall_1 16 rfl rfl)
theorem dX1_fall_41 : decode cX1_fall 41 = .ok (.getfield 239, 3) := dk_180 0 239 (dk_at dksX1_fall_1 17 rfl rfl)
theorem dX1_fall_44 : decode cX1_fall 44 = .ok (.iload 4, 2) := dk_21 4 (dk_at dksX1_fall_1 20 rfl rfl)
theorem dX1_fall_46 : decode cX1_fall 46 = .ok (.iconst 1, 1) := dk_4 (dk_at dksX1_fall_1 22 rfl rfl)
theorem dX1_fall_47 : decode cX1_fall 47 = .ok (.bastore, 1) := dk_84 (dk_at dksX1_fall_1 23 rfl rfl)
theorem dX1_fall_48 : decode cX1_fall 48 = .ok (.iconst 0, 1) := dk_3 (dk_at dksX1_fall_2 0 rfl rfl)
theorem dX1_fall_49 : decode cX1_fall 49 = .ok (.istore 5, 2) := dk_54 5 (dk_at dksX1_fall_2 1 rfl rfl)
theorem dX1_fall_51 : decode cX1_fall 51 = .ok (.iload 5, 2) := dk_21 5 (dk_at dksX1_fall_2 3 rfl rfl)
theorem dX1_fall_53 : decode cX1_fall 53 = .ok (.aload_n 1, 1) := dk_43 (dk_at dksX1_fall_2 5 rfl rfl)
theorem dX1_fall_54 : decode cX1_fall 54 = .ok (.getfield 245, 3) := dk_180 0 245 (dk_at dksX1_fall_2 6 rfl rfl)
theorem dX1_fall_57 : decode cX1_fall 57 = .ok (.if_icmp .ge 110, 3) := dk_162 0 110 (dk_at dksX1_fall_2 9 rfl rfl)
theorem dX1_fall_60 : decode cX1_fall 60 = .ok (.iload 4, 2) := dk_21 4 (dk_at dksX1_fall_2 12 rfl rfl)
theorem dX1_fall_62 : decode cX1_fall 62 = .ok (.aload_n 1, 1) := dk_43 (dk_at dksX1_fall_2 14 rfl rfl)
theorem dX1_fall_63 : decode cX1_fall 63 = .ok (.getfield 245, 3) := dk_180 0 245 (dk_at dksX1_fall_2 15 rfl rfl)
theorem dX1_fall_66 : decode cX1_fall 66 = .ok (.imul, 1) := dk_104 (dk_at dksX1_fall_2 18 rfl rfl)
theorem dX1_fall_67 : decode cX1_fall 67 = .ok (.iload 5, 2) := dk_21 5 (dk_at dksX1_fall_2 19 rfl rfl)
theorem dX1_fall_69 : decode cX1_fall 69 = .ok (.iadd, 1) := dk_96 (dk_at dksX1_fall_2 21 rfl rfl)
theorem dX1_fall_70 : decode cX1_fall 70 = .ok (.istore 6, 2) := dk_54 6 (dk_at dksX1_fall_2 22 rfl rfl)
theorem dX1_fall_72 : decode cX1_fall 72 = .ok (.iload 6, 2) := dk_21 6 (dk_at dksX1_fall_3 0 rfl rfl)
theorem dX1_fall_74 : decode cX1_fall 74 = .ok (.aload_n 1, 1) := dk_43 (dk_at dksX1_fall_3 2 rfl rfl)
theorem dX1_fall_75 : decode cX1_fall 75 = .ok (.getfield 245, 3) := dk_180 0 245 (dk_at dksX1_fall_3 3 rfl rfl)
theorem dX1_fall_78 : decode cX1_fall 78 = .ok (.isub, 1) := dk_100 (dk_at dksX1_fall_3 6 rfl rfl)
theorem dX1_fall_79 : decode cX1_fall 79 = .ok (.istore 7, 2) := dk_54 7 (dk_at dksX1_fall_3 7 rfl rfl)
theorem dX1_fall_81 : decode cX1_fall 81 = .ok (.aload_n 2, 1) := dk_44 (dk_at dksX1_fall_3 9 rfl rfl)
theorem dX1_fall_82 : decode cX1_fall 82 = .ok (.getfield 248, 3) := dk_180 0 248 (dk_at dksX1_fall_3 10 rfl rfl)
theorem dX1_fall_85 : decode cX1_fall 85 = .ok (.iload 7, 2) := dk_21 7 (dk_at dksX1_fall_3 13 rfl rfl)
theorem dX1_fall_87 : decode cX1_fall 87 = .ok (.sipush 2000, 3) := dk_17 7 208 (dk_at dksX1_fall_3 15 rfl rfl)
theorem dX1_fall_90 : decode cX1_fall 90 = .ok (.aload_n 2, 1) := dk_44 (dk_at dksX1_fall_3 18 rfl rfl)
theorem dX1_fall_91 : decode cX1_fall 91 = .ok (.getfield 248, 3) := dk_180 0 248 (dk_at dksX1_fall_3 19 rfl rfl)
theorem dX1_fall_94 : decode cX1_fall 94 = .ok (.iload 7, 2) := dk_21 7 (dk_at dksX1_fall_3 22 rfl rfl)
theorem dX1_fall_96 : decode cX1_fall 96 = .ok (.iaload, 1) := dk_46 (dk_at dksX1_fall_4 0 rfl rfl)
theorem dX1_fall_97 : decode cX1_fall 97 = .ok (.aload_n 2, 1) := dk_44 (dk_at dksX1_fall_4 1 rfl rfl)
theorem dX1_fall_98 : decode cX1_fall 98 = .ok (.getfield 248, 3) := dk_180 0 248 (dk_at dksX1_fall_4 2 rfl rfl)
theorem dX1_fall_101 : decode cX1_fall 101 = .ok (.iload 6, 2) := dk_21 6 (dk_at dksX1_fall_4 5 rfl rfl)
theorem dX1_fall_103 : decode cX1_fall 103 = .ok (.iaload, 1) := dk_46 (dk_at dksX1_fall_4 7 rfl rfl)
theorem dX1_fall_104 : decode cX1_fall 104 = .ok (.iadd, 1) := dk_96 (dk_at dksX1_fall_4 8 rfl rfl)
theorem dX1_fall_105 : decode cX1_fall 105 = .ok (.invokestatic 342, 3) := dk_184 1 86 (dk_at dksX1_fall_4 9 rfl rfl)
theorem dX1_fall_108 : decode cX1_fall 108 = .ok (.iastore, 1) := dk_79 (dk_at dksX1_fall_4 12 rfl rfl)
theorem dX1_fall_109 : decode cX1_fall 109 = .ok (.aload_n 2, 1) := dk_44 (dk_at dksX1_fall_4 13 rfl rfl)
theorem dX1_fall_110 : decode cX1_fall 110 = .ok (.getfield 239, 3) := dk_180 0 239 (dk_at dksX1_fall_4 14 rfl rfl)
theorem dX1_fall_113 : decode cX1_fall 113 = .ok (.iload 4, 2) := dk_21 4 (dk_at dksX1_fall_4 17 rfl rfl)
theorem dX1_fall_115 : decode cX1_fall 115 = .ok (.iconst 1, 1) := dk_4 (dk_at dksX1_fall_4 19 rfl rfl)
theorem dX1_fall_116 : decode cX1_fall 116 = .ok (.isub, 1) := dk_100 (dk_at dksX1_fall_4 20 rfl rfl)
theorem dX1_fall_117 : decode cX1_fall 117 = .ok (.baload, 1) := dk_51 (dk_at dksX1_fall_4 21 rfl rfl)
theorem dX1_fall_118 : decode cX1_fall 118 = .ok (.ifCond .ne 27, 3) := dk_154 0 27 (dk_at dksX1_fall_5 0 rfl rfl)
theorem dX1_fall_121 : decode cX1_fall 121 = .ok (.aload_n 2, 1) := dk_44 (dk_at dksX1_fall_5 3 rfl rfl)
theorem dX1_fall_122 : decode cX1_fall 122 = .ok (.getfield 266, 3) := dk_180 1 10 (dk_at dksX1_fall_5 4 rfl rfl)
theorem dX1_fall_125 : decode cX1_fall 125 = .ok (.iload 7, 2) := dk_21 7 (dk_at dksX1_fall_5 7 rfl rfl)
theorem dX1_fall_127 : decode cX1_fall 127 = .ok (.aload_n 2, 1) := dk_44 (dk_at dksX1_fall_5 9 rfl rfl)
theorem dX1_fall_128 : decode cX1_fall 128 = .ok (.getfield 266, 3) := dk_180 1 10 (dk_at dksX1_fall_5 10 rfl rfl)
theorem dX1_fall_131 : decode cX1_fall 131 = .ok (.iload 7, 2) := dk_21 7 (dk_at dksX1_fall_5 13 rfl rfl)
theorem dX1_fall_133 : decode cX1_fall 133 = .ok (.iaload, 1) := dk_46 (dk_at dksX1_fall_5 15 rfl rfl)
theorem dX1_fall_134 : decode cX1_fall 134 = .ok (.aload_n 2, 1) := dk_44 (dk_at dksX1_fall_5 16 rfl rfl)
theorem dX1_fall_135 : decode cX1_fall 135 = .ok (.getfield 266, 3) := dk_180 1 10 (dk_at dksX1_fall_5 17 rfl rfl)
theorem dX1_fall_138 : decode cX1_fall 138 = .ok (.iload 6, 2) := dk_21 6 (dk_at dksX1_fall_5 20 rfl rfl)
theorem dX1_fall_140 : decode cX1_fall 140 = .ok (.iaload, 1) := dk_46 (dk_at dksX1_fall_5 22 rfl rfl)
theorem dX1_fall_141 : decode cX1_fall 141 = .ok (.invokestatic 269, 3) := dk_184 1 13 (dk_at dksX1_fall_6 0 rfl rfl)
theorem dX1_fall_144 : decode cX1_fall 144 = .ok (.iastore, 1) := dk_79 (dk_at dksX1_fall_6 3 rfl rfl)
theorem dX1_fall_145 : decode cX1_fall 145 = .ok (.aload_n 2, 1) := dk_44 (dk_at dksX1_fall_6 4 rfl rfl)
theorem dX1_fall_146 : decode cX1_fall 146 = .ok (.getfield 248, 3) := dk_180 0 248 (dk_at dksX1_fall_6 5 rfl rfl)
theorem dX1_fall_149 : decode cX1_fall 149 = .ok (.iload 6, 2) := dk_21 6 (dk_at dksX1_fall_6 8 rfl rfl)
theorem dX1_fall_151 : decode cX1_fall 151 = .ok (.iconst 0, 1) := dk_3 (dk_at dksX1_fall_6 10 rfl rfl)
theorem dX1_fall_152 : decode cX1_fall 152 = .ok (.iastore, 1) := dk_79 (dk_at dksX1_fall_6 11 rfl rfl)
theorem dX1_fall_153 : decode cX1_fall 153 = .ok (.aload_n 2, 1) := dk_44 (dk_at dksX1_fall_6 12 rfl rfl)
theorem dX1_fall_154 : decode cX1_fall 154 = .ok (.getfield 266, 3) := dk_180 1 10 (dk_at dksX1_fall_6 13 rfl rfl)
theorem dX1_fall_157 : decode cX1_fall 157 = .ok (.iload 6, 2) := dk_21 6 (dk_at dksX1_fall_6 16 rfl rfl)
theorem dX1_fall_159 : decode cX1_fall 159 = .ok (.iconst 0, 1) := dk_3 (dk_at dksX1_fall_6 18 rfl rfl)
theorem dX1_fall_160 : decode cX1_fall 160 = .ok (.iastore, 1) := dk_79 (dk_at dksX1_fall_6 19 rfl rfl)
theorem dX1_fall_161 : decode cX1_fall 161 = .ok (.iinc 5 1, 3) := dk_132 5 1 (dk_at dksX1_fall_6 20 rfl rfl)
theorem dX1_fall_164 : decode cX1_fall 164 = .ok (.goto (-113), 3) := dk_167 255 143 (dk_at dksX1_fall_7 0 rfl rfl)
theorem dX1_fall_167 : decode cX1_fall 167 = .ok (.iload_n 3, 1) := dk_29 (dk_at dksX1_fall_7 3 rfl rfl)
theorem dX1_fall_168 : decode cX1_fall 168 = .ok (.ifCond .ne 6, 3) := dk_154 0 6 (dk_at dksX1_fall_7 4 rfl rfl)
theorem dX1_fall_171 : decode cX1_fall 171 = .ok (.goto 34, 3) := dk_167 0 34 (dk_at dksX1_fall_7 7 rfl rfl)
theorem dX1_fall_174 : decode cX1_fall 174 = .ok (.aload_n 1, 1) := dk_43 (dk_at dksX1_fall_7 10 rfl rfl)
theorem dX1_fall_175 : decode cX1_fall 175 = .ok (.dup, 1) := dk_89 (dk_at dksX1_fall_7 11 rfl rfl)
theorem dX1_fall_176 : decode cX1_fall 176 = .ok (.getfield 295, 3) := dk_180 1 39 (dk_at dksX1_fall_7 12 rfl rfl)
theorem dX1_fall_179 : decode cX1_fall 179 = .ok (.aload_n 1, 1) := dk_43 (dk_at dksX1_fall_7 15 rfl rfl)
theorem dX1_fall_180 : decode cX1_fall 180 = .ok (.getfield 254, 3) := dk_180 0 254 (dk_at dksX1_fall_7 16 rfl rfl)
theorem dX1_fall_183 : decode cX1_fall 183 = .ok (.iload 4, 2) := dk_21 4 (dk_at dksX1_fall_7 19 rfl rfl)
theorem dX1_fall_185 : decode cX1_fall 185 = .ok (.iaload, 1) := dk_46 (dk_at dksX1_fall_7 21 rfl rfl)
theorem dX1_fall_186 : decode cX1_fall 186 = .ok (.iadd, 1) := dk_96 (dk_at dksX1_fall_7 22 rfl rfl)
theorem dX1_fall_187 : decode cX1_fall 187 = .ok (.putfield 295, 3) := dk_181 1 39 (dk_at dksX1_fall_8 0 rfl rfl)
theorem dX1_fall_190 : decode cX1_fall 190 = .ok (.aload_n 1, 1) := dk_43 (dk_at dksX1_fall_8 3 rfl rfl)
theorem dX1_fall_191 : decode cX1_fall 191 = .ok (.getfield 254, 3) := dk_180 0 254 (dk_at dksX1_fall_8 4 rfl rfl)
theorem dX1_fall_194 : decode cX1_fall 194 = .ok (.iload 4, 2) := dk_21 4 (dk_at dksX1_fall_8 7 rfl rfl)
theorem dX1_fall_196 : decode cX1_fall 196 = .ok (.iconst 0, 1) := dk_3 (dk_at dksX1_fall_8 9 rfl rfl)
theorem dX1_fall_197 : decode cX1_fall 197 = .ok (.iastore, 1) := dk_79 (dk_at dksX1_fall_8 10 rfl rfl)
theorem dX1_fall_198 : decode cX1_fall 198 = .ok (.aload_n 0, 1) := dk_42 (dk_at dksX1_fall_8 11 rfl rfl)
theorem dX1_fall_199 : decode cX1_fall 199 = .ok (.aload_n 1, 1) := dk_43 (dk_at dksX1_fall_8 12 rfl rfl)
theorem dX1_fall_200 : decode cX1_fall 200 = .ok (.iload 4, 2) := dk_21 4 (dk_at dksX1_fall_8 13 rfl rfl)
theorem dX1_fall_202 : decode cX1_fall 202 = .ok (.invokevirtual 352, 3) := dk_182 1 96 (dk_at dksX1_fall_8 15 rfl rfl)
theorem dX1_fall_205 : decode cX1_fall 205 = .ok (.iinc 4 (-1), 3) := dk_132 4 255 (dk_at dksX1_fall_8 18 rfl rfl)
theorem dX1_fall_208 : decode cX1_fall 208 = .ok (.goto (-200), 3) := dk_167 255 56 (dk_at dksX1_fall_8 21 rfl rfl)
theorem dX1_fall_211 : decode cX1_fall 211 = .ok (.return_, 1) := dk_177 (dk_at dksX1_fall_9 0 rfl rfl)
abbrev cX1_hurt : ByteArray := prog_1_method_50_code
def yX1_hurt : MethodName := ⟨RX1, "hurt", "(LCityBrigade$House;I)V"⟩
def dkwX1_hurt_2 : List UInt8 := [42, 25, 4, 25, 4, 180, 1, 152, 182, 1, 155, 25, 4, 7, 181, 1, 133, 132, 3, 1, 167, 255, 190, 177]
abbrev dktX1_hurt_2 : List UInt8 := dkwX1_hurt_2 ++ []
def dkwX1_hurt_1 : List UInt8 := [160, 0, 41, 25, 4, 180, 1, 145, 43, 166, 0, 32, 25, 4, 180, 1, 149, 28, 159, 0, 6, 167, 0, 20]
abbrev dktX1_hurt_1 : List UInt8 := dkwX1_hurt_1 ++ dktX1_hurt_2
def dkwX1_hurt_0 : List UInt8 := [3, 62, 29, 42, 180, 1, 109, 162, 0, 64, 42, 180, 0, 48, 29, 50, 58, 4, 25, 4, 180, 1, 133, 5]
abbrev dktX1_hurt_0 : List UInt8 := dkwX1_hurt_0 ++ dktX1_hurt_1
theorem dksX1_hurt_0 : cX1_hurt.data.toList.drop 0 = dktX1_hurt_0 := by decide +kernel
theorem dksX1_hurt_1 : cX1_hurt.data.toList.drop 24 = dktX1_hurt_1 := dk_seg dksX1_hurt_0 24 rfl rfl
theorem dksX1_hurt_2 : cX1_hurt.data.toList.drop 48 = dktX1_hurt_2 := dk_seg dksX1_hurt_1 24 rfl rfl
theorem dX1_hurt_0 : decode cX1_hurt 0 = .ok (.iconst 0, 1) := dk_3 (dk_at dksX1_hurt_0 0 rfl rfl)
theorem dX1_hurt_1 : decode cX1_hurt 1 = .ok (.istore_n 3, 1) := dk_62 (dk_at dksX1_hurt_0 1 rfl rfl)
theorem dX1_hurt_2 : decode cX1_hurt 2 = .ok (.iload_n 3, 1) := dk_29 (dk_at dksX1_hurt_0 2 rfl rfl)
theorem dX1_hurt_3 : decode cX1_hurt 3 = .ok (.aload_n 0, 1) := dk_42 (dk_at dksX1_hurt_0 3 rfl rfl)
theorem dX1_hurt_4 : decode cX1_hurt 4 = .ok (.getfield 365, 3) := dk_180 1 109 (dk_at dksX1_hurt_0 4 rfl rfl)
theorem dX1_hurt_7 : decode cX1_hurt 7 = .ok (.if_icmp .ge 64, 3) := dk_162 0 64 (dk_at dksX1_hurt_0 7 rfl rfl)
theorem dX1_hurt_10 : decode cX1_hurt 10 = .ok (.aload_n 0, 1) := dk_42 (dk_at dksX1_hurt_0 10 rfl rfl)
theorem dX1_hurt_11 : decode cX1_hurt 11 = .ok (.getfield 48, 3) := dk_180 0 48 (dk_at dksX1_hurt_0 11 rfl rfl)
theorem dX1_hurt_14 : decode cX1_hurt 14 = .ok (.iload_n 3, 1) := dk_29 (dk_at dksX1_hurt_0 14 rfl rfl)
theorem dX1_hurt_15 : decode cX1_hurt 15 = .ok (.aaload, 1) := dk_50 (dk_at dksX1_hurt_0 15 rfl rfl)
theorem dX1_hurt_16 : decode cX1_hurt 16 = .ok (.astore 4, 2) := dk_58 4 (dk_at dksX1_hurt_0 16 rfl rfl)
theorem dX1_hurt_18 : decode cX1_hurt 18 = .ok (.aload 4, 2) := dk_25 4 (dk_at dksX1_hurt_0 18 rfl rfl)
theorem dX1_hurt_20 : decode cX1_hurt 20 = .ok (.getfield 389, 3) := dk_180 1 133 (dk_at dksX1_hurt_0 20 rfl rfl)
theorem dX1_hurt_23 : decode cX1_hurt 23 = .ok (.iconst 2, 1) := dk_5 (dk_at dksX1_hurt_0 23 rfl rfl)
theorem dX1_hurt_24 : decode cX1_hurt 24 = .ok (.if_icmp .ne 41, 3) := dk_160 0 41 (dk_at dksX1_hurt_1 0 rfl rfl)
theorem dX1_hurt_27 : decode cX1_hurt 27 = .ok (.aload 4, 2) := dk_25 4 (dk_at dksX1_hurt_1 3 rfl rfl)
theorem dX1_hurt_29 : decode cX1_hurt 29 = .ok (.getfield 401, 3) := dk_180 1 145 (dk_at dksX1_hurt_1 5 rfl rfl)
theorem dX1_hurt_32 : decode cX1_hurt 32 = .ok (.aload_n 1, 1) := dk_43 (dk_at dksX1_hurt_1 8 rfl rfl)
theorem dX1_hurt_33 : decode cX1_hurt 33 = .ok (.if_acmp .ne 32, 3) := dk_166 0 32 (dk_at dksX1_hurt_1 9 rfl rfl)
theorem dX1_hurt_36 : decode cX1_hurt 36 = .ok (.aload 4, 2) := dk_25 4 (dk_at dksX1_hurt_1 12 rfl rfl)
theorem dX1_hurt_38 : decode cX1_hurt 38 = .ok (.getfield 405, 3) := dk_180 1 149 (dk_at dksX1_hurt_1 14 rfl rfl)
theorem dX1_hurt_41 : decode cX1_hurt 41 = .ok (.iload_n 2, 1) := dk_28 (dk_at dksX1_hurt_1 17 rfl rfl)
theorem dX1_hurt_42 : decode cX1_hurt 42 = .ok (.if_icmp .eq 6, 3) := dk_159 0 6 (dk_at dksX1_hurt_1 18 rfl rfl)
theorem dX1_hurt_45 : decode cX1_hurt 45 = .ok (.goto 20, 3) := dk_167 0 20 (dk_at dksX1_hurt_1 21 rfl rfl)
theorem dX1_hurt_48 : decode cX1_hurt 48 = .ok (.aload_n 0, 1) := dk_42 (dk_at dksX1_hurt_2 0 rfl rfl)
theorem dX1_hurt_49 : decode cX1_hurt 49 = .ok (.aload 4, 2) := dk_25 4 (dk_at dksX1_hurt_2 1 rfl rfl)
theorem dX1_hurt_51 : decode cX1_hurt 51 = .ok (.aload 4, 2) := dk_25 4 (dk_at dksX1_hurt_2 3 rfl rfl)
theorem dX1_hurt_53 : decode cX1_hurt 53 = .ok (.getfield 408, 3) := dk_180 1 152 (dk_at dksX1_hurt_2 5 rfl rfl)
theorem dX1_hurt_56 : decode cX1_hurt 56 = .ok (.invokevirtual 411, 3) := dk_182 1 155 (dk_at dksX1_hurt_2 8 rfl rfl)
theorem dX1_hurt_59 : decode cX1_hurt 59 = .ok (.aload 4, 2) := dk_25 4 (dk_at dksX1_hurt_2 11 rfl rfl)
theorem dX1_hurt_61 : decode cX1_hurt 61 = .ok (.iconst 4, 1) := dk_7 (dk_at dksX1_hurt_2 13 rfl rfl)
theorem dX1_hurt_62 : decode cX1_hurt 62 = .ok (.putfield 389, 3) := dk_181 1 133 (dk_at dksX1_hurt_2 14 rfl rfl)
theorem dX1_hurt_65 : decode cX1_hurt 65 = .ok (.iinc 3 1, 3) := dk_132 3 1 (dk_at dksX1_hurt_2 17 rfl rfl)
theorem dX1_hurt_68 : decode cX1_hurt 68 = .ok (.goto (-66), 3) := dk_167 255 190 (dk_at dksX1_hurt_2 20 rfl rfl)
theorem dX1_hurt_71 : decode cX1_hurt 71 = .ok (.return_, 1) := dk_177 (dk_at dksX1_hurt_2 23 rfl rfl)
abbrev cX1_smother : ByteArray := prog_1_method_35_code
def yX1_smother : MethodName := ⟨RX1, "smother", "()V"⟩
def dkwX1_smother_4 : List UInt8 := [132, 3, 1, 167, 255, 177, 132, 1, 1, 167, 255, 154, 177]
abbrev dktX1_smother_4 : List UInt8 := dkwX1_smother_4 ++ []
def dkwX1_smother_3 : List UInt8 := [167, 0, 24, 44, 180, 0, 254, 21, 4, 92, 46, 4, 100, 79, 44, 89, 180, 1, 39, 4, 96, 181, 1, 39]
abbrev dktX1_smother_3 : List UInt8 := dkwX1_smother_3 ++ dktX1_smother_4
def dkwX1_smother_2 : List UInt8 := [180, 0, 235, 180, 1, 10, 29, 46, 17, 2, 88, 161, 0, 37, 44, 180, 0, 254, 21, 4, 46, 154, 0, 6]
abbrev dktX1_smother_2 : List UInt8 := dkwX1_smother_2 ++ dktX1_smother_3
def dkwX1_smother_1 : List UInt8 := [162, 0, 77, 44, 29, 182, 1, 7, 54, 4, 44, 44, 180, 0, 235, 29, 182, 1, 18, 153, 0, 52, 44]
abbrev dktX1_smother_1 : List UInt8 := dkwX1_smother_1 ++ dktX1_smother_2
def dkwX1_smother_0 : List UInt8 := [3, 60, 27, 42, 180, 0, 199, 162, 0, 100, 42, 180, 0, 30, 27, 50, 77, 3, 62, 29, 44, 182, 0, 205]
abbrev dktX1_smother_0 : List UInt8 := dkwX1_smother_0 ++ dktX1_smother_1
theorem dksX1_smother_0 : cX1_smother.data.toList.drop 0 = dktX1_smother_0 := by decide +kernel
theorem dksX1_smother_1 : cX1_smother.data.toList.drop 24 = dktX1_smother_1 := dk_seg dksX1_smother_0 24 rfl rfl
theorem dksX1_smother_2 : cX1_smother.data.toList.drop 47 = dktX1_smother_2 := dk_seg dksX1_smother_1 23 rfl rfl
theorem dksX1_smother_3 : cX1_smother.data.toList.drop 71 = dktX1_smother_3 := dk_seg dksX1_smother_2 24 rfl rfl
theorem dksX1_smother_4 : cX1_smother.data.toList.drop 95 = dktX1_smother_4 := dk_seg dksX1_smother_3 24 rfl rfl
theorem dX1_smother_0 : decode cX1_smother 0 = .ok (.iconst 0, 1) := dk_3 (dk_at dksX1_smother_0 0 rfl rfl)
theorem dX1_smother_1 : decode cX1_smother 1 = .ok (.istore_n 1, 1) := dk_60 (dk_at dksX1_smother_0 1 rfl rfl)
theorem dX1_smother_2 : decode cX1_smother 2 = .ok (.iload_n 1, 1) := dk_27 (dk_at dksX1_smother_0 2 rfl rfl)
theorem dX1_smother_3 : decode cX1_smother 3 = .ok (.aload_n 0, 1) := dk_42 (dk_at dksX1_smother_0 3 rfl rfl)
theorem dX1_smother_4 : decode cX1_smother 4 = .ok (.getfield 199, 3) := dk_180 0 199 (dk_at dksX1_smother_0 4 rfl rfl)
theorem dX1_smother_7 : decode cX1_smother 7 = .ok (.if_icmp .ge 100, 3) := dk_162 0 100 (dk_at dksX1_smother_0 7 rfl rfl)
theorem dX1_smother_10 : decode cX1_smother 10 = .ok (.aload_n 0, 1) := dk_42 (dk_at dksX1_smother_0 10 rfl rfl)
theorem dX1_smother_11 : decode cX1_smother 11 = .ok (.getfield 30, 3) := dk_180 0 30 (dk_at dksX1_smother_0 11 rfl rfl)
theorem dX1_smother_14 : decode cX1_smother 14 = .ok (.iload_n 1, 1) := dk_27 (dk_at dksX1_smother_0 14 rfl rfl)
theorem dX1_smother_15 : decode cX1_smother 15 = .ok (.aaload, 1) := dk_50 (dk_at dksX1_smother_0 15 rfl rfl)
theorem dX1_smother_16 : decode cX1_smother 16 = .ok (.astore_n 2, 1) := dk_77 (dk_at dksX1_smother_0 16 rfl rfl)
theorem dX1_smother_17 : decode cX1_smother 17 = .ok (.iconst 0, 1) := dk_3 (dk_at dksX1_smother_0 17 rfl rfl)
theorem dX1_smother_18 : decode cX1_smother 18 = .ok (.istore_n 3, 1) := dk_62 (dk_at dksX1_smother_0 18 rfl rfl)
theorem dX1_smother_19 : decode cX1_smother 19 = .ok (.iload_n 3, 1) := dk_29 (dk_at dksX1_smother_0 19 rfl rfl)
theorem dX1_smother_20 : decode cX1_smother 20 = .ok (.aload_n 2, 1) := dk_44 (dk_at dksX1_smother_0 20 rfl rfl)
theorem dX1_smother_21 : decode cX1_smother 21 = .ok (.invokevirtual 205, 3) := dk_182 0 205 (dk_at dksX1_smother_0 21 rfl rfl)
theorem dX1_smother_24 : decode cX1_smother 24 = .ok (.if_icmp .ge 77, 3) := dk_162 0 77 (dk_at dksX1_smother_1 0 rfl rfl)
theorem dX1_smother_27 : decode cX1_smother 27 = .ok (.aload_n 2, 1) := dk_44 (dk_at dksX1_smother_1 3 rfl rfl)
theorem dX1_smother_28 : decode cX1_smother 28 = .ok (.iload_n 3, 1) := dk_29 (dk_at dksX1_smother_1 4 rfl rfl)
theorem dX1_smother_29 : decode cX1_smother 29 = .ok (.invokevirtual 263, 3) := dk_182 1 7 (dk_at dksX1_smother_1 5 rfl rfl)
theorem dX1_smother_32 : decode cX1_smother 32 = .ok (.istore 4, 2) := dk_54 4 (dk_at dksX1_smother_1 8 rfl rfl)
theorem dX1_smother_34 : decode cX1_smother 34 = .ok (.aload_n 2, 1) := dk_44 (dk_at dksX1_smother_1 10 rfl rfl)
theorem dX1_smother_35 : decode cX1_smother 35 = .ok (.aload_n 2, 1) := dk_44 (dk_at dksX1_smother_1 11 rfl rfl)
theorem dX1_smother_36 : decode cX1_smother 36 = .ok (.getfield 235, 3) := dk_180 0 235 (dk_at dksX1_smother_1 12 rfl rfl)
theorem dX1_smother_39 : decode cX1_smother 39 = .ok (.iload_n 3, 1) := dk_29 (dk_at dksX1_smother_1 15 rfl rfl)
theorem dX1_smother_40 : decode cX1_smother 40 = .ok (.invokevirtual 274, 3) := dk_182 1 18 (dk_at dksX1_smother_1 16 rfl rfl)
theorem dX1_smother_43 : decode cX1_smother 43 = .ok (.ifCond .eq 52, 3) := dk_153 0 52 (dk_at dksX1_smother_1 19 rfl rfl)
theorem dX1_smother_46 : decode cX1_smother 46 = .ok (.aload_n 2, 1) := dk_44 (dk_at dksX1_smother_1 22 rfl rfl)
theorem dX1_smother_47 : decode cX1_smother 47 = .ok (.getfield 235, 3) := dk_180 0 235 (dk_at dksX1_smother_2 0 rfl rfl)
theorem dX1_smother_50 : decode cX1_smother 50 = .ok (.getfield 266, 3) := dk_180 1 10 (dk_at dksX1_smother_2 3 rfl rfl)
theorem dX1_smother_53 : decode cX1_smother 53 = .ok (.iload_n 3, 1) := dk_29 (dk_at dksX1_smother_2 6 rfl rfl)
theorem dX1_smother_54 : decode cX1_smother 54 = .ok (.iaload, 1) := dk_46 (dk_at dksX1_smother_2 7 rfl rfl)
theorem dX1_smother_55 : decode cX1_smother 55 = .ok (.sipush 600, 3) := dk_17 2 88 (dk_at dksX1_smother_2 8 rfl rfl)
theorem dX1_smother_58 : decode cX1_smother 58 = .ok (.if_icmp .lt 37, 3) := dk_161 0 37 (dk_at dksX1_smother_2 11 rfl rfl)
theorem dX1_smother_61 : decode cX1_smother 61 = .ok (.aload_n 2, 1) := dk_44 (dk_at dksX1_smother_2 14 rfl rfl)
theorem dX1_smother_62 : decode cX1_smother 62 = .ok (.getfield 254, 3) := dk_180 0 254 (dk_at dksX1_smother_2 15 rfl rfl)
theorem dX1_smother_65 : decode cX1_smother 65 = .ok (.iload 4, 2) := dk_21 4 (dk_at dksX1_smother_2 18 rfl rfl)
theorem dX1_smother_67 : decode cX1_smother 67 = .ok (.iaload, 1) := dk_46 (dk_at dksX1_smother_2 20 rfl rfl)
theorem dX1_smother_68 : decode cX1_smother 68 = .ok (.ifCond .ne 6, 3) := dk_154 0 6 (dk_at dksX1_smother_2 21 rfl rfl)
theorem dX1_smother_71 : decode cX1_smother 71 = .ok (.goto 24, 3) := dk_167 0 24 (dk_at dksX1_smother_3 0 rfl rfl)
theorem dX1_smother_74 : decode cX1_smother 74 = .ok (.aload_n 2, 1) := dk_44 (dk_at dksX1_smother_3 3 rfl rfl)
theorem dX1_smother_75 : decode cX1_smother 75 = .ok (.getfield 254, 3) := dk_180 0 254 (dk_at dksX1_smother_3 4 rfl rfl)
theorem dX1_smother_78 : decode cX1_smother 78 = .ok (.iload 4, 2) := dk_21 4 (dk_at dksX1_smother_3 7 rfl rfl)
theorem dX1_smother_80 : decode cX1_smother 80 = .ok (.dup2, 1) := dk_92 (dk_at dksX1_smother_3 9 rfl rfl)
theorem dX1_smother_81 : decode cX1_smother 81 = .ok (.iaload, 1) := dk_46 (dk_at dksX1_smother_3 10 rfl rfl)
theorem dX1_smother_82 : decode cX1_smother 82 = .ok (.iconst 1, 1) := dk_4 (dk_at dksX1_smother_3 11 rfl rfl)
theorem dX1_smother_83 : decode cX1_smother 83 = .ok (.isub, 1) := dk_100 (dk_at dksX1_smother_3 12 rfl rfl)
theorem dX1_smother_84 : decode cX1_smother 84 = .ok (.iastore, 1) := dk_79 (dk_at dksX1_smother_3 13 rfl rfl)
theorem dX1_smother_85 : decode cX1_smother 85 = .ok (.aload_n 2, 1) := dk_44 (dk_at dksX1_smother_3 14 rfl rfl)
theorem dX1_smother_86 : decode cX1_smother 86 = .ok (.dup, 1) := dk_89 (dk_at dksX1_smother_3 15 rfl rfl)
theorem dX1_smother_87 : decode cX1_smother 87 = .ok (.getfield 295, 3) := dk_180 1 39 (dk_at dksX1_smother_3 16 rfl rfl)
theorem dX1_smother_90 : decode cX1_smother 90 = .ok (.iconst 1, 1) := dk_4 (dk_at dksX1_smother_3 19 rfl rfl)
theorem dX1_smother_91 : decode cX1_smother 91 = .ok (.iadd, 1) := dk_96 (dk_at dksX1_smother_3 20 rfl rfl)
theorem dX1_smother_92 : decode cX1_smother 92 = .ok (.putfield 295, 3) := dk_181 1 39 (dk_at dksX1_smother_3 21 rfl rfl)
theorem dX1_smother_95 : decode cX1_smother 95 = .ok (.iinc 3 1, 3) := dk_132 3 1 (dk_at dksX1_smother_4 0 rfl rfl)
theorem dX1_smother_98 : decode cX1_smother 98 = .ok (.goto (-79), 3) := dk_167 255 177 (dk_at dksX1_smother_4 3 rfl rfl)
theorem dX1_smother_101 : decode cX1_smother 101 = .ok (.iinc 1 1, 3) := dk_132 1 1 (dk_at dksX1_smother_4 6 rfl rfl)
theorem dX1_smother_104 : decode cX1_smother 104 = .ok (.goto (-102), 3) := dk_167 255 154 (dk_at dksX1_smother_4 9 rfl rfl)
theorem dX1_smother_107 : decode cX1_smother 107 = .ok (.return_, 1) := dk_177 (dk_at dksX1_smother_4 12 rfl rfl)
abbrev cX1_finish : ByteArray := prog_1_method_106_code
def yX1_finish : MethodName := ⟨RX1, "finish", "()V"⟩
def dkwX1_finish_5 : List UInt8 := [182, 1, 165, 132, 1, 1, 167, 255, 203, 177]
abbrev dktX1_finish_5 : List UInt8 := dkwX1_finish_5 ++ []
def dkwX1_finish_4 : List UInt8 := [180, 0, 48, 27, 50, 180, 1, 145, 180, 1, 52, 182, 2, 82, 199, 0, 13, 42, 42, 180, 0, 48, 27, 50]
abbrev dktX1_finish_4 : List UInt8 := dkwX1_finish_4 ++ dktX1_finish_5
def dkwX1_finish_3 : List UInt8 := [60, 27, 42, 180, 1, 109, 162, 0, 51, 42, 180, 0, 48, 27, 50, 180, 1, 133, 5, 160, 0, 32, 42, 42]
abbrev dktX1_finish_3 : List UInt8 := dkwX1_finish_3 ++ dktX1_finish_4
def dkwX1_finish_2 : List UInt8 := [182, 2, 82, 199, 0, 14, 42, 42, 180, 0, 74, 27, 50, 4, 182, 2, 165, 132, 1, 1, 167, 255, 190, 3]
abbrev dktX1_finish_2 : List UInt8 := dkwX1_finish_2 ++ dktX1_finish_3
def dkwX1_finish_1 : List UInt8 := [180, 0, 74, 27, 50, 180, 2, 78, 182, 2, 228, 153, 0, 30, 42, 42, 180, 0, 74, 27, 50, 180, 2, 78]
abbrev dktX1_finish_1 : List UInt8 := dkwX1_finish_1 ++ dktX1_finish_2
def dkwX1_finish_0 : List UInt8 := [3, 60, 27, 42, 180, 2, 75, 162, 0, 64, 42, 180, 0, 74, 27, 50, 180, 2, 79, 154, 0, 46, 42, 42]
abbrev dktX1_finish_0 : List UInt8 := dkwX1_finish_0 ++ dktX1_finish_1
theorem dksX1_finish_0 : cX1_finish.data.toList.drop 0 = dktX1_finish_0 := by decide +kernel
theorem dksX1_finish_1 : cX1_finish.data.toList.drop 24 = dktX1_finish_1 := dk_seg dksX1_finish_0 24 rfl rfl
theorem dksX1_finish_2 : cX1_finish.data.toList.drop 48 = dktX1_finish_2 := dk_seg dksX1_finish_1 24 rfl rfl
theorem dksX1_finish_3 : cX1_finish.data.toList.drop 72 = dktX1_finish_3 := dk_seg dksX1_finish_2 24 rfl rfl
theorem dksX1_finish_4 : cX1_finish.data.toList.drop 96 = dktX1_finish_4 := dk_seg dksX1_finish_3 24 rfl rfl
theorem dksX1_finish_5 : cX1_finish.data.toList.drop 120 = dktX1_finish_5 := dk_seg dksX1_finish_4 24 rfl rfl
theorem dX1_finish_0 : decode cX1_finish 0 = .ok (.iconst 0, 1) := dk_3 (dk_at dksX1_finish_0 0 rfl rfl)
theorem dX1_finish_1 : decode cX1_finish 1 = .ok (.istore_n 1, 1) := dk_60 (dk_at dksX1_finish_0 1 rfl rfl)
theorem dX1_finish_2 : decode cX1_finish 2 = .ok (.iload_n 1, 1) := dk_27 (dk_at dksX1_finish_0 2 rfl rfl)
theorem dX1_finish_3 : decode cX1_finish 3 = .ok (.aload_n 0, 1) := dk_42 (dk_at dksX1_finish_0 3 rfl rfl)
theorem dX1_finish_4 : decode cX1_finish 4 = .ok (.getfield 587, 3) := dk_180 2 75 (dk_at dksX1_finish_0 4 rfl rfl)
theorem dX1_finish_7 : decode cX1_finish 7 = .ok (.if_icmp .ge 64, 3) := dk_162 0 64 (dk_at dksX1_finish_0 7 rfl rfl)
theorem dX1_finish_10 : decode cX1_finish 10 = .ok (.aload_n 0, 1) := dk_42 (dk_at dksX1_finish_0 10 rfl rfl)
theorem dX1_finish_11 : decode cX1_finish 11 = .ok (.getfield 74, 3) := dk_180 0 74 (dk_at dksX1_finish_0 11 rfl rfl)
theorem dX1_finish_14 : decode cX1_finish 14 = .ok (.iload_n 1, 1) := dk_27 (dk_at dksX1_finish_0 14 rfl rfl)
theorem dX1_finish_15 : decode cX1_finish 15 = .ok (.aaload, 1) := dk_50 (dk_at dksX1_finish_0 15 rfl rfl)
theorem dX1_finish_16 : decode cX1_finish 16 = .ok (.getfield 591, 3) := dk_180 2 79 (dk_at dksX1_finish_0 16 rfl rfl)
theorem dX1_finish_19 : decode cX1_finish 19 = .ok (.ifCond .ne 46, 3) := dk_154 0 46 (dk_at dksX1_finish_0 19 rfl rfl)
theorem dX1_finish_22 : decode cX1_finish 22 = .ok (.aload_n 0, 1) := dk_42 (dk_at dksX1_finish_0 22 rfl rfl)
theorem dX1_finish_23 : decode cX1_finish 23 = .ok (.aload_n 0, 1) := dk_42 (dk_at dksX1_finish_0 23 rfl rfl)
theorem dX1_finish_24 : decode cX1_finish 24 = .ok (.getfield 74, 3) := dk_180 0 74 (dk_at dksX1_finish_1 0 rfl rfl)
theorem dX1_finish_27 : decode cX1_finish 27 = .ok (.iload_n 1, 1) := dk_27 (dk_at dksX1_finish_1 3 rfl rfl)
theorem dX1_finish_28 : decode cX1_finish 28 = .ok (.aaload, 1) := dk_50 (dk_at dksX1_finish_1 4 rfl rfl)
theorem dX1_finish_29 : decode cX1_finish 29 = .ok (.getfield 590, 3) := dk_180 2 78 (dk_at dksX1_finish_1 5 rfl rfl)
theorem dX1_finish_32 : decode cX1_finish 32 = .ok (.invokevirtual 740, 3) := dk_182 2 228 (dk_at dksX1_finish_1 8 rfl rfl)
theorem dX1_finish_35 : decode cX1_finish 35 = .ok (.ifCond .eq 30, 3) := dk_153 0 30 (dk_at dksX1_finish_1 11 rfl rfl)
theorem dX1_finish_38 : decode cX1_finish 38 = .ok (.aload_n 0, 1) := dk_42 (dk_at dksX1_finish_1 14 rfl rfl)
theorem dX1_finish_39 : decode cX1_finish 39 = .ok (.aload_n 0, 1) := dk_42 (dk_at dksX1_finish_1 15 rfl rfl)
theorem dX1_finish_40 : decode cX1_finish 40 = .ok (.getfield 74, 3) := dk_180 0 74 (dk_at dksX1_finish_1 16 rfl rfl)
theorem dX1_finish_43 : decode cX1_finish 43 = .ok (.iload_n 1, 1) := dk_27 (dk_at dksX1_finish_1 19 rfl rfl)
theorem dX1_finish_44 : decode cX1_finish 44 = .ok (.aaload, 1) := dk_50 (dk_at dksX1_finish_1 20 rfl rfl)
theorem dX1_finish_45 : decode cX1_finish 45 = .ok (.getfield 590, 3) := dk_180 2 78 (dk_at dksX1_finish_1 21 rfl rfl)
theorem dX1_finish_48 : decode cX1_finish 48 = .ok (.invokevirtual 594, 3) := dk_182 2 82 (dk_at dksX1_finish_2 0 rfl rfl)
theorem dX1_finish_51 : decode cX1_finish 51 = .ok (.ifnonnull 14, 3) := dk_199 0 14 (dk_at dksX1_finish_2 3 rfl rfl)
theorem dX1_finish_54 : decode cX1_finish 54 = .ok (.aload_n 0, 1) := dk_42 (dk_at dksX1_finish_2 6 rfl rfl)
theorem dX1_finish_55 : decode cX1_finish 55 = .ok (.aload_n 0, 1) := dk_42 (dk_at dksX1_finish_2 7 rfl rfl)
theorem dX1_finish_56 : decode cX1_finish 56 = .ok (.getfield 74, 3) := dk_180 0 74 (dk_at dksX1_finish_2 8 rfl rfl)
theorem dX1_finish_59 : decode cX1_finish 59 = .ok (.iload_n 1, 1) := dk_27 (dk_at dksX1_finish_2 11 rfl rfl)
theorem dX1_finish_60 : decode cX1_finish 60 = .ok (.aaload, 1) := dk_50 (dk_at dksX1_finish_2 12 rfl rfl)
theorem dX1_finish_61 : decode cX1_finish 61 = .ok (.iconst 1, 1) := dk_4 (dk_at dksX1_finish_2 13 rfl rfl)
theorem dX1_finish_62 : decode cX1_finish 62 = .ok (.invokevirtual 677, 3) := dk_182 2 165 (dk_at dksX1_finish_2 14 rfl rfl)
theorem dX1_finish_65 : decode cX1_finish 65 = .ok (.iinc 1 1, 3) := dk_132 1 1 (dk_at dksX1_finish_2 17 rfl rfl)
theorem dX1_finish_68 : decode cX1_finish 68 = .ok (.goto (-66), 3) := dk_167 255 190 (dk_at dksX1_finish_2 20 rfl rfl)
theorem dX1_finish_71 : decode cX1_finish 71 = .ok (.iconst 0, 1) := dk_3 (dk_at dksX1_finish_2 23 rfl rfl)
theorem dX1_finish_72 : decode cX1_finish 72 = .ok (.istore_n 1, 1) := dk_60 (dk_at dksX1_finish_3 0 rfl rfl)
theorem dX1_finish_73 : decode cX1_finish 73 = .ok (.iload_n 1, 1) := dk_27 (dk_at dksX1_finish_3 1 rfl rfl)
theorem dX1_finish_74 : decode cX1_finish 74 = .ok (.aload_n 0, 1) := dk_42 (dk_at dksX1_finish_3 2 rfl rfl)
theorem dX1_finish_75 : decode cX1_finish 75 = .ok (.getfield 365, 3) := dk_180 1 109 (dk_at dksX1_finish_3 3 rfl rfl)
theorem dX1_finish_78 : decode cX1_finish 78 = .ok (.if_icmp .ge 51, 3) := dk_162 0 51 (dk_at dksX1_finish_3 6 rfl rfl)
theorem dX1_finish_81 : decode cX1_finish 81 = .ok (.aload_n 0, 1) := dk_42 (dk_at dksX1_finish_3 9 rfl rfl)
theorem dX1_finish_82 : decode cX1_finish 82 = .ok (.getfield 48, 3) := dk_180 0 48 (dk_at dksX1_finish_3 10 rfl rfl)
theorem dX1_finish_85 : decode cX1_finish 85 = .ok (.iload_n 1, 1) := dk_27 (dk_at dksX1_finish_3 13 rfl rfl)
theorem dX1_finish_86 : decode cX1_finish 86 = .ok (.aaload, 1) := dk_50 (dk_at dksX1_finish_3 14 rfl rfl)
theorem dX1_finish_87 : decode cX1_finish 87 = .ok (.getfield 389, 3) := dk_180 1 133 (dk_at dksX1_finish_3 15 rfl rfl)
theorem dX1_finish_90 : decode cX1_finish 90 = .ok (.iconst 2, 1) := dk_5 (dk_at dksX1_finish_3 18 rfl rfl)
theorem dX1_finish_91 : decode cX1_finish 91 = .ok (.if_icmp .ne 32, 3) := dk_160 0 32 (dk_at dksX1_finish_3 19 rfl rfl)
theorem dX1_finish_94 : decode cX1_finish 94 = .ok (.aload_n 0, 1) := dk_42 (dk_at dksX1_finish_3 22 rfl rfl)
theorem dX1_finish_95 : decode cX1_finish 95 = .ok (.aload_n 0, 1) := dk_42 (dk_at dksX1_finish_3 23 rfl rfl)
theorem dX1_finish_96 : decode cX1_finish 96 = .ok (.getfield 48, 3) := dk_180 0 48 (dk_at dksX1_finish_4 0 rfl rfl)
theorem dX1_finish_99 : decode cX1_finish 99 = .ok (.iload_n 1, 1) := dk_27 (dk_at dksX1_finish_4 3 rfl rfl)
theorem dX1_finish_100 : decode cX1_finish 100 = .ok (.aaload, 1) := dk_50 (dk_at dksX1_finish_4 4 rfl rfl)
theorem dX1_finish_101 : decode cX1_finish 101 = .ok (.getfield 401, 3) := dk_180 1 145 (dk_at dksX1_finish_4 5 rfl rfl)
theorem dX1_finish_104 : decode cX1_finish 104 = .ok (.getfield 308, 3) := dk_180 1 52 (dk_at dksX1_finish_4 8 rfl rfl)
theorem dX1_finish_107 : decode cX1_finish 107 = .ok (.invokevirtual 594, 3) := dk_182 2 82 (dk_at dksX1_finish_4 11 rfl rfl)
theorem dX1_finish_110 : decode cX1_finish 110 = .ok (.ifnonnull 13, 3) := dk_199 0 13 (dk_at dksX1_finish_4 14 rfl rfl)
theorem dX1_finish_113 : decode cX1_finish 113 = .ok (.aload_n 0, 1) := dk_42 (dk_at dksX1_finish_4 17 rfl rfl)
theorem dX1_finish_114 : decode cX1_finish 114 = .ok (.aload_n 0, 1) := dk_42 (dk_at dksX1_finish_4 18 rfl rfl)
theorem dX1_finish_115 : decode cX1_finish 115 = .ok (.getfield 48, 3) := dk_180 0 48 (dk_at dksX1_finish_4 19 rfl rfl)
theorem dX1_finish_118 : decode cX1_finish 118 = .ok (.iload_n 1, 1) := dk_27 (dk_at dksX1_finish_4 22 rfl rfl)
theorem dX1_finish_119 : decode cX1_finish 119 = .ok (.aaload, 1) := dk_50 (dk_at dksX1_finish_4 23 rfl rfl)
theorem dX1_finish_120 : decode cX1_finish 120 = .ok (.invokevirtual 421, 3) := dk_182 1 165 (dk_at dksX1_finish_5 0 rfl rfl)
theorem dX1_finish_123 : decode cX1_finish 123 = .ok (.iinc 1 1, 3) := dk_132 1 1 (dk_at dksX1_finish_5 3 rfl rfl)
theorem dX1_finish_126 : decode cX1_finish 126 = .ok (.goto (-53), 3) := dk_167 255 203 (dk_at dksX1_finish_5 6 rfl rfl)
theorem dX1_finish_129 : decode cX1_finish 129 = .ok (.return_, 1) := dk_177 (dk_at dksX1_finish_5 9 rfl rfl)
abbrev cX1_isWorked : ByteArray := prog_1_method_105_code
def yX1_isWorked : MethodName := ⟨RX1, "isWorked", "(I)Z"⟩
def dkwX1_isWorked_2 : List UInt8 := [172]
abbrev dktX1_isWorked_2 : List UInt8 := dkwX1_isWorked_2 ++ []
def dkwX1_isWorked_1 : List UInt8 := [180, 0, 48, 28, 50, 180, 1, 145, 180, 1, 52, 27, 160, 0, 5, 4, 172, 132, 2, 1, 167, 255, 214, 3]
abbrev dktX1_isWorked_1 : List UInt8 := dkwX1_isWorked_1 ++ dktX1_isWorked_2
def dkwX1_isWorked_0 : List UInt8 := [3, 61, 28, 42, 180, 1, 109, 162, 0, 40, 42, 180, 0, 48, 28, 50, 180, 1, 133, 5, 160, 0, 21, 42]
abbrev dktX1_isWorked_0 : List UInt8 := dkwX1_isWorked_0 ++ dktX1_isWorked_1
theorem dksX1_isWorked_0 : cX1_isWorked.data.toList.drop 0 = dktX1_isWorked_0 := by decide +kernel
theorem dksX1_isWorked_1 : cX1_isWorked.data.toList.drop 24 = dktX1_isWorked_1 := dk_seg dksX1_isWorked_0 24 rfl rfl
theorem dksX1_isWorked_2 : cX1_isWorked.data.toList.drop 48 = dktX1_isWorked_2 := dk_seg dksX1_isWorked_1 24 rfl rfl
theorem dX1_isWorked_0 : decode cX1_isWorked 0 = .ok (.iconst 0, 1) := dk_3 (dk_at dksX1_isWorked_0 0 rfl rfl)
theorem dX1_isWorked_1 : decode cX1_isWorked 1 = .ok (.istore_n 2, 1) := dk_61 (dk_at dksX1_isWorked_0 1 rfl rfl)
theorem dX1_isWorked_2 : decode cX1_isWorked 2 = .ok (.iload_n 2, 1) := dk_28 (dk_at dksX1_isWorked_0 2 rfl rfl)
theorem dX1_isWorked_3 : decode cX1_isWorked 3 = .ok (.aload_n 0, 1) := dk_42 (dk_at dksX1_isWorked_0 3 rfl rfl)
theorem dX1_isWorked_4 : decode cX1_isWorked 4 = .ok (.getfield 365, 3) := dk_180 1 109 (dk_at dksX1_isWorked_0 4 rfl rfl)
theorem dX1_isWorked_7 : decode cX1_isWorked 7 = .ok (.if_icmp .ge 40, 3) := dk_162 0 40 (dk_at dksX1_isWorked_0 7 rfl rfl)
theorem dX1_isWorked_10 : decode cX1_isWorked 10 = .ok (.aload_n 0, 1) := dk_42 (dk_at dksX1_isWorked_0 10 rfl rfl)
theorem dX1_isWorked_11 : decode cX1_isWorked 11 = .ok (.getfield 48, 3) := dk_180 0 48 (dk_at dksX1_isWorked_0 11 rfl rfl)
theorem dX1_isWorked_14 : decode cX1_isWorked 14 = .ok (.iload_n 2, 1) := dk_28 (dk_at dksX1_isWorked_0 14 rfl rfl)
theorem dX1_isWorked_15 : decode cX1_isWorked 15 = .ok (.aaload, 1) := dk_50 (dk_at dksX1_isWorked_0 15 rfl rfl)
theorem dX1_isWorked_16 : decode cX1_isWorked 16 = .ok (.getfield 389, 3) := dk_180 1 133 (dk_at dksX1_isWorked_0 16 rfl rfl)
theorem dX1_isWorked_19 : decode cX1_isWorked 19 = .ok (.iconst 2, 1) := dk_5 (dk_at dksX1_isWorked_0 19 rfl rfl)
theorem dX1_isWorked_20 : decode cX1_isWorked 20 = .ok (.if_icmp .ne 21, 3) := dk_160 0 21 (dk_at dksX1_isWorked_0 20 rfl rfl)
theorem dX1_isWorked_23 : decode cX1_isWorked 23 = .ok (.aload_n 0, 1) := dk_42 (dk_at dksX1_isWorked_0 23 rfl rfl)
theorem dX1_isWorked_24 : decode cX1_isWorked 24 = .ok (.getfield 48, 3) := dk_180 0 48 (dk_at dksX1_isWorked_1 0 rfl rfl)
theorem dX1_isWorked_27 : decode cX1_isWorked 27 = .ok (.iload_n 2, 1) := dk_28 (dk_at dksX1_isWorked_1 3 rfl rfl)
theorem dX1_isWorked_28 : decode cX1_isWorked 28 = .ok (.aaload, 1) := dk_50 (dk_at dksX1_isWorked_1 4 rfl rfl)
theorem dX1_isWorked_29 : decode cX1_isWorked 29 = .ok (.getfield 401, 3) := dk_180 1 145 (dk_at dksX1_isWorked_1 5 rfl rfl)
theorem dX1_isWorked_32 : decode cX1_isWorked 32 = .ok (.getfield 308, 3) := dk_180 1 52 (dk_at dksX1_isWorked_1 8 rfl rfl)
theorem dX1_isWorked_35 : decode cX1_isWorked 35 = .ok (.iload_n 1, 1) := dk_27 (dk_at dksX1_isWorked_1 11 rfl rfl)
theorem dX1_isWorked_36 : decode cX1_isWorked 36 = .ok (.if_icmp .ne 5, 3) := dk_160 0 5 (dk_at dksX1_isWorked_1 12 rfl rfl)
theorem dX1_isWorked_39 : decode cX1_isWorked 39 = .ok (.iconst 1, 1) := dk_4 (dk_at dksX1_isWorked_1 15 rfl rfl)
theorem dX1_isWorked_40 : decode cX1_isWorked 40 = .ok (.ireturn, 1) := dk_172 (dk_at dksX1_isWorked_1 16 rfl rfl)
theorem dX1_isWorked_41 : decode cX1_isWorked 41 = .ok (.iinc 2 1, 3) := dk_132 2 1 (dk_at dksX1_isWorked_1 17 rfl rfl)
theorem dX1_isWorked_44 : decode cX1_isWorked 44 = .ok (.goto (-42), 3) := dk_167 255 214 (dk_at dksX1_isWorked_1 20 rfl rfl)
theorem dX1_isWorked_47 : decode cX1_isWorked 47 = .ok (.iconst 0, 1) := dk_3 (dk_at dksX1_isWorked_1 23 rfl rfl)
theorem dX1_isWorked_48 : decode cX1_isWorked 48 = .ok (.ireturn, 1) := dk_172 (dk_at dksX1_isWorked_2 0 rfl rfl)
abbrev cX1_act : ByteArray := prog_1_method_108_code
def yX1_act : MethodName := ⟨RX1, "act", "(I)I"⟩
def dkwX1_act_3 : List UInt8 := [96, 181, 2, 234, 42, 3, 181, 1, 202, 42, 180, 2, 234, 4, 100, 172]
abbrev dktX1_act_3 : List UInt8 := dkwX1_act_3 ++ []
def dkwX1_act_2 : List UInt8 := [180, 2, 234, 27, 79, 42, 180, 0, 90, 42, 180, 2, 234, 42, 180, 1, 159, 79, 42, 89, 180, 2, 234, 4]
abbrev dktX1_act_2 : List UInt8 := dkwX1_act_2 ++ dktX1_act_3
def dkwX1_act_1 : List UInt8 := [180, 0, 84, 42, 180, 2, 234, 42, 5, 182, 2, 64, 83, 167, 0, 6, 77, 2, 172, 42, 180, 0, 87, 42]
abbrev dktX1_act_1 : List UInt8 := dkwX1_act_1 ++ dktX1_act_2
def dkwX1_act_0 : List UInt8 := [27, 4, 17, 0, 200, 184, 0, 3, 153, 0, 12, 42, 180, 2, 234, 16, 12, 160, 0, 5, 2, 172, 42]
abbrev dktX1_act_0 : List UInt8 := dkwX1_act_0 ++ dktX1_act_1
theorem dksX1_act_0 : cX1_act.data.toList.drop 0 = dktX1_act_0 := by decide +kernel
theorem dksX1_act_1 : cX1_act.data.toList.drop 23 = dktX1_act_1 := dk_seg dksX1_act_0 23 rfl rfl
theorem dksX1_act_2 : cX1_act.data.toList.drop 47 = dktX1_act_2 := dk_seg dksX1_act_1 24 rfl rfl
theorem dksX1_act_3 : cX1_act.data.toList.drop 71 = dktX1_act_3 := dk_seg dksX1_act_2 24 rfl rfl
theorem dX1_act_0 : decode cX1_act 0 = .ok (.iload_n 1, 1) := dk_27 (dk_at dksX1_act_0 0 rfl rfl)
theorem dX1_act_1 : decode cX1_act 1 = .ok (.iconst 1, 1) := dk_4 (dk_at dksX1_act_0 1 rfl rfl)
theorem dX1_act_2 : decode cX1_act 2 = .ok (.sipush 200, 3) := dk_17 0 200 (dk_at dksX1_act_0 2 rfl rfl)
theorem dX1_act_5 : decode cX1_act 5 = .ok (.invokestatic 3, 3) := dk_184 0 3 (dk_at dksX1_act_0 5 rfl rfl)
theorem dX1_act_8 : decode cX1_act 8 = .ok (.ifCond .eq 12, 3) := dk_153 0 12 (dk_at dksX1_act_0 8 rfl rfl)
theorem dX1_act_11 : decode cX1_act 11 = .ok (.aload_n 0, 1) := dk_42 (dk_at dksX1_act_0 11 rfl rfl)
theorem dX1_act_12 : decode cX1_act 12 = .ok (.getfield 746, 3) := dk_180 2 234 (dk_at dksX1_act_0 12 rfl rfl)
theorem dX1_act_15 : decode cX1_act 15 = .ok (.bipush 12, 2) := dk_16 12 (dk_at dksX1_act_0 15 rfl rfl)
theorem dX1_act_17 : decode cX1_act 17 = .ok (.if_icmp .ne 5, 3) := dk_160 0 5 (dk_at dksX1_act_0 17 rfl rfl)
theorem dX1_act_20 : decode cX1_act 20 = .ok (.iconst (-1), 1) := dk_2 (dk_at dksX1_act_0 20 rfl rfl)
theorem dX1_act_21 : decode cX1_act 21 = .ok (.ireturn, 1) := dk_172 (dk_at dksX1_act_0 21 rfl rfl)
theorem dX1_act_22 : decode cX1_act 22 = .ok (.aload_n 0, 1) := dk_42 (dk_at dksX1_act_0 22 rfl rfl)
theorem dX1_act_23 : decode cX1_act 23 = .ok (.getfield 84, 3) := dk_180 0 84 (dk_at dksX1_act_1 0 rfl rfl)
theorem dX1_act_26 : decode cX1_act 26 = .ok (.aload_n 0, 1) := dk_42 (dk_at dksX1_act_1 3 rfl rfl)
theorem dX1_act_27 : decode cX1_act 27 = .ok (.getfield 746, 3) := dk_180 2 234 (dk_at dksX1_act_1 4 rfl rfl)
theorem dX1_act_30 : decode cX1_act 30 = .ok (.aload_n 0, 1) := dk_42 (dk_at dksX1_act_1 7 rfl rfl)
theorem dX1_act_31 : decode cX1_act 31 = .ok (.iconst 2, 1) := dk_5 (dk_at dksX1_act_1 8 rfl rfl)
theorem dX1_act_32 : decode cX1_act 32 = .ok (.invokevirtual 576, 3) := dk_182 2 64 (dk_at dksX1_act_1 9 rfl rfl)
theorem dX1_act_35 : decode cX1_act 35 = .ok (.aastore, 1) := dk_83 (dk_at dksX1_act_1 12 rfl rfl)
theorem dX1_act_36 : decode cX1_act 36 = .ok (.goto 6, 3) := dk_167 0 6 (dk_at dksX1_act_1 13 rfl rfl)
theorem dX1_act_39 : decode cX1_act 39 = .ok (.astore_n 2, 1) := dk_77 (dk_at dksX1_act_1 16 rfl rfl)
theorem dX1_act_40 : decode cX1_act 40 = .ok (.iconst (-1), 1) := dk_2 (dk_at dksX1_act_1 17 rfl rfl)
theorem dX1_act_41 : decode cX1_act 41 = .ok (.ireturn, 1) := dk_172 (dk_at dksX1_act_1 18 rfl rfl)
theorem dX1_act_42 : decode cX1_act 42 = .ok (.aload_n 0, 1) := dk_42 (dk_at dksX1_act_1 19 rfl rfl)
theorem dX1_act_43 : decode cX1_act 43 = .ok (.getfield 87, 3) := dk_180 0 87 (dk_at dksX1_act_1 20 rfl rfl)
theorem dX1_act_46 : decode cX1_act 46 = .ok (.aload_n 0, 1) := dk_42 (dk_at dksX1_act_1 23 rfl rfl)
theorem dX1_act_47 : decode cX1_act 47 = .ok (.getfield 746, 3) := dk_180 2 234 (dk_at dksX1_act_2 0 rfl rfl)
theorem dX1_act_50 : decode cX1_act 50 = .ok (.iload_n 1, 1) := dk_27 (dk_at dksX1_act_2 3 rfl rfl)
theorem dX1_act_51 : decode cX1_act 51 = .ok (.iastore, 1) := dk_79 (dk_at dksX1_act_2 4 rfl rfl)
theorem dX1_act_52 : decode cX1_act 52 = .ok (.aload_n 0, 1) := dk_42 (dk_at dksX1_act_2 5 rfl rfl)
theorem dX1_act_53 : decode cX1_act 53 = .ok (.getfield 90, 3) := dk_180 0 90 (dk_at dksX1_act_2 6 rfl rfl)
theorem dX1_act_56 : decode cX1_act 56 = .ok (.aload_n 0, 1) := dk_42 (dk_at dksX1_act_2 9 rfl rfl)
theorem dX1_act_57 : decode cX1_act 57 = .ok (.getfield 746, 3) := dk_180 2 234 (dk_at dksX1_act_2 10 rfl rfl)
theorem dX1_act_60 : decode cX1_act 60 = .ok (.aload_n 0, 1) := dk_42 (dk_at dksX1_act_2 13 rfl rfl)
theorem dX1_act_61 : decode cX1_act 61 = .ok (.getfield 415, 3) := dk_180 1 159 (dk_at dksX1_act_2 14 rfl rfl)
theorem dX1_act_64 : decode cX1_act 64 = .ok (.iastore, 1) := dk_79 (dk_at dksX1_act_2 17 rfl rfl)
theorem dX1_act_65 : decode cX1_act 65 = .ok (.aload_n 0, 1) := dk_42 (dk_at dksX1_act_2 18 rfl rfl)
theorem dX1_act_66 : decode cX1_act 66 = .ok (.dup, 1) := dk_89 (dk_at dksX1_act_2 19 rfl rfl)
theorem dX1_act_67 : decode cX1_act 67 = .ok (.getfield 746, 3) := dk_180 2 234 (dk_at dksX1_act_2 20 rfl rfl)
theorem dX1_act_70 : decode cX1_act 70 = .ok (.iconst 1, 1) := dk_4 (dk_at dksX1_act_2 23 rfl rfl)
theorem dX1_act_71 : decode cX1_act 71 = .ok (.iadd, 1) := dk_96 (dk_at dksX1_act_3 0 rfl rfl)
theorem dX1_act_72 : decode cX1_act 72 = .ok (.putfield 746, 3) := dk_181 2 234 (dk_at dksX1_act_3 1 rfl rfl)
theorem dX1_act_75 : decode cX1_act 75 = .ok (.aload_n 0, 1) := dk_42 (dk_at dksX1_act_3 4 rfl rfl)
theorem dX1_act_76 : decode cX1_act 76 = .ok (.iconst 0, 1) := dk_3 (dk_at dksX1_act_3 5 rfl rfl)
theorem dX1_act_77 : decode cX1_act 77 = .ok (.putfield 458, 3) := dk_181 1 202 (dk_at dksX1_act_3 6 rfl rfl)
theorem dX1_act_80 : decode cX1_act 80 = .ok (.aload_n 0, 1) := dk_42 (dk_at dksX1_act_3 9 rfl rfl)
theorem dX1_act_81 : decode cX1_act 81 = .ok (.getfield 746, 3) := dk_180 2 234 (dk_at dksX1_act_3 10 rfl rfl)
theorem dX1_act_84 : decode cX1_act 84 = .ok (.iconst 1, 1) := dk_4 (dk_at dksX1_act_3 13 rfl rfl)
theorem dX1_act_85 : decode cX1_act 85 = .ok (.isub, 1) := dk_100 (dk_at dksX1_act_3 14 rfl rfl)
theorem dX1_act_86 : decode cX1_act 86 = .ok (.ireturn, 1) := dk_172 (dk_at dksX1_act_3 15 rfl rfl)
abbrev cX1_force : ByteArray := prog_1_method_111_code
def yX1_force : MethodName := ⟨RX1, "force", "(II)I"⟩
def dkwX1_force_1 : List UInt8 := [172]
abbrev dktX1_force_1 : List UInt8 := dkwX1_force_1 ++ []
def dkwX1_force_0 : List UInt8 := [42, 27, 28, 182, 2, 237, 153, 0, 17, 42, 42, 180, 0, 30, 27, 50, 28, 182, 2, 240, 167, 0, 4, 2]
abbrev dktX1_force_0 : List UInt8 := dkwX1_force_0 ++ dktX1_force_1
theorem dksX1_force_0 : cX1_force.data.toList.drop 0 = dktX1_force_0 := by decide +kernel
theorem dksX1_force_1 : cX1_force.data.toList.drop 24 = dktX1_force_1 := dk_seg dksX1_force_0 24 rfl rfl
theorem dX1_force_0 : decode cX1_force 0 = .ok (.aload_n 0, 1) := dk_42 (dk_at dksX1_force_0 0 rfl rfl)
theorem dX1_force_1 : decode cX1_force 1 = .ok (.iload_n 1, 1) := dk_27 (dk_at dksX1_force_0 1 rfl rfl)
theorem dX1_force_2 : decode cX1_force 2 = .ok (.iload_n 2, 1) := dk_28 (dk_at dksX1_force_0 2 rfl rfl)
theorem dX1_force_3 : decode cX1_force 3 = .ok (.invokevirtual 749, 3) := dk_182 2 237 (dk_at dksX1_force_0 3 rfl rfl)
theorem dX1_force_6 : decode cX1_force 6 = .ok (.ifCond .eq 17, 3) := dk_153 0 17 (dk_at dksX1_force_0 6 rfl rfl)
theorem dX1_force_9 : decode cX1_force 9 = .ok (.aload_n 0, 1) := dk_42 (dk_at dksX1_force_0 9 rfl rfl)
theorem dX1_force_10 : decode cX1_force 10 = .ok (.aload_n 0, 1) := dk_42 (dk_at dksX1_force_0 10 rfl rfl)
theorem dX1_force_11 : decode cX1_force 11 = .ok (.getfield 30, 3) := dk_180 0 30 (dk_at dksX1_force_0 11 rfl rfl)
theorem dX1_force_14 : decode cX1_force 14 = .ok (.iload_n 1, 1) := dk_27 (dk_at dksX1_force_0 14 rfl rfl)
theorem dX1_force_15 : decode cX1_force 15 = .ok (.aaload, 1) := dk_50 (dk_at dksX1_force_0 15 rfl rfl)
theorem dX1_force_16 : decode cX1_force 16 = .ok (.iload_n 2, 1) := dk_28 (dk_at dksX1_force_0 16 rfl rfl)
theorem dX1_force_17 : decode cX1_force 17 = .ok (.invokevirtual 752, 3) := dk_182 2 240 (dk_at dksX1_force_0 17 rfl rfl)
theorem dX1_force_20 : decode cX1_force 20 = .ok (.goto 4, 3) := dk_167 0 4 (dk_at dksX1_force_0 20 rfl rfl)
theorem dX1_force_23 : decode cX1_force 23 = .ok (.iconst (-1), 1) := dk_2 (dk_at dksX1_force_0 23 rfl rfl)
theorem dX1_force_24 : decode cX1_force 24 = .ok (.ireturn, 1) := dk_172 (dk_at dksX1_force_1 0 rfl rfl)
abbrev cX1_isAsked : ByteArray := prog_1_method_110_code
def yX1_isAsked : MethodName := ⟨RX1, "isAsked", "(II)Z"⟩
def dkwX1_isAsked_1 : List UInt8 := [3, 172]
abbrev dktX1_isAsked_1 : List UInt8 := dkwX1_isAsked_1 ++ []
def dkwX1_isAsked_0 : List UInt8 := [42, 27, 182, 0, 202, 153, 0, 19, 28, 3, 42, 180, 1, 159, 184, 0, 3, 153, 0, 7, 4, 167, 0, 4]
abbrev dktX1_isAsked_0 : List UInt8 := dkwX1_isAsked_0 ++ dktX1_isAsked_1
theorem dksX1_isAsked_0 : cX1_isAsked.data.toList.drop 0 = dktX1_isAsked_0 := by decide +kernel
theorem dksX1_isAsked_1 : cX1_isAsked.data.toList.drop 24 = dktX1_isAsked_1 := dk_seg dksX1_isAsked_0 24 rfl rfl
theorem dX1_isAsked_0 : decode cX1_isAsked 0 = .ok (.aload_n 0, 1) := dk_42 (dk_at dksX1_isAsked_0 0 rfl rfl)
theorem dX1_isAsked_1 : decode cX1_isAsked 1 = .ok (.iload_n 1, 1) := dk_27 (dk_at dksX1_isAsked_0 1 rfl rfl)
theorem dX1_isAsked_2 : decode cX1_isAsked 2 = .ok (.invokevirtual 202, 3) := dk_182 0 202 (dk_at dksX1_isAsked_0 2 rfl rfl)
theorem dX1_isAsked_5 : decode cX1_isAsked 5 = .ok (.ifCond .eq 19, 3) := dk_153 0 19 (dk_at dksX1_isAsked_0 5 rfl rfl)
theorem dX1_isAsked_8 : decode cX1_isAsked 8 = .ok (.iload_n 2, 1) := dk_28 (dk_at dksX1_isAsked_0 8 rfl rfl)
theorem dX1_isAsked_9 : decode cX1_isAsked 9 = .ok (.iconst 0, 1) := dk_3 (dk_at dksX1_isAsked_0 9 rfl rfl)
theorem dX1_isAsked_10 : decode cX1_isAsked 10 = .ok (.aload_n 0, 1) := dk_42 (dk_at dksX1_isAsked_0 10 rfl rfl)
theorem dX1_isAsked_11 : decode cX1_isAsked 11 = .ok (.getfield 415, 3) := dk_180 1 159 (dk_at dksX1_isAsked_0 11 rfl rfl)
theorem dX1_isAsked_14 : decode cX1_isAsked 14 = .ok (.invokestatic 3, 3) := dk_184 0 3 (dk_at dksX1_isAsked_0 14 rfl rfl)
theorem dX1_isAsked_17 : decode cX1_isAsked 17 = .ok (.ifCond .eq 7, 3) := dk_153 0 7 (dk_at dksX1_isAsked_0 17 rfl rfl)
theorem dX1_isAsked_20 : decode cX1_isAsked 20 = .ok (.iconst 1, 1) := dk_4 (dk_at dksX1_isAsked_0 20 rfl rfl)
theorem dX1_isAsked_21 : decode cX1_isAsked 21 = .ok (.goto 4, 3) := dk_167 0 4 (dk_at dksX1_isAsked_0 21 rfl rfl)
theorem dX1_isAsked_24 : decode cX1_isAsked 24 = .ok (.iconst 0, 1) := dk_3 (dk_at dksX1_isAsked_1 0 rfl rfl)
theorem dX1_isAsked_25 : decode cX1_isAsked 25 = .ok (.ireturn, 1) := dk_172 (dk_at dksX1_isAsked_1 1 rfl rfl)
abbrev cX1_forceOf : ByteArray := prog_1_method_109_code
def yX1_forceOf : MethodName := ⟨RX1, "forceOf", "(LCityBrigade$House;I)I"⟩
def dkwX1_forceOf_3 : List UInt8 := [29, 172]
abbrev dktX1_forceOf_3 : List UInt8 := dkwX1_forceOf_3 ++ []
def dkwX1_forceOf_2 : List UInt8 := [180, 0, 87, 21, 4, 46, 42, 180, 0, 87, 29, 46, 161, 0, 6, 21, 4, 62, 132, 4, 1, 167, 255, 195]
abbrev dktX1_forceOf_2 : List UInt8 := dkwX1_forceOf_2 ++ dktX1_forceOf_3
def dkwX1_forceOf_1 : List UInt8 := [163, 0, 41, 42, 180, 0, 87, 21, 4, 46, 43, 180, 0, 221, 163, 0, 27, 29, 2, 159, 0, 19, 42]
abbrev dktX1_forceOf_1 : List UInt8 := dkwX1_forceOf_1 ++ dktX1_forceOf_2
def dkwX1_forceOf_0 : List UInt8 := [2, 62, 3, 54, 4, 21, 4, 42, 180, 2, 234, 162, 0, 58, 42, 180, 0, 90, 21, 4, 46, 28]
abbrev dktX1_forceOf_0 : List UInt8 := dkwX1_forceOf_0 ++ dktX1_forceOf_1
theorem dksX1_forceOf_0 : cX1_forceOf.data.toList.drop 0 = dktX1_forceOf_0 := by decide +kernel
theorem dksX1_forceOf_1 : cX1_forceOf.data.toList.drop 22 = dktX1_forceOf_1 := dk_seg dksX1_forceOf_0 22 rfl rfl
theorem dksX1_forceOf_2 : cX1_forceOf.data.toList.drop 45 = dktX1_forceOf_2 := dk_seg dksX1_forceOf_1 23 rfl rfl
theorem dksX1_forceOf_3 : cX1_forceOf.data.toList.drop 69 = dktX1_forceOf_3 := dk_seg dksX1_forceOf_2 24 rfl rfl
theorem dX1_forceOf_0 : decode cX1_forceOf 0 = .ok (.iconst (-1), 1) := dk_2 (dk_at dksX1_forceOf_0 0 rfl rfl)
theorem dX1_forceOf_1 : decode cX1_forceOf 1 = .ok (.istore_n 3, 1) := dk_62 (dk_at dksX1_forceOf_0 1 rfl rfl)
theorem dX1_forceOf_2 : decode cX1_forceOf 2 = .ok (.iconst 0, 1) := dk_3 (dk_at dksX1_forceOf_0 2 rfl rfl)
theorem dX1_forceOf_3 : decode cX1_forceOf 3 = .ok (.istore 4, 2) := dk_54 4 (dk_at dksX1_forceOf_0 3 rfl rfl)
theorem dX1_forceOf_5 : decode cX1_forceOf 5 = .ok (.iload 4, 2) := dk_21 4 (dk_at dksX1_forceOf_0 5 rfl rfl)
theorem dX1_forceOf_7 : decode cX1_forceOf 7 = .ok (.aload_n 0, 1) := dk_42 (dk_at dksX1_forceOf_0 7 rfl rfl)
theorem dX1_forceOf_8 : decode cX1_forceOf 8 = .ok (.getfield 746, 3) := dk_180 2 234 (dk_at dksX1_forceOf_0 8 rfl rfl)
theorem dX1_forceOf_11 : decode cX1_forceOf 11 = .ok (.if_icmp .ge 58, 3) := dk_162 0 58 (dk_at dksX1_forceOf_0 11 rfl rfl)
theorem dX1_forceOf_14 : decode cX1_forceOf 14 = .ok (.aload_n 0, 1) := dk_42 (dk_at dksX1_forceOf_0 14 rfl rfl)
theorem dX1_forceOf_15 : decode cX1_forceOf 15 = .ok (.getfield 90, 3) := dk_180 0 90 (dk_at dksX1_forceOf_0 15 rfl rfl)
theorem dX1_forceOf_18 : decode cX1_forceOf 18 = .ok (.iload 4, 2) := dk_21 4 (dk_at dksX1_forceOf_0 18 rfl rfl)
theorem dX1_forceOf_20 : decode cX1_forceOf 20 = .ok (.iaload, 1) := dk_46 (dk_at dksX1_forceOf_0 20 rfl rfl)
theorem dX1_forceOf_21 : decode cX1_forceOf 21 = .ok (.iload_n 2, 1) := dk_28 (dk_at dksX1_forceOf_0 21 rfl rfl)
theorem dX1_forceOf_22 : decode cX1_forceOf 22 = .ok (.if_icmp .gt 41, 3) := dk_163 0 41 (dk_at dksX1_forceOf_1 0 rfl rfl)
theorem dX1_forceOf_25 : decode cX1_forceOf 25 = .ok (.aload_n 0, 1) := dk_42 (dk_at dksX1_forceOf_1 3 rfl rfl)
theorem dX1_forceOf_26 : decode cX1_forceOf 26 = .ok (.getfield 87, 3) := dk_180 0 87 (dk_at dksX1_forceOf_1 4 rfl rfl)
theorem dX1_forceOf_29 : decode cX1_forceOf 29 = .ok (.iload 4, 2) := dk_21 4 (dk_at dksX1_forceOf_1 7 rfl rfl)
theorem dX1_forceOf_31 : decode cX1_forceOf 31 = .ok (.iaload, 1) := dk_46 (dk_at dksX1_forceOf_1 9 rfl rfl)
theorem dX1_forceOf_32 : decode cX1_forceOf 32 = .ok (.aload_n 1, 1) := dk_43 (dk_at dksX1_forceOf_1 10 rfl rfl)
theorem dX1_forceOf_33 : decode cX1_forceOf 33 = .ok (.getfield 221, 3) := dk_180 0 221 (dk_at dksX1_forceOf_1 11 rfl rfl)
theorem dX1_forceOf_36 : decode cX1_forceOf 36 = .ok (.if_icmp .gt 27, 3) := dk_163 0 27 (dk_at dksX1_forceOf_1 14 rfl rfl)
theorem dX1_forceOf_39 : decode cX1_forceOf 39 = .ok (.iload_n 3, 1) := dk_29 (dk_at dksX1_forceOf_1 17 rfl rfl)
theorem dX1_forceOf_40 : decode cX1_forceOf 40 = .ok (.iconst (-1), 1) := dk_2 (dk_at dksX1_forceOf_1 18 rfl rfl)
theorem dX1_forceOf_41 : decode cX1_forceOf 41 = .ok (.if_icmp .eq 19, 3) := dk_159 0 19 (dk_at dksX1_forceOf_1 19 rfl rfl)
theorem dX1_forceOf_44 : decode cX1_forceOf 44 = .ok (.aload_n 0, 1) := dk_42 (dk_at dksX1_forceOf_1 22 rfl rfl)
theorem dX1_forceOf_45 : decode cX1_forceOf 45 = .ok (.getfield 87, 3) := dk_180 0 87 (dk_at dksX1_forceOf_2 0 rfl rfl)
theorem dX1_forceOf_48 : decode cX1_forceOf 48 = .ok (.iload 4, 2) := dk_21 4 (dk_at dksX1_forceOf_2 3 rfl rfl)
theorem dX1_forceOf_50 : decode cX1_forceOf 50 = .ok (.iaload, 1) := dk_46 (dk_at dksX1_forceOf_2 5 rfl rfl)
theorem dX1_forceOf_51 : decode cX1_forceOf 51 = .ok (.aload_n 0, 1) := dk_42 (dk_at dksX1_forceOf_2 6 rfl rfl)
theorem dX1_forceOf_52 : decode cX1_forceOf 52 = .ok (.getfield 87, 3) := dk_180 0 87 (dk_at dksX1_forceOf_2 7 rfl rfl)
theorem dX1_forceOf_55 : decode cX1_forceOf 55 = .ok (.iload_n 3, 1) := dk_29 (dk_at dksX1_forceOf_2 10 rfl rfl)
theorem dX1_forceOf_56 : decode cX1_forceOf 56 = .ok (.iaload, 1) := dk_46 (dk_at dksX1_forceOf_2 11 rfl rfl)
theorem dX1_forceOf_57 : decode cX1_forceOf 57 = .ok (.if_icmp .lt 6, 3) := dk_161 0 6 (dk_at dksX1_forceOf_2 12 rfl rfl)
theorem dX1_forceOf_60 : decode cX1_forceOf 60 = .ok (.iload 4, 2) := dk_21 4 (dk_at dksX1_forceOf_2 15 rfl rfl)
theorem dX1_forceOf_62 : decode cX1_forceOf 62 = .ok (.istore_n 3, 1) := dk_62 (dk_at dksX1_forceOf_2 17 rfl rfl)
theorem dX1_forceOf_63 : decode cX1_forceOf 63 = .ok (.iinc 4 1, 3) := dk_132 4 1 (dk_at dksX1_forceOf_2 18 rfl rfl)
theorem dX1_forceOf_66 : decode cX1_forceOf 66 = .ok (.goto (-61), 3) := dk_167 255 195 (dk_at dksX1_forceOf_2 21 rfl rfl)
theorem dX1_forceOf_69 : decode cX1_forceOf 69 = .ok (.iload_n 3, 1) := dk_29 (dk_at dksX1_forceOf_3 0 rfl rfl)
theorem dX1_forceOf_70 : decode cX1_forceOf 70 = .ok (.ireturn, 1) := dk_172 (dk_at dksX1_forceOf_3 1 rfl rfl)
abbrev cX1_change_2 : ByteArray := prog_1_method_114_code
def yX1_change_2 : MethodName := ⟨RX1, "change", "(III)Z"⟩
def dkwX1_change_2_1 : List UInt8 := [184, 0, 3, 153, 0, 17, 42, 27, 28, 29, 182, 2, 246, 153, 0, 7, 4, 167, 0, 4, 3, 172]
abbrev dktX1_change_2_1 : List UInt8 := dkwX1_change_2_1 ++ []
def dkwX1_change_2_0 : List UInt8 := [42, 27, 182, 0, 202, 153, 0, 39, 28, 3, 16, 9, 184, 0, 3, 153, 0, 29, 29, 3, 42, 180, 1, 159]
abbrev dktX1_change_2_0 : List UInt8 := dkwX1_change_2_0 ++ dktX1_change_2_1
theorem dksX1_change_2_0 : cX1_change_2.data.toList.drop 0 = dktX1_change_2_0 := by decide +kernel
theorem dksX1_change_2_1 : cX1_change_2.data.toList.drop 24 = dktX1_change_2_1 := dk_seg dksX1_change_2_0 24 rfl rfl
theorem dX1_change_2_0 : decode cX1_change_2 0 = .ok (.aload_n 0, 1) := dk_42 (dk_at dksX1_change_2_0 0 rfl rfl)
theorem dX1_change_2_1 : decode cX1_change_2 1 = .ok (.iload_n 1, 1) := dk_27 (dk_at dksX1_change_2_0 1 rfl rfl)
theorem dX1_change_2_2 : decode cX1_change_2 2 = .ok (.invokevirtual 202, 3) := dk_182 0 202 (dk_at dksX1_change_2_0 2 rfl rfl)
theorem dX1_change_2_5 : decode cX1_change_2 5 = .ok (.ifCond .eq 39, 3) := dk_153 0 39 (dk_at dksX1_change_2_0 5 rfl rfl)
theorem dX1_change_2_8 : decode cX1_change_2 8 = .ok (.iload_n 2, 1) := dk_28 (dk_at dksX1_change_2_0 8 rfl rfl)
theorem dX1_change_2_9 : decode cX1_change_2 9 = .ok (.iconst 0, 1) := dk_3 (dk_at dksX1_change_2_0 9 rfl rfl)
theorem dX1_change_2_10 : decode cX1_change_2 10 = .ok (.bipush 9, 2) := dk_16 9 (dk_at dksX1_change_2_0 10 rfl rfl)
theorem dX1_change_2_12 : decode cX1_change_2 12 = .ok (.invokestatic 3, 3) := dk_184 0 3 (dk_at dksX1_change_2_0 12 rfl rfl)
theorem dX1_change_2_15 : decode cX1_change_2 15 = .ok (.ifCond .eq 29, 3) := dk_153 0 29 (dk_at dksX1_change_2_0 15 rfl rfl)
theorem dX1_change_2_18 : decode cX1_change_2 18 = .ok (.iload_n 3, 1) := dk_29 (dk_at dksX1_change_2_0 18 rfl rfl)
theorem dX1_change_2_19 : decode cX1_change_2 19 = .ok (.iconst 0, 1) := dk_3 (dk_at dksX1_change_2_0 19 rfl rfl)
theorem dX1_change_2_20 : decode cX1_change_2 20 = .ok (.aload_n 0, 1) := dk_42 (dk_at dksX1_change_2_0 20 rfl rfl)
theorem dX1_change_2_21 : decode cX1_change_2 21 = .ok (.getfield 415, 3) := dk_180 1 159 (dk_at dksX1_change_2_0 21 rfl rfl)
theorem dX1_change_2_24 : decode cX1_change_2 24 = .ok (.invokestatic 3, 3) := dk_184 0 3 (dk_at dksX1_change_2_1 0 rfl rfl)
theorem dX1_change_2_27 : decode cX1_change_2 27 = .ok (.ifCond .eq 17, 3) := dk_153 0 17 (dk_at dksX1_change_2_1 3 rfl rfl)
theorem dX1_change_2_30 : decode cX1_change_2 30 = .ok (.aload_n 0, 1) := dk_42 (dk_at dksX1_change_2_1 6 rfl rfl)
theorem dX1_change_2_31 : decode cX1_change_2 31 = .ok (.iload_n 1, 1) := dk_27 (dk_at dksX1_change_2_1 7 rfl rfl)
theorem dX1_change_2_32 : decode cX1_change_2 32 = .ok (.iload_n 2, 1) := dk_28 (dk_at dksX1_change_2_1 8 rfl rfl)
theorem dX1_change_2_33 : decode cX1_change_2 33 = .ok (.iload_n 3, 1) := dk_29 (dk_at dksX1_change_2_1 9 rfl rfl)
theorem dX1_change_2_34 : decode cX1_change_2 34 = .ok (.invokevirtual 758, 3) := dk_182 2 246 (dk_at dksX1_change_2_1 10 rfl rfl)
theorem dX1_change_2_37 : decode cX1_change_2 37 = .ok (.ifCond .eq 7, 3) := dk_153 0 7 (dk_at dksX1_change_2_1 13 rfl rfl)
theorem dX1_change_2_40 : decode cX1_change_2 40 = .ok (.iconst 1, 1) := dk_4 (dk_at dksX1_change_2_1 16 rfl rfl)
theorem dX1_change_2_41 : decode cX1_change_2 41 = .ok (.goto 4, 3) := dk_167 0 4 (dk_at dksX1_change_2_1 17 rfl rfl)
theorem dX1_change_2_44 : decode cX1_change_2 44 = .ok (.iconst 0, 1) := dk_3 (dk_at dksX1_change_2_1 20 rfl rfl)
theorem dX1_change_2_45 : decode cX1_change_2 45 = .ok (.ireturn, 1) := dk_172 (dk_at dksX1_change_2_1 21 rfl rfl)
abbrev cX1_note : ByteArray := prog_1_method_112_code
def yX1_note : MethodName := ⟨RX1, "note", "(III)Z"⟩
def dkwX1_note_2 : List UInt8 := [180, 2, 243, 42, 180, 1, 159, 79, 42, 89, 180, 2, 243, 4, 96, 181, 2, 243, 4, 172]
abbrev dktX1_note_2 : List UInt8 := dkwX1_note_2 ++ []
def dkwX1_note_1 : List UInt8 := [180, 0, 96, 42, 180, 2, 243, 28, 79, 42, 180, 0, 99, 42, 180, 2, 243, 29, 79, 42, 180, 0, 102, 42]
abbrev dktX1_note_1 : List UInt8 := dkwX1_note_1 ++ dktX1_note_2
def dkwX1_note_0 : List UInt8 := [42, 180, 2, 243, 16, 100, 160, 0, 5, 3, 172, 42, 180, 0, 93, 42, 180, 2, 243, 27, 79, 42]
abbrev dktX1_note_0 : List UInt8 := dkwX1_note_0 ++ dktX1_note_1
theorem dksX1_note_0 : cX1_note.data.toList.drop 0 = dktX1_note_0 := by decide +kernel
theorem dksX1_note_1 : cX1_note.data.toList.drop 22 = dktX1_note_1 := dk_seg dksX1_note_0 22 rfl rfl
theorem dksX1_note_2 : cX1_note.data.toList.drop 46 = dktX1_note_2 := dk_seg dksX1_note_1 24 rfl rfl
theorem dX1_note_0 : decode cX1_note 0 = .ok (.aload_n 0, 1) := dk_42 (dk_at dksX1_note_0 0 rfl rfl)
theorem dX1_note_1 : decode cX1_note 1 = .ok (.getfield 755, 3) := dk_180 2 243 (dk_at dksX1_note_0 1 rfl rfl)
theorem dX1_note_4 : decode cX1_note 4 = .ok (.bipush 100, 2) := dk_16 100 (dk_at dksX1_note_0 4 rfl rfl)
theorem dX1_note_6 : decode cX1_note 6 = .ok (.if_icmp .ne 5, 3) := dk_160 0 5 (dk_at dksX1_note_0 6 rfl rfl)
theorem dX1_note_9 : decode cX1_note 9 = .ok (.iconst 0, 1) := dk_3 (dk_at dksX1_note_0 9 rfl rfl)
theorem dX1_note_10 : decode cX1_note 10 = .ok (.ireturn, 1) := dk_172 (dk_at dksX1_note_0 10 rfl rfl)
theorem dX1_note_11 : decode cX1_note 11 = .ok (.aload_n 0, 1) := dk_42 (dk_at dksX1_note_0 11 rfl rfl)
theorem dX1_note_12 : decode cX1_note 12 = .ok (.getfield 93, 3) := dk_180 0 93 (dk_at dksX1_note_0 12 rfl rfl)
theorem dX1_note_15 : decode cX1_note 15 = .ok (.aload_n 0, 1) := dk_42 (dk_at dksX1_note_0 15 rfl rfl)
theorem dX1_note_16 : decode cX1_note 16 = .ok (.getfield 755, 3) := dk_180 2 243 (dk_at dksX1_note_0 16 rfl rfl)
theorem dX1_note_19 : decode cX1_note 19 = .ok (.iload_n 1, 1) := dk_27 (dk_at dksX1_note_0 19 rfl rfl)
theorem dX1_note_20 : decode cX1_note 20 = .ok (.iastore, 1) := dk_79 (dk_at dksX1_note_0 20 rfl rfl)
theorem dX1_note_21 : decode cX1_note 21 = .ok (.aload_n 0, 1) := dk_42 (dk_at dksX1_note_0 21 rfl rfl)
theorem dX1_note_22 : decode cX1_note 22 = .ok (.getfield 96, 3) := dk_180 0 96 (dk_at dksX1_note_1 0 rfl rfl)
theorem dX1_note_25 : decode cX1_note 25 = .ok (.aload_n 0, 1) := dk_42 (dk_at dksX1_note_1 3 rfl rfl)
theorem dX1_note_26 : decode cX1_note 26 = .ok (.getfield 755, 3) := dk_180 2 243 (dk_at dksX1_note_1 4 rfl rfl)
theorem dX1_note_29 : decode cX1_note 29 = .ok (.iload_n 2, 1) := dk_28 (dk_at dksX1_note_1 7 rfl rfl)
theorem dX1_note_30 : decode cX1_note 30 = .ok (.iastore, 1) := dk_79 (dk_at dksX1_note_1 8 rfl rfl)
theorem dX1_note_31 : decode cX1_note 31 = .ok (.aload_n 0, 1) := dk_42 (dk_at dksX1_note_1 9 rfl rfl)
theorem dX1_note_32 : decode cX1_note 32 = .ok (.getfield 99, 3) := dk_180 0 99 (dk_at dksX1_note_1 10 rfl rfl)
theorem dX1_note_35 : decode cX1_note 35 = .ok (.aload_n 0, 1) := dk_42 (dk_at dksX1_note_1 13 rfl rfl)
theorem dX1_note_36 : decode cX1_note 36 = .ok (.getfield 755, 3) := dk_180 2 243 (dk_at dksX1_note_1 14 rfl rfl)
theorem dX1_note_39 : decode cX1_note 39 = .ok (.iload_n 3, 1) := dk_29 (dk_at dksX1_note_1 17 rfl rfl)
theorem dX1_note_40 : decode cX1_note 40 = .ok (.iastore, 1) := dk_79 (dk_at dksX1_note_1 18 rfl rfl)
theorem dX1_note_41 : decode cX1_note 41 = .ok (.aload_n 0, 1) := dk_42 (dk_at dksX1_note_1 19 rfl rfl)
theorem dX1_note_42 : decode cX1_note 42 = .ok (.getfield 102, 3) := dk_180 0 102 (dk_at dksX1_note_1 20 rfl rfl)
theorem dX1_note_45 : decode cX1_note 45 = .ok (.aload_n 0, 1) := dk_42 (dk_at dksX1_note_1 23 rfl rfl)
theorem dX1_note_46 : decode cX1_note 46 = .ok (.getfield 755, 3) := dk_180 2 243 (dk_at dksX1_note_2 0 rfl rfl)
theorem dX1_note_49 : decode cX1_note 49 = .ok (.aload_n 0, 1) := dk_42 (dk_at dksX1_note_2 3 rfl rfl)
theorem dX1_note_50 : decode cX1_note 50 = .ok (.getfield 415, 3) := dk_180 1 159 (dk_at dksX1_note_2 4 rfl rfl)
theorem dX1_note_53 : decode cX1_note 53 = .ok (.iastore, 1) := dk_79 (dk_at dksX1_note_2 7 rfl rfl)
theorem dX1_note_54 : decode cX1_note 54 = .ok (.aload_n 0, 1) := dk_42 (dk_at dksX1_note_2 8 rfl rfl)
theorem dX1_note_55 : decode cX1_note 55 = .ok (.dup, 1) := dk_89 (dk_at dksX1_note_2 9 rfl rfl)
theorem dX1_note_56 : decode cX1_note 56 = .ok (.getfield 755, 3) := dk_180 2 243 (dk_at dksX1_note_2 10 rfl rfl)
theorem dX1_note_59 : decode cX1_note 59 = .ok (.iconst 1, 1) := dk_4 (dk_at dksX1_note_2 13 rfl rfl)
theorem dX1_note_60 : decode cX1_note 60 = .ok (.iadd, 1) := dk_96 (dk_at dksX1_note_2 14 rfl rfl)
theorem dX1_note_61 : decode cX1_note 61 = .ok (.putfield 755, 3) := dk_181 2 243 (dk_at dksX1_note_2 15 rfl rfl)
theorem dX1_note_64 : decode cX1_note 64 = .ok (.iconst 1, 1) := dk_4 (dk_at dksX1_note_2 18 rfl rfl)
theorem dX1_note_65 : decode cX1_note 65 = .ok (.ireturn, 1) := dk_172 (dk_at dksX1_note_2 19 rfl rfl)
abbrev cX1_look_2 : ByteArray := prog_1_method_115_code
def yX1_look_2 : MethodName := ⟨RX1, "look", "(I)Z"⟩
def dkwX1_look_2_1 : List UInt8 := [167, 0, 4, 3, 172]
abbrev dktX1_look_2_1 : List UInt8 := dkwX1_look_2_1 ++ []
def dkwX1_look_2_0 : List UInt8 := [42, 27, 182, 0, 202, 153, 0, 20, 42, 27, 2, 42, 180, 1, 159, 182, 2, 246, 153, 0, 7, 4]
abbrev dktX1_look_2_0 : List UInt8 := dkwX1_look_2_0 ++ dktX1_look_2_1
theorem dksX1_look_2_0 : cX1_look_2.data.toList.drop 0 = dktX1_look_2_0 := by decide +kernel
theorem dksX1_look_2_1 : cX1_look_2.data.toList.drop 22 = dktX1_look_2_1 := dk_seg dksX1_look_2_0 22 rfl rfl
theorem dX1_look_2_0 : decode cX1_look_2 0 = .ok (.aload_n 0, 1) := dk_42 (dk_at dksX1_look_2_0 0 rfl rfl)
theorem dX1_look_2_1 : decode cX1_look_2 1 = .ok (.iload_n 1, 1) := dk_27 (dk_at dksX1_look_2_0 1 rfl rfl)
theorem dX1_look_2_2 : decode cX1_look_2 2 = .ok (.invokevirtual 202, 3) := dk_182 0 202 (dk_at dksX1_look_2_0 2 rfl rfl)
theorem dX1_look_2_5 : decode cX1_look_2 5 = .ok (.ifCond .eq 20, 3) := dk_153 0 20 (dk_at dksX1_look_2_0 5 rfl rfl)
theorem dX1_look_2_8 : decode cX1_look_2 8 = .ok (.aload_n 0, 1) := dk_42 (dk_at dksX1_look_2_0 8 rfl rfl)
theorem dX1_look_2_9 : decode cX1_look_2 9 = .ok (.iload_n 1, 1) := dk_27 (dk_at dksX1_look_2_0 9 rfl rfl)
theorem dX1_look_2_10 : decode cX1_look_2 10 = .ok (.iconst (-1), 1) := dk_2 (dk_at dksX1_look_2_0 10 rfl rfl)
theorem dX1_look_2_11 : decode cX1_look_2 11 = .ok (.aload_n 0, 1) := dk_42 (dk_at dksX1_look_2_0 11 rfl rfl)
theorem dX1_look_2_12 : decode cX1_look_2 12 = .ok (.getfield 415, 3) := dk_180 1 159 (dk_at dksX1_look_2_0 12 rfl rfl)
theorem dX1_look_2_15 : decode cX1_look_2 15 = .ok (.invokevirtual 758, 3) := dk_182 2 246 (dk_at dksX1_look_2_0 15 rfl rfl)
theorem dX1_look_2_18 : decode cX1_look_2 18 = .ok (.ifCond .eq 7, 3) := dk_153 0 7 (dk_at dksX1_look_2_0 18 rfl rfl)
theorem dX1_look_2_21 : decode cX1_look_2 21 = .ok (.iconst 1, 1) := dk_4 (dk_at dksX1_look_2_0 21 rfl rfl)
theorem dX1_look_2_22 : decode cX1_look_2 22 = .ok (.goto 4, 3) := dk_167 0 4 (dk_at dksX1_look_2_1 0 rfl rfl)
theorem dX1_look_2_25 : decode cX1_look_2 25 = .ok (.iconst 0, 1) := dk_3 (dk_at dksX1_look_2_1 3 rfl rfl)
theorem dX1_look_2_26 : decode cX1_look_2 26 = .ok (.ireturn, 1) := dk_172 (dk_at dksX1_look_2_1 4 rfl rfl)
abbrev cX1_used : ByteArray := prog_1_method_117_code
def yX1_used : MethodName := ⟨RX1, "used", "(II)I"⟩
def dkwX1_used_0 : List UInt8 := [42, 27, 28, 182, 2, 237, 153, 0, 12, 42, 27, 28, 182, 2, 249, 167, 0, 4, 2, 172]
abbrev dktX1_used_0 : List UInt8 := dkwX1_used_0 ++ []
theorem dksX1_used_0 : cX1_used.data.toList.drop 0 = dktX1_used_0 := by decide +kernel
theorem dX1_used_0 : decode cX1_used 0 = .ok (.aload_n 0, 1) := dk_42 (dk_at dksX1_used_0 0 rfl rfl)
theorem dX1_used_1 : decode cX1_used 1 = .ok (.iload_n 1, 1) := dk_27 (dk_at dksX1_used_0 1 rfl rfl)
theorem dX1_used_2 : decode cX1_used 2 = .ok (.iload_n 2, 1) := dk_28 (dk_at dksX1_used_0 2 rfl rfl)
theorem dX1_used_3 : decode cX1_used 3 = .ok (.invokevirtual 749, 3) := dk_182 2 237 (dk_at dksX1_used_0 3 rfl rfl)
theorem dX1_used_6 : decode cX1_used 6 = .ok (.ifCond .eq 12, 3) := dk_153 0 12 (dk_at dksX1_used_0 6 rfl rfl)
theorem dX1_used_9 : decode cX1_used 9 = .ok (.aload_n 0, 1) := dk_42 (dk_at dksX1_used_0 9 rfl rfl)
theorem dX1_used_10 : decode cX1_used 10 = .ok (.iload_n 1, 1) := dk_27 (dk_at dksX1_used_0 10 rfl rfl)
theorem dX1_used_11 : decode cX1_used 11 = .ok (.iload_n 2, 1) := dk_28 (dk_at dksX1_used_0 11 rfl rfl)
theorem dX1_used_12 : decode cX1_used 12 = .ok (.invokevirtual 761, 3) := dk_182 2 249 (dk_at dksX1_used_0 12 rfl rfl)
theorem dX1_used_15 : decode cX1_used 15 = .ok (.goto 4, 3) := dk_167 0 4 (dk_at dksX1_used_0 15 rfl rfl)
theorem dX1_used_18 : decode cX1_used 18 = .ok (.iconst (-1), 1) := dk_2 (dk_at dksX1_used_0 18 rfl rfl)
theorem dX1_used_19 : decode cX1_used 19 = .ok (.ireturn, 1) := dk_172 (dk_at dksX1_used_0 19 rfl rfl)
abbrev cX1_usedAt : ByteArray := prog_1_method_116_code
def yX1_usedAt : MethodName := ⟨RX1, "usedAt", "(II)I"⟩
def dkwX1_usedAt_4 : List UInt8 := [29, 2, 160, 0, 15, 42, 180, 0, 30, 27, 50, 180, 0, 228, 167, 0, 9, 42, 180, 0, 96, 29, 46, 172]
abbrev dktX1_usedAt_4 : List UInt8 := dkwX1_usedAt_4 ++ []
def dkwX1_usedAt_3 : List UInt8 := [180, 0, 99, 21, 4, 46, 42, 180, 0, 99, 29, 46, 161, 0, 6, 21, 4, 62, 132, 4, 1, 167, 255, 173]
abbrev dktX1_usedAt_3 : List UInt8 := dkwX1_usedAt_3 ++ dktX1_usedAt_4
def dkwX1_usedAt_2 : List UInt8 := [163, 0, 41, 42, 180, 0, 99, 21, 4, 46, 28, 164, 0, 6, 167, 0, 27, 29, 2, 159, 0, 19, 42]
abbrev dktX1_usedAt_2 : List UInt8 := dkwX1_usedAt_2 ++ dktX1_usedAt_3
def dkwX1_usedAt_1 : List UInt8 := [160, 0, 63, 42, 180, 0, 96, 21, 4, 46, 2, 159, 0, 52, 42, 180, 0, 102, 21, 4, 46, 28]
abbrev dktX1_usedAt_1 : List UInt8 := dkwX1_usedAt_1 ++ dktX1_usedAt_2
def dkwX1_usedAt_0 : List UInt8 := [2, 62, 3, 54, 4, 21, 4, 42, 180, 2, 243, 162, 0, 80, 42, 180, 0, 93, 21, 4, 46, 27]
abbrev dktX1_usedAt_0 : List UInt8 := dkwX1_usedAt_0 ++ dktX1_usedAt_1
theorem dksX1_usedAt_0 : cX1_usedAt.data.toList.drop 0 = dktX1_usedAt_0 := by decide +kernel
theorem dksX1_usedAt_1 : cX1_usedAt.data.toList.drop 22 = dktX1_usedAt_1 := dk_seg dksX1_usedAt_0 22 rfl rfl
theorem dksX1_usedAt_2 : cX1_usedAt.data.toList.drop 44 = dktX1_usedAt_2 := dk_seg dksX1_usedAt_1 22 rfl rfl
theorem dksX1_usedAt_3 : cX1_usedAt.data.toList.drop 67 = dktX1_usedAt_3 := dk_seg dksX1_usedAt_2 23 rfl rfl
theorem dksX1_usedAt_4 : cX1_usedAt.data.toList.drop 91 = dktX1_usedAt_4 := dk_seg dksX1_usedAt_3 24 rfl rfl
theorem dX1_usedAt_0 : decode cX1_usedAt 0 = .ok (.iconst (-1), 1) := dk_2 (dk_at dksX1_usedAt_0 0 rfl rfl)
theorem dX1_usedAt_1 : decode cX1_usedAt 1 = .ok (.istore_n 3, 1) := dk_62 (dk_at dksX1_usedAt_0 1 rfl rfl)
theorem dX1_usedAt_2 : decode cX1_usedAt 2 = .ok (.iconst 0, 1) := dk_3 (dk_at dksX1_usedAt_0 2 rfl rfl)
theorem dX1_usedAt_3 : decode cX1_usedAt 3 = .ok (.istore 4, 2) := dk_54 4 (dk_at dksX1_usedAt_0 3 rfl rfl)
theorem dX1_usedAt_5 : decode cX1_usedAt 5 = .ok (.iload 4, 2) := dk_21 4 (dk_at dksX1_usedAt_0 5 rfl rfl)
theorem dX1_usedAt_7 : decode cX1_usedAt 7 = .ok (.aload_n 0, 1) := dk_42 (dk_at dksX1_usedAt_0 7 rfl rfl)
theorem dX1_usedAt_8 : decode cX1_usedAt 8 = .ok (.getfield 755, 3) := dk_180 2 243 (dk_at dksX1_usedAt_0 8 rfl rfl)
theorem dX1_usedAt_11 : decode cX1_usedAt 11 = .ok (.if_icmp .ge 80, 3) := dk_162 0 80 (dk_at dksX1_usedAt_0 11 rfl rfl)
theorem dX1_usedAt_14 : decode cX1_usedAt 14 = .ok (.aload_n 0, 1) := dk_42 (dk_at dksX1_usedAt_0 14 rfl rfl)
theorem dX1_usedAt_15 : decode cX1_usedAt 15 = .ok (.getfield 93, 3) := dk_180 0 93 (dk_at dksX1_usedAt_0 15 rfl rfl)
theorem dX1_usedAt_18 : decode cX1_usedAt 18 = .ok (.iload 4, 2) := dk_21 4 (dk_at dksX1_usedAt_0 18 rfl rfl)
theorem dX1_usedAt_20 : decode cX1_usedAt 20 = .ok (.iaload, 1) := dk_46 (dk_at dksX1_usedAt_0 20 rfl rfl)
theorem dX1_usedAt_21 : decode cX1_usedAt 21 = .ok (.iload_n 1, 1) := dk_27 (dk_at dksX1_usedAt_0 21 rfl rfl)
theorem dX1_usedAt_22 : decode cX1_usedAt 22 = .ok (.if_icmp .ne 63, 3) := dk_160 0 63 (dk_at dksX1_usedAt_1 0 rfl rfl)
theorem dX1_usedAt_25 : decode cX1_usedAt 25 = .ok (.aload_n 0, 1) := dk_42 (dk_at dksX1_usedAt_1 3 rfl rfl)
theorem dX1_usedAt_26 : decode cX1_usedAt 26 = .ok (.getfield 96, 3) := dk_180 0 96 (dk_at dksX1_usedAt_1 4 rfl rfl)
theorem dX1_usedAt_29 : decode cX1_usedAt 29 = .ok (.iload 4, 2) := dk_21 4 (dk_at dksX1_usedAt_1 7 rfl rfl)
theorem dX1_usedAt_31 : decode cX1_usedAt 31 = .ok (.iaload, 1) := dk_46 (dk_at dksX1_usedAt_1 9 rfl rfl)
theorem dX1_usedAt_32 : decode cX1_usedAt 32 = .ok (.iconst (-1), 1) := dk_2 (dk_at dksX1_usedAt_1 10 rfl rfl)
theorem dX1_usedAt_33 : decode cX1_usedAt 33 = .ok (.if_icmp .eq 52, 3) := dk_159 0 52 (dk_at dksX1_usedAt_1 11 rfl rfl)
theorem dX1_usedAt_36 : decode cX1_usedAt 36 = .ok (.aload_n 0, 1) := dk_42 (dk_at dksX1_usedAt_1 14 rfl rfl)
theorem dX1_usedAt_37 : decode cX1_usedAt 37 = .ok (.getfield 102, 3) := dk_180 0 102 (dk_at dksX1_usedAt_1 15 rfl rfl)
theorem dX1_usedAt_40 : decode cX1_usedAt 40 = .ok (.iload 4, 2) := dk_21 4 (dk_at dksX1_usedAt_1 18 rfl rfl)
theorem dX1_usedAt_42 : decode cX1_usedAt 42 = .ok (.iaload, 1) := dk_46 (dk_at dksX1_usedAt_1 20 rfl rfl)
theorem dX1_usedAt_43 : decode cX1_usedAt 43 = .ok (.iload_n 2, 1) := dk_28 (dk_at dksX1_usedAt_1 21 rfl rfl)
theorem dX1_usedAt_44 : decode cX1_usedAt 44 = .ok (.if_icmp .gt 41, 3) := dk_163 0 41 (dk_at dksX1_usedAt_2 0 rfl rfl)
theorem dX1_usedAt_47 : decode cX1_usedAt 47 = .ok (.aload_n 0, 1) := dk_42 (dk_at dksX1_usedAt_2 3 rfl rfl)
theorem dX1_usedAt_48 : decode cX1_usedAt 48 = .ok (.getfield 99, 3) := dk_180 0 99 (dk_at dksX1_usedAt_2 4 rfl rfl)
theorem dX1_usedAt_51 : decode cX1_usedAt 51 = .ok (.iload 4, 2) := dk_21 4 (dk_at dksX1_usedAt_2 7 rfl rfl)
theorem dX1_usedAt_53 : decode cX1_usedAt 53 = .ok (.iaload, 1) := dk_46 (dk_at dksX1_usedAt_2 9 rfl rfl)
theorem dX1_usedAt_54 : decode cX1_usedAt 54 = .ok (.iload_n 2, 1) := dk_28 (dk_at dksX1_usedAt_2 10 rfl rfl)
theorem dX1_usedAt_55 : decode cX1_usedAt 55 = .ok (.if_icmp .le 6, 3) := dk_164 0 6 (dk_at dksX1_usedAt_2 11 rfl rfl)
theorem dX1_usedAt_58 : decode cX1_usedAt 58 = .ok (.goto 27, 3) := dk_167 0 27 (dk_at dksX1_usedAt_2 14 rfl rfl)
theorem dX1_usedAt_61 : decode cX1_usedAt 61 = .ok (.iload_n 3, 1) := dk_29 (dk_at dksX1_usedAt_2 17 rfl rfl)
theorem dX1_usedAt_62 : decode cX1_usedAt 62 = .ok (.iconst (-1), 1) := dk_2 (dk_at dksX1_usedAt_2 18 rfl rfl)
theorem dX1_usedAt_63 : decode cX1_usedAt 63 = .ok (.if_icmp .eq 19, 3) := dk_159 0 19 (dk_at dksX1_usedAt_2 19 rfl rfl)
theorem dX1_usedAt_66 : decode cX1_usedAt 66 = .ok (.aload_n 0, 1) := dk_42 (dk_at dksX1_usedAt_2 22 rfl rfl)
theorem dX1_usedAt_67 : decode cX1_usedAt 67 = .ok (.getfield 99, 3) := dk_180 0 99 (dk_at dksX1_usedAt_3 0 rfl rfl)
theorem dX1_usedAt_70 : decode cX1_usedAt 70 = .ok (.iload 4, 2) := dk_21 4 (dk_at dksX1_usedAt_3 3 rfl rfl)
theorem dX1_usedAt_72 : decode cX1_usedAt 72 = .ok (.iaload, 1) := dk_46 (dk_at dksX1_usedAt_3 5 rfl rfl)
theorem dX1_usedAt_73 : decode cX1_usedAt 73 = .ok (.aload_n 0, 1) := dk_42 (dk_at dksX1_usedAt_3 6 rfl rfl)
theorem dX1_usedAt_74 : decode cX1_usedAt 74 = .ok (.getfield 99, 3) := dk_180 0 99 (dk_at dksX1_usedAt_3 7 rfl rfl)
theorem dX1_usedAt_77 : decode cX1_usedAt 77 = .ok (.iload_n 3, 1) := dk_29 (dk_at dksX1_usedAt_3 10 rfl rfl)
theorem dX1_usedAt_78 : decode cX1_usedAt 78 = .ok (.iaload, 1) := dk_46 (dk_at dksX1_usedAt_3 11 rfl rfl)
theorem dX1_usedAt_79 : decode cX1_usedAt 79 = .ok (.if_icmp .lt 6, 3) := dk_161 0 6 (dk_at dksX1_usedAt_3 12 rfl rfl)
theorem dX1_usedAt_82 : decode cX1_usedAt 82 = .ok (.iload 4, 2) := dk_21 4 (dk_at dksX1_usedAt_3 15 rfl rfl)
theorem dX1_usedAt_84 : decode cX1_usedAt 84 = .ok (.istore_n 3, 1) := dk_62 (dk_at dksX1_usedAt_3 17 rfl rfl)
theorem dX1_usedAt_85 : decode cX1_usedAt 85 = .ok (.iinc 4 1, 3) := dk_132 4 1 (dk_at dksX1_usedAt_3 18 rfl rfl)
theorem dX1_usedAt_88 : decode cX1_usedAt 88 = .ok (.goto (-83), 3) := dk_167 255 173 (dk_at dksX1_usedAt_3 21 rfl rfl)
theorem dX1_usedAt_91 : decode cX1_usedAt 91 = .ok (.iload_n 3, 1) := dk_29 (dk_at dksX1_usedAt_4 0 rfl rfl)
theorem dX1_usedAt_92 : decode cX1_usedAt 92 = .ok (.iconst (-1), 1) := dk_2 (dk_at dksX1_usedAt_4 1 rfl rfl)
theorem dX1_usedAt_93 : decode cX1_usedAt 93 = .ok (.if_icmp .ne 15, 3) := dk_160 0 15 (dk_at dksX1_usedAt_4 2 rfl rfl)
theorem dX1_usedAt_96 : decode cX1_usedAt 96 = .ok (.aload_n 0, 1) := dk_42 (dk_at dksX1_usedAt_4 5 rfl rfl)
theorem dX1_usedAt_97 : decode cX1_usedAt 97 = .ok (.getfield 30, 3) := dk_180 0 30 (dk_at dksX1_usedAt_4 6 rfl rfl)
theorem dX1_usedAt_100 : decode cX1_usedAt 100 = .ok (.iload_n 1, 1) := dk_27 (dk_at dksX1_usedAt_4 9 rfl rfl)
theorem dX1_usedAt_101 : decode cX1_usedAt 101 = .ok (.aaload, 1) := dk_50 (dk_at dksX1_usedAt_4 10 rfl rfl)
theorem dX1_usedAt_102 : decode cX1_usedAt 102 = .ok (.getfield 228, 3) := dk_180 0 228 (dk_at dksX1_usedAt_4 11 rfl rfl)
theorem dX1_usedAt_105 : decode cX1_usedAt 105 = .ok (.goto 9, 3) := dk_167 0 9 (dk_at dksX1_usedAt_4 14 rfl rfl)
theorem dX1_usedAt_108 : decode cX1_usedAt 108 = .ok (.aload_n 0, 1) := dk_42 (dk_at dksX1_usedAt_4 17 rfl rfl)
theorem dX1_usedAt_109 : decode cX1_usedAt 109 = .ok (.getfield 96, 3) := dk_180 0 96 (dk_at dksX1_usedAt_4 18 rfl rfl)
theorem dX1_usedAt_112 : decode cX1_usedAt 112 = .ok (.iload_n 3, 1) := dk_29 (dk_at dksX1_usedAt_4 21 rfl rfl)
theorem dX1_usedAt_113 : decode cX1_usedAt 113 = .ok (.iaload, 1) := dk_46 (dk_at dksX1_usedAt_4 22 rfl rfl)
theorem dX1_usedAt_114 : decode cX1_usedAt 114 = .ok (.ireturn, 1) := dk_172 (dk_at dksX1_usedAt_4 23 rfl rfl)
abbrev cX1_fails : ByteArray := prog_1_method_121_code
def yX1_fails : MethodName := ⟨RX1, "fails", "(II)I"⟩
def dkwX1_fails_0 : List UInt8 := [42, 27, 28, 182, 2, 237, 153, 0, 13, 42, 27, 28, 2, 182, 3, 9, 167, 0, 4, 2, 172]
abbrev dktX1_fails_0 : List UInt8 := dkwX1_fails_0 ++ []
theorem dksX1_fails_0 : cX1_fails.data.toList.drop 0 = dktX1_fails_0 := by decide +kernel
theorem dX1_fails_0 : decode cX1_fails 0 = .ok (.aload_n 0, 1) := dk_42 (dk_at dksX1_fails_0 0 rfl rfl)
theorem dX1_fails_1 : decode cX1_fails 1 = .ok (.iload_n 1, 1) := dk_27 (dk_at dksX1_fails_0 1 rfl rfl)
theorem dX1_fails_2 : decode cX1_fails 2 = .ok (.iload_n 2, 1) := dk_28 (dk_at dksX1_fails_0 2 rfl rfl)
theorem dX1_fails_3 : decode cX1_fails 3 = .ok (.invokevirtual 749, 3) := dk_182 2 237 (dk_at dksX1_fails_0 3 rfl rfl)
theorem dX1_fails_6 : decode cX1_fails 6 = .ok (.ifCond .eq 13, 3) := dk_153 0 13 (dk_at dksX1_fails_0 6 rfl rfl)
theorem dX1_fails_9 : decode cX1_fails 9 = .ok (.aload_n 0, 1) := dk_42 (dk_at dksX1_fails_0 9 rfl rfl)
theorem dX1_fails_10 : decode cX1_fails 10 = .ok (.iload_n 1, 1) := dk_27 (dk_at dksX1_fails_0 10 rfl rfl)
theorem dX1_fails_11 : decode cX1_fails 11 = .ok (.iload_n 2, 1) := dk_28 (dk_at dksX1_fails_0 11 rfl rfl)
theorem dX1_fails_12 : decode cX1_fails 12 = .ok (.iconst (-1), 1) := dk_2 (dk_at dksX1_fails_0 12 rfl rfl)
theorem dX1_fails_13 : decode cX1_fails 13 = .ok (.invokevirtual 777, 3) := dk_182 3 9 (dk_at dksX1_fails_0 13 rfl rfl)
theorem dX1_fails_16 : decode cX1_fails 16 = .ok (.goto 4, 3) := dk_167 0 4 (dk_at dksX1_fails_0 16 rfl rfl)
theorem dX1_fails_19 : decode cX1_fails 19 = .ok (.iconst (-1), 1) := dk_2 (dk_at dksX1_fails_0 19 rfl rfl)
theorem dX1_fails_20 : decode cX1_fails 20 = .ok (.ireturn, 1) := dk_172 (dk_at dksX1_fails_0 20 rfl rfl)
abbrev cX1_failsBy : ByteArray := prog_1_method_120_code
def yX1_failsBy : MethodName := ⟨RX1, "failsBy", "(III)I"⟩
def dkwX1_failsBy_3 : List UInt8 := [25, 6, 180, 2, 40, 181, 3, 6, 132, 5, 1, 25, 6, 180, 2, 57, 58, 6, 167, 255, 208, 21, 5, 172]
abbrev dktX1_failsBy_3 : List UInt8 := dkwX1_failsBy_3 ++ []
def dkwX1_failsBy_2 : List UInt8 := [180, 2, 109, 42, 180, 0, 52, 182, 2, 112, 154, 0, 6, 167, 0, 21, 21, 5, 29, 160, 0, 12, 42]
abbrev dktX1_failsBy_2 : List UInt8 := dkwX1_failsBy_2 ++ dktX1_failsBy_3
def dkwX1_failsBy_1 : List UInt8 := [182, 3, 3, 3, 54, 5, 42, 180, 0, 84, 21, 4, 50, 58, 6, 25, 6, 198, 0, 49, 25, 6]
abbrev dktX1_failsBy_1 : List UInt8 := dkwX1_failsBy_1 ++ dktX1_failsBy_2
def dkwX1_failsBy_0 : List UInt8 := [42, 42, 180, 0, 30, 27, 50, 28, 182, 2, 240, 54, 4, 21, 4, 2, 160, 0, 5, 3, 172, 42, 27, 28]
abbrev dktX1_failsBy_0 : List UInt8 := dkwX1_failsBy_0 ++ dktX1_failsBy_1
theorem dksX1_failsBy_0 : cX1_failsBy.data.toList.drop 0 = dktX1_failsBy_0 := by decide +kernel
theorem dksX1_failsBy_1 : cX1_failsBy.data.toList.drop 24 = dktX1_failsBy_1 := dk_seg dksX1_failsBy_0 24 rfl rfl
theorem dksX1_failsBy_2 : cX1_failsBy.data.toList.drop 46 = dktX1_failsBy_2 := dk_seg dksX1_failsBy_1 22 rfl rfl
theorem dksX1_failsBy_3 : cX1_failsBy.data.toList.drop 69 = dktX1_failsBy_3 := dk_seg dksX1_failsBy_2 23 rfl rfl
theorem dX1_failsBy_0 : decode cX1_failsBy 0 = .ok (.aload_n 0, 1) := dk_42 (dk_at dksX1_failsBy_0 0 rfl rfl)
theorem dX1_failsBy_1 : decode cX1_failsBy 1 = .ok (.aload_n 0, 1) := dk_42 (dk_at dksX1_failsBy_0 1 rfl rfl)
theorem dX1_failsBy_2 : decode cX1_failsBy 2 = .ok (.getfield 30, 3) := dk_180 0 30 (dk_at dksX1_failsBy_0 2 rfl rfl)
theorem dX1_failsBy_5 : decode cX1_failsBy 5 = .ok (.iload_n 1, 1) := dk_27 (dk_at dksX1_failsBy_0 5 rfl rfl)
theorem dX1_failsBy_6 : decode cX1_failsBy 6 = .ok (.aaload, 1) := dk_50 (dk_at dksX1_failsBy_0 6 rfl rfl)
theorem dX1_failsBy_7 : decode cX1_failsBy 7 = .ok (.iload_n 2, 1) := dk_28 (dk_at dksX1_failsBy_0 7 rfl rfl)
theorem dX1_failsBy_8 : decode cX1_failsBy 8 = .ok (.invokevirtual 752, 3) := dk_182 2 240 (dk_at dksX1_failsBy_0 8 rfl rfl)
theorem dX1_failsBy_11 : decode cX1_failsBy 11 = .ok (.istore 4, 2) := dk_54 4 (dk_at dksX1_failsBy_0 11 rfl rfl)
theorem dX1_failsBy_13 : decode cX1_failsBy 13 = .ok (.iload 4, 2) := dk_21 4 (dk_at dksX1_failsBy_0 13 rfl rfl)
theorem dX1_failsBy_15 : decode cX1_failsBy 15 = .ok (.iconst (-1), 1) := dk_2 (dk_at dksX1_failsBy_0 15 rfl rfl)
theorem dX1_failsBy_16 : decode cX1_failsBy 16 = .ok (.if_icmp .ne 5, 3) := dk_160 0 5 (dk_at dksX1_failsBy_0 16 rfl rfl)
theorem dX1_failsBy_19 : decode cX1_failsBy 19 = .ok (.iconst 0, 1) := dk_3 (dk_at dksX1_failsBy_0 19 rfl rfl)
theorem dX1_failsBy_20 : decode cX1_failsBy 20 = .ok (.ireturn, 1) := dk_172 (dk_at dksX1_failsBy_0 20 rfl rfl)
theorem dX1_failsBy_21 : decode cX1_failsBy 21 = .ok (.aload_n 0, 1) := dk_42 (dk_at dksX1_failsBy_0 21 rfl rfl)
theorem dX1_failsBy_22 : decode cX1_failsBy 22 = .ok (.iload_n 1, 1) := dk_27 (dk_at dksX1_failsBy_0 22 rfl rfl)
theorem dX1_failsBy_23 : decode cX1_failsBy 23 = .ok (.iload_n 2, 1) := dk_28 (dk_at dksX1_failsBy_0 23 rfl rfl)
theorem dX1_failsBy_24 : decode cX1_failsBy 24 = .ok (.invokevirtual 771, 3) := dk_182 3 3 (dk_at dksX1_failsBy_1 0 rfl rfl)
theorem dX1_failsBy_27 : decode cX1_failsBy 27 = .ok (.iconst 0, 1) := dk_3 (dk_at dksX1_failsBy_1 3 rfl rfl)
theorem dX1_failsBy_28 : decode cX1_failsBy 28 = .ok (.istore 5, 2) := dk_54 5 (dk_at dksX1_failsBy_1 4 rfl rfl)
theorem dX1_failsBy_30 : decode cX1_failsBy 30 = .ok (.aload_n 0, 1) := dk_42 (dk_at dksX1_failsBy_1 6 rfl rfl)
theorem dX1_failsBy_31 : decode cX1_failsBy 31 = .ok (.getfield 84, 3) := dk_180 0 84 (dk_at dksX1_failsBy_1 7 rfl rfl)
theorem dX1_failsBy_34 : decode cX1_failsBy 34 = .ok (.iload 4, 2) := dk_21 4 (dk_at dksX1_failsBy_1 10 rfl rfl)
theorem dX1_failsBy_36 : decode cX1_failsBy 36 = .ok (.aaload, 1) := dk_50 (dk_at dksX1_failsBy_1 12 rfl rfl)
theorem dX1_failsBy_37 : decode cX1_failsBy 37 = .ok (.astore 6, 2) := dk_58 6 (dk_at dksX1_failsBy_1 13 rfl rfl)
theorem dX1_failsBy_39 : decode cX1_failsBy 39 = .ok (.aload 6, 2) := dk_25 6 (dk_at dksX1_failsBy_1 15 rfl rfl)
theorem dX1_failsBy_41 : decode cX1_failsBy 41 = .ok (.ifnull 49, 3) := dk_198 0 49 (dk_at dksX1_failsBy_1 17 rfl rfl)
theorem dX1_failsBy_44 : decode cX1_failsBy 44 = .ok (.aload 6, 2) := dk_25 6 (dk_at dksX1_failsBy_1 20 rfl rfl)
theorem dX1_failsBy_46 : decode cX1_failsBy 46 = .ok (.getfield 621, 3) := dk_180 2 109 (dk_at dksX1_failsBy_2 0 rfl rfl)
theorem dX1_failsBy_49 : decode cX1_failsBy 49 = .ok (.aload_n 0, 1) := dk_42 (dk_at dksX1_failsBy_2 3 rfl rfl)
theorem dX1_failsBy_50 : decode cX1_failsBy 50 = .ok (.getfield 52, 3) := dk_180 0 52 (dk_at dksX1_failsBy_2 4 rfl rfl)
theorem dX1_failsBy_53 : decode cX1_failsBy 53 = .ok (.invokevirtual 624, 3) := dk_182 2 112 (dk_at dksX1_failsBy_2 7 rfl rfl)
theorem dX1_failsBy_56 : decode cX1_failsBy 56 = .ok (.ifCond .ne 6, 3) := dk_154 0 6 (dk_at dksX1_failsBy_2 10 rfl rfl)
theorem dX1_failsBy_59 : decode cX1_failsBy 59 = .ok (.goto 21, 3) := dk_167 0 21 (dk_at dksX1_failsBy_2 13 rfl rfl)
theorem dX1_failsBy_62 : decode cX1_failsBy 62 = .ok (.iload 5, 2) := dk_21 5 (dk_at dksX1_failsBy_2 16 rfl rfl)
theorem dX1_failsBy_64 : decode cX1_failsBy 64 = .ok (.iload_n 3, 1) := dk_29 (dk_at dksX1_failsBy_2 18 rfl rfl)
theorem dX1_failsBy_65 : decode cX1_failsBy 65 = .ok (.if_icmp .ne 12, 3) := dk_160 0 12 (dk_at dksX1_failsBy_2 19 rfl rfl)
theorem dX1_failsBy_68 : decode cX1_failsBy 68 = .ok (.aload_n 0, 1) := dk_42 (dk_at dksX1_failsBy_2 22 rfl rfl)
theorem dX1_failsBy_69 : decode cX1_failsBy 69 = .ok (.aload 6, 2) := dk_25 6 (dk_at dksX1_failsBy_3 0 rfl rfl)
theorem dX1_failsBy_71 : decode cX1_failsBy 71 = .ok (.getfield 552, 3) := dk_180 2 40 (dk_at dksX1_failsBy_3 2 rfl rfl)
theorem dX1_failsBy_74 : decode cX1_failsBy 74 = .ok (.putfield 774, 3) := dk_181 3 6 (dk_at dksX1_failsBy_3 5 rfl rfl)
theorem dX1_failsBy_77 : decode cX1_failsBy 77 = .ok (.iinc 5 1, 3) := dk_132 5 1 (dk_at dksX1_failsBy_3 8 rfl rfl)
theorem dX1_failsBy_80 : decode cX1_failsBy 80 = .ok (.aload 6, 2) := dk_25 6 (dk_at dksX1_failsBy_3 11 rfl rfl)
theorem dX1_failsBy_82 : decode cX1_failsBy 82 = .ok (.getfield 569, 3) := dk_180 2 57 (dk_at dksX1_failsBy_3 13 rfl rfl)
theorem dX1_failsBy_85 : decode cX1_failsBy 85 = .ok (.astore 6, 2) := dk_58 6 (dk_at dksX1_failsBy_3 16 rfl rfl)
theorem dX1_failsBy_87 : decode cX1_failsBy 87 = .ok (.goto (-48), 3) := dk_167 255 208 (dk_at dksX1_failsBy_3 18 rfl rfl)
theorem dX1_failsBy_90 : decode cX1_failsBy 90 = .ok (.iload 5, 2) := dk_21 5 (dk_at dksX1_failsBy_3 21 rfl rfl)
theorem dX1_failsBy_92 : decode cX1_failsBy 92 = .ok (.ireturn, 1) := dk_172 (dk_at dksX1_failsBy_3 23 rfl rfl)
abbrev cX1_regard : ByteArray := prog_1_method_119_code
def yX1_regard : MethodName := ⟨RX1, "regard", "(II)V"⟩
def dkwX1_regard_7 : List UInt8 := [42, 27, 182, 2, 253, 79, 42, 180, 0, 52, 16, 108, 42, 27, 28, 182, 3, 0, 79, 177]
abbrev dktX1_regard_7 : List UInt8 := dkwX1_regard_7 ++ []
def dkwX1_regard_6 : List UInt8 := [180, 0, 52, 16, 100, 45, 180, 0, 215, 153, 0, 7, 4, 167, 0, 4, 3, 79, 42, 180, 0, 52, 16, 110]
abbrev dktX1_regard_6 : List UInt8 := dkwX1_regard_6 ++ dktX1_regard_7
def dkwX1_regard_5 : List UInt8 := [180, 0, 52, 16, 119, 45, 180, 0, 218, 79, 42, 180, 0, 52, 16, 121, 45, 180, 0, 221, 79, 42]
abbrev dktX1_regard_5 : List UInt8 := dkwX1_regard_5 ++ dktX1_regard_6
def dkwX1_regard_4 : List UInt8 := [79, 42, 180, 0, 52, 16, 120, 45, 180, 1, 69, 2, 160, 0, 7, 3, 167, 0, 4, 4, 79, 42]
abbrev dktX1_regard_4 : List UInt8 := dkwX1_regard_4 ++ dktX1_regard_5
def dkwX1_regard_3 : List UInt8 := [28, 182, 2, 249, 79, 42, 180, 0, 52, 16, 107, 45, 180, 2, 252, 79, 42, 180, 0, 52, 16, 103, 21, 4]
abbrev dktX1_regard_3 : List UInt8 := dkwX1_regard_3 ++ dktX1_regard_4
def dkwX1_regard_2 : List UInt8 := [45, 180, 0, 209, 79, 42, 180, 0, 52, 16, 114, 45, 180, 0, 245, 79, 42, 180, 0, 52, 16, 117, 42, 27]
abbrev dktX1_regard_2 : List UInt8 := dkwX1_regard_2 ++ dktX1_regard_3
def dkwX1_regard_1 : List UInt8 := [45, 180, 0, 251, 21, 5, 46, 184, 1, 13, 54, 4, 132, 5, 1, 167, 255, 230, 42, 180, 0, 52, 16, 115]
abbrev dktX1_regard_1 : List UInt8 := dkwX1_regard_1 ++ dktX1_regard_2
def dkwX1_regard_0 : List UInt8 := [42, 180, 0, 30, 27, 50, 78, 3, 54, 4, 3, 54, 5, 21, 5, 45, 180, 0, 209, 162, 0, 23, 21, 4]
abbrev dktX1_regard_0 : List UInt8 := dkwX1_regard_0 ++ dktX1_regard_1
theorem dksX1_regard_0 : cX1_regard.data.toList.drop 0 = dktX1_regard_0 := by decide +kernel
theorem dksX1_regard_1 : cX1_regard.data.toList.drop 24 = dktX1_regard_1 := dk_seg dksX1_regard_0 24 rfl rfl
theorem dksX1_regard_2 : cX1_regard.data.toList.drop 48 = dktX1_regard_2 := dk_seg dksX1_regard_1 24 rfl rfl
theorem dksX1_regard_3 : cX1_regard.data.toList.drop 72 = dktX1_regard_3 := dk_seg dksX1_regard_2 24 rfl rfl
theorem dksX1_regard_4 : cX1_regard.data.toList.drop 96 = dktX1_regard_4 := dk_seg dksX1_regard_3 24 rfl rfl
theorem dksX1_regard_5 : cX1_regard.data.toList.drop 118 = dktX1_regard_5 := dk_seg dksX1_regard_4 22 rfl rfl
theorem dksX1_regard_6 : cX1_regard.data.toList.drop 140 = dktX1_regard_6 := dk_seg dksX1_regard_5 22 rfl rfl
theorem dksX1_regard_7 : cX1_regard.data.toList.drop 164 = dktX1_regard_7 := dk_seg dksX1_regard_6 24 rfl rfl
theorem dX1_regard_0 : decode cX1_regard 0 = .ok (.aload_n 0, 1) := dk_42 (dk_at dksX1_regard_0 0 rfl rfl)
theorem dX1_regard_1 : decode cX1_regard 1 = .ok (.getfield 30, 3) := dk_180 0 30 (dk_at dksX1_regard_0 1 rfl rfl)
theorem dX1_regard_4 : decode cX1_regard 4 = .ok (.iload_n 1, 1) := dk_27 (dk_at dksX1_regard_0 4 rfl rfl)
theorem dX1_regard_5 : decode cX1_regard 5 = .ok (.aaload, 1) := dk_50 (dk_at dksX1_regard_0 5 rfl rfl)
theorem dX1_regard_6 : decode cX1_regard 6 = .ok (.astore_n 3, 1) := dk_78 (dk_at dksX1_regard_0 6 rfl rfl)
theorem dX1_regard_7 : decode cX1_regard 7 = .ok (.iconst 0, 1) := dk_3 (dk_at dksX1_regard_0 7 rfl rfl)
theorem dX1_regard_8 : decode cX1_regard 8 = .ok (.istore 4, 2) := dk_54 4 (dk_at dksX1_regard_0 8 rfl rfl)
theorem dX1_regard_10 : decode cX1_regard 10 = .ok (.iconst 0, 1) := dk_3 (dk_at dksX1_regard_0 10 rfl rfl)
theorem dX1_regard_11 : decode cX1_regard 11 = .ok (.istore 5, 2) := dk_54 5 (dk_at dksX1_regard_0 11 rfl rfl)
theorem dX1_regard_13 : decode cX1_regard 13 = .ok (.iload 5, 2) := dk_21 5 (dk_at dksX1_regard_0 13 rfl rfl)
theorem dX1_regard_15 : decode cX1_regard 15 = .ok (.aload_n 3, 1) := dk_45 (dk_at dksX1_regard_0 15 rfl rfl)
theorem dX1_regard_16 : decode cX1_regard 16 = .ok (.getfield 209, 3) := dk_180 0 209 (dk_at dksX1_regard_0 16 rfl rfl)
theorem dX1_regard_19 : decode cX1_regard 19 = .ok (.if_icmp .ge 23, 3) := dk_162 0 23 (dk_at dksX1_regard_0 19 rfl rfl)
theorem dX1_regard_22 : decode cX1_regard 22 = .ok (.iload 4, 2) := dk_21 4 (dk_at dksX1_regard_0 22 rfl rfl)
theorem dX1_regard_24 : decode cX1_regard 24 = .ok (.aload_n 3, 1) := dk_45 (dk_at dksX1_regard_1 0 rfl rfl)
theorem dX1_regard_25 : decode cX1_regard 25 = .ok (.getfield 251, 3) := dk_180 0 251 (dk_at dksX1_regard_1 1 rfl rfl)
theorem dX1_regard_28 : decode cX1_regard 28 = .ok (.iload 5, 2) := dk_21 5 (dk_at dksX1_regard_1 4 rfl rfl)
theorem dX1_regard_30 : decode cX1_regard 30 = .ok (.iaload, 1) := dk_46 (dk_at dksX1_regard_1 6 rfl rfl)
theorem dX1_regard_31 : decode cX1_regard 31 = .ok (.invokestatic 269, 3) := dk_184 1 13 (dk_at dksX1_regard_1 7 rfl rfl)
theorem dX1_regard_34 : decode cX1_regard 34 = .ok (.istore 4, 2) := dk_54 4 (dk_at dksX1_regard_1 10 rfl rfl)
theorem dX1_regard_36 : decode cX1_regard 36 = .ok (.iinc 5 1, 3) := dk_132 5 1 (dk_at dksX1_regard_1 12 rfl rfl)
theorem dX1_regard_39 : decode cX1_regard 39 = .ok (.goto (-26), 3) := dk_167 255 230 (dk_at dksX1_regard_1 15 rfl rfl)
theorem dX1_regard_42 : decode cX1_regard 42 = .ok (.aload_n 0, 1) := dk_42 (dk_at dksX1_regard_1 18 rfl rfl)
theorem dX1_regard_43 : decode cX1_regard 43 = .ok (.getfield 52, 3) := dk_180 0 52 (dk_at dksX1_regard_1 19 rfl rfl)
theorem dX1_regard_46 : decode cX1_regard 46 = .ok (.bipush 115, 2) := dk_16 115 (dk_at dksX1_regard_1 22 rfl rfl)
theorem dX1_regard_48 : decode cX1_regard 48 = .ok (.aload_n 3, 1) := dk_45 (dk_at dksX1_regard_2 0 rfl rfl)
theorem dX1_regard_49 : decode cX1_regard 49 = .ok (.getfield 209, 3) := dk_180 0 209 (dk_at dksX1_regard_2 1 rfl rfl)
theorem dX1_regard_52 : decode cX1_regard 52 = .ok (.iastore, 1) := dk_79 (dk_at dksX1_regard_2 4 rfl rfl)
theorem dX1_regard_53 : decode cX1_regard 53 = .ok (.aload_n 0, 1) := dk_42 (dk_at dksX1_regard_2 5 rfl rfl)
theorem dX1_regard_54 : decode cX1_regard 54 = .ok (.getfield 52, 3) := dk_180 0 52 (dk_at dksX1_regard_2 6 rfl rfl)
theorem dX1_regard_57 : decode cX1_regard 57 = .ok (.bipush 114, 2) := dk_16 114 (dk_at dksX1_regard_2 9 rfl rfl)
theorem dX1_regard_59 : decode cX1_regard 59 = .ok (.aload_n 3, 1) := dk_45 (dk_at dksX1_regard_2 11 rfl rfl)
theorem dX1_regard_60 : decode cX1_regard 60 = .ok (.getfield 245, 3) := dk_180 0 245 (dk_at dksX1_regard_2 12 rfl rfl)
theorem dX1_regard_63 : decode cX1_regard 63 = .ok (.iastore, 1) := dk_79 (dk_at dksX1_regard_2 15 rfl rfl)
theorem dX1_regard_64 : decode cX1_regard 64 = .ok (.aload_n 0, 1) := dk_42 (dk_at dksX1_regard_2 16 rfl rfl)
theorem dX1_regard_65 : decode cX1_regard 65 = .ok (.getfield 52, 3) := dk_180 0 52 (dk_at dksX1_regard_2 17 rfl rfl)
theorem dX1_regard_68 : decode cX1_regard 68 = .ok (.bipush 117, 2) := dk_16 117 (dk_at dksX1_regard_2 20 rfl rfl)
theorem dX1_regard_70 : decode cX1_regard 70 = .ok (.aload_n 0, 1) := dk_42 (dk_at dksX1_regard_2 22 rfl rfl)
theorem dX1_regard_71 : decode cX1_regard 71 = .ok (.iload_n 1, 1) := dk_27 (dk_at dksX1_regard_2 23 rfl rfl)
theorem dX1_regard_72 : decode cX1_regard 72 = .ok (.iload_n 2, 1) := dk_28 (dk_at dksX1_regard_3 0 rfl rfl)
theorem dX1_regard_73 : decode cX1_regard 73 = .ok (.invokevirtual 761, 3) := dk_182 2 249 (dk_at dksX1_regard_3 1 rfl rfl)
theorem dX1_regard_76 : decode cX1_regard 76 = .ok (.iastore, 1) := dk_79 (dk_at dksX1_regard_3 4 rfl rfl)
theorem dX1_regard_77 : decode cX1_regard 77 = .ok (.aload_n 0, 1) := dk_42 (dk_at dksX1_regard_3 5 rfl rfl)
theorem dX1_regard_78 : decode cX1_regard 78 = .ok (.getfield 52, 3) := dk_180 0 52 (dk_at dksX1_regard_3 6 rfl rfl)
theorem dX1_regard_81 : decode cX1_regard 81 = .ok (.bipush 107, 2) := dk_16 107 (dk_at dksX1_regard_3 9 rfl rfl)
theorem dX1_regard_83 : decode cX1_regard 83 = .ok (.aload_n 3, 1) := dk_45 (dk_at dksX1_regard_3 11 rfl rfl)
theorem dX1_regard_84 : decode cX1_regard 84 = .ok (.getfield 764, 3) := dk_180 2 252 (dk_at dksX1_regard_3 12 rfl rfl)
theorem dX1_regard_87 : decode cX1_regard 87 = .ok (.iastore, 1) := dk_79 (dk_at dksX1_regard_3 15 rfl rfl)
theorem dX1_regard_88 : decode cX1_regard 88 = .ok (.aload_n 0, 1) := dk_42 (dk_at dksX1_regard_3 16 rfl rfl)
theorem dX1_regard_89 : decode cX1_regard 89 = .ok (.getfield 52, 3) := dk_180 0 52 (dk_at dksX1_regard_3 17 rfl rfl)
theorem dX1_regard_92 : decode cX1_regard 92 = .ok (.bipush 103, 2) := dk_16 103 (dk_at dksX1_regard_3 20 rfl rfl)
theorem dX1_regard_94 : decode cX1_regard 94 = .ok (.iload 4, 2) := dk_21 4 (dk_at dksX1_regard_3 22 rfl rfl)
theorem dX1_regard_96 : decode cX1_regard 96 = .ok (.iastore, 1) := dk_79 (dk_at dksX1_regard_4 0 rfl rfl)
theorem dX1_regard_97 : decode cX1_regard 97 = .ok (.aload_n 0, 1) := dk_42 (dk_at dksX1_regard_4 1 rfl rfl)
theorem dX1_regard_98 : decode cX1_regard 98 = .ok (.getfield 52, 3) := dk_180 0 52 (dk_at dksX1_regard_4 2 rfl rfl)
theorem dX1_regard_101 : decode cX1_regard 101 = .ok (.bipush 120, 2) := dk_16 120 (dk_at dksX1_regard_4 5 rfl rfl)
theorem dX1_regard_103 : decode cX1_regard 103 = .ok (.aload_n 3, 1) := dk_45 (dk_at dksX1_regard_4 7 rfl rfl)
theorem dX1_regard_104 : decode cX1_regard 104 = .ok (.getfield 325, 3) := dk_180 1 69 (dk_at dksX1_regard_4 8 rfl rfl)
theorem dX1_regard_107 : decode cX1_regard 107 = .ok (.iconst (-1), 1) := dk_2 (dk_at dksX1_regard_4 11 rfl rfl)
theorem dX1_regard_108 : decode cX1_regard 108 = .ok (.if_icmp .ne 7, 3) := dk_160 0 7 (dk_at dksX1_regard_4 12 rfl rfl)
theorem dX1_regard_111 : decode cX1_regard 111 = .ok (.iconst 0, 1) := dk_3 (dk_at dksX1_regard_4 15 rfl rfl)
theorem dX1_regard_112 : decode cX1_regard 112 = .ok (.goto 4, 3) := dk_167 0 4 (dk_at dksX1_regard_4 16 rfl rfl)
theorem dX1_regard_115 : decode cX1_regard 115 = .ok (.iconst 1, 1) := dk_4 (dk_at dksX1_regard_4 19 rfl rfl)
theorem dX1_regard_116 : decode cX1_regard 116 = .ok (.iastore, 1) := dk_79 (dk_at dksX1_regard_4 20 rfl rfl)
theorem dX1_regard_117 : decode cX1_regard 117 = .ok (.aload_n 0, 1) := dk_42 (dk_at dksX1_regard_4 21 rfl rfl)
theorem dX1_regard_118 : decode cX1_regard 118 = .ok (.getfield 52, 3) := dk_180 0 52 (dk_at dksX1_regard_5 0 rfl rfl)
theorem dX1_regard_121 : decode cX1_regard 121 = .ok (.bipush 119, 2) := dk_16 119 (dk_at dksX1_regard_5 3 rfl rfl)
theorem dX1_regard_123 : decode cX1_regard 123 = .ok (.aload_n 3, 1) := dk_45 (dk_at dksX1_regard_5 5 rfl rfl)
theorem dX1_regard_124 : decode cX1_regard 124 = .ok (.getfield 218, 3) := dk_180 0 218 (dk_at dksX1_regard_5 6 rfl rfl)
theorem dX1_regard_127 : decode cX1_regard 127 = .ok (.iastore, 1) := dk_79 (dk_at dksX1_regard_5 9 rfl rfl)
theorem dX1_regard_128 : decode cX1_regard 128 = .ok (.aload_n 0, 1) := dk_42 (dk_at dksX1_regard_5 10 rfl rfl)
theorem dX1_regard_129 : decode cX1_regard 129 = .ok (.getfield 52, 3) := dk_180 0 52 (dk_at dksX1_regard_5 11 rfl rfl)
theorem dX1_regard_132 : decode cX1_regard 132 = .ok (.bipush 121, 2) := dk_16 121 (dk_at dksX1_regard_5 14 rfl rfl)
theorem dX1_regard_134 : decode cX1_regard 134 = .ok (.aload_n 3, 1) := dk_45 (dk_at dksX1_regard_5 16 rfl rfl)
theorem dX1_regard_135 : decode cX1_regard 135 = .ok (.getfield 221, 3) := dk_180 0 221 (dk_at dksX1_regard_5 17 rfl rfl)
theorem dX1_regard_138 : decode cX1_regard 138 = .ok (.iastore, 1) := dk_79 (dk_at dksX1_regard_5 20 rfl rfl)
theorem dX1_regard_139 : decode cX1_regard 139 = .ok (.aload_n 0, 1) := dk_42 (dk_at dksX1_regard_5 21 rfl rfl)
theorem dX1_regard_140 : decode cX1_regard 140 = .ok (.getfield 52, 3) := dk_180 0 52 (dk_at dksX1_regard_6 0 rfl rfl)
theorem dX1_regard_143 : decode cX1_regard 143 = .ok (.bipush 100, 2) := dk_16 100 (dk_at dksX1_regard_6 3 rfl rfl)
theorem dX1_regard_145 : decode cX1_regard 145 = .ok (.aload_n 3, 1) := dk_45 (dk_at dksX1_regard_6 5 rfl rfl)
theorem dX1_regard_146 : decode cX1_regard 146 = .ok (.getfield 215, 3) := dk_180 0 215 (dk_at dksX1_regard_6 6 rfl rfl)
theorem dX1_regard_149 : decode cX1_regard 149 = .ok (.ifCond .eq 7, 3) := dk_153 0 7 (dk_at dksX1_regard_6 9 rfl rfl)
theorem dX1_regard_152 : decode cX1_regard 152 = .ok (.iconst 1, 1) := dk_4 (dk_at dksX1_regard_6 12 rfl rfl)
theorem dX1_regard_153 : decode cX1_regard 153 = .ok (.goto 4, 3) := dk_167 0 4 (dk_at dksX1_regard_6 13 rfl rfl)
theorem dX1_regard_156 : decode cX1_regard 156 = .ok (.iconst 0, 1) := dk_3 (dk_at dksX1_regard_6 16 rfl rfl)
theorem dX1_regard_157 : decode cX1_regard 157 = .ok (.iastore, 1) := dk_79 (dk_at dksX1_regard_6 17 rfl rfl)
theorem dX1_regard_158 : decode cX1_regard 158 = .ok (.aload_n 0, 1) := dk_42 (dk_at dksX1_regard_6 18 rfl rfl)
theorem dX1_regard_159 : decode cX1_regard 159 = .ok (.getfield 52, 3) := dk_180 0 52 (dk_at dksX1_regard_6 19 rfl rfl)
theorem dX1_regard_162 : decode cX1_regard 162 = .ok (.bipush 110, 2) := dk_16 110 (dk_at dksX1_regard_6 22 rfl rfl)
theorem dX1_regard_164 : decode cX1_regard 164 = .ok (.aload_n 0, 1) := dk_42 (dk_at dksX1_regard_7 0 rfl rfl)
theorem dX1_regard_165 : decode cX1_regard 165 = .ok (.iload_n 1, 1) := dk_27 (dk_at dksX1_regard_7 1 rfl rfl)
theorem dX1_regard_166 : decode cX1_regard 166 = .ok (.invokevirtual 765, 3) := dk_182 2 253 (dk_at dksX1_regard_7 2 rfl rfl)
theorem dX1_regard_169 : decode cX1_regard 169 = .ok (.iastore, 1) := dk_79 (dk_at dksX1_regard_7 5 rfl rfl)
theorem dX1_regard_170 : decode cX1_regard 170 = .ok (.aload_n 0, 1) := dk_42 (dk_at dksX1_regard_7 6 rfl rfl)
theorem dX1_regard_171 : decode cX1_regard 171 = .ok (.getfield 52, 3) := dk_180 0 52 (dk_at dksX1_regard_7 7 rfl rfl)
theorem dX1_regard_174 : decode cX1_regard 174 = .ok (.bipush 108, 2) := dk_16 108 (dk_at dksX1_regard_7 10 rfl rfl)
theorem dX1_regard_176 : decode cX1_regard 176 = .ok (.aload_n 0, 1) := dk_42 (dk_at dksX1_regard_7 12 rfl rfl)
theorem dX1_regard_177 : decode cX1_regard 177 = .ok (.iload_n 1, 1) := dk_27 (dk_at dksX1_regard_7 13 rfl rfl)
theorem dX1_regard_178 : decode cX1_regard 178 = .ok (.iload_n 2, 1) := dk_28 (dk_at dksX1_regard_7 14 rfl rfl)
theorem dX1_regard_179 : decode cX1_regard 179 = .ok (.invokevirtual 768, 3) := dk_182 3 0 (dk_at dksX1_regard_7 15 rfl rfl)
theorem dX1_regard_182 : decode cX1_regard 182 = .ok (.iastore, 1) := dk_79 (dk_at dksX1_regard_7 18 rfl rfl)
theorem dX1_regard_183 : decode cX1_regard 183 = .ok (.return_, 1) := dk_177 (dk_at dksX1_regard_7 19 rfl rfl)
abbrev cX1_besides : ByteArray := prog_1_method_29_code
def yX1_besides : MethodName := ⟨RX1, "besides", "(I)I"⟩
def dkwX1_besides_1 : List UInt8 := [167, 0, 4, 4, 96, 172]
abbrev dktX1_besides_1 : List UInt8 := dkwX1_besides_1 ++ []
def dkwX1_besides_0 : List UInt8 := [42, 27, 2, 182, 1, 55, 199, 0, 7, 3, 167, 0, 4, 4, 42, 27, 4, 182, 1, 55, 199, 0, 7, 3]
abbrev dktX1_besides_0 : List UInt8 := dkwX1_besides_0 ++ dktX1_besides_1
theorem dksX1_besides_0 : cX1_besides.data.toList.drop 0 = dktX1_besides_0 := by decide +kernel
theorem dksX1_besides_1 : cX1_besides.data.toList.drop 24 = dktX1_besides_1 := dk_seg dksX1_besides_0 24 rfl rfl
theorem dX1_besides_0 : decode cX1_besides 0 = .ok (.aload_n 0, 1) := dk_42 (dk_at dksX1_besides_0 0 rfl rfl)
theorem dX1_besides_1 : decode cX1_besides 1 = .ok (.iload_n 1, 1) := dk_27 (dk_at dksX1_besides_0 1 rfl rfl)
theorem dX1_besides_2 : decode cX1_besides 2 = .ok (.iconst (-1), 1) := dk_2 (dk_at dksX1_besides_0 2 rfl rfl)
theorem dX1_besides_3 : decode cX1_besides 3 = .ok (.invokevirtual 311, 3) := dk_182 1 55 (dk_at dksX1_besides_0 3 rfl rfl)
theorem dX1_besides_6 : decode cX1_besides 6 = .ok (.ifnonnull 7, 3) := dk_199 0 7 (dk_at dksX1_besides_0 6 rfl rfl)
theorem dX1_besides_9 : decode cX1_besides 9 = .ok (.iconst 0, 1) := dk_3 (dk_at dksX1_besides_0 9 rfl rfl)
theorem dX1_besides_10 : decode cX1_besides 10 = .ok (.goto 4, 3) := dk_167 0 4 (dk_at dksX1_besides_0 10 rfl rfl)
theorem dX1_besides_13 : decode cX1_besides 13 = .ok (.iconst 1, 1) := dk_4 (dk_at dksX1_besides_0 13 rfl rfl)
theorem dX1_besides_14 : decode cX1_besides 14 = .ok (.aload_n 0, 1) := dk_42 (dk_at dksX1_besides_0 14 rfl rfl)
theorem dX1_besides_15 : decode cX1_besides 15 = .ok (.iload_n 1, 1) := dk_27 (dk_at dksX1_besides_0 15 rfl rfl)
theorem dX1_besides_16 : decode cX1_besides 16 = .ok (.iconst 1, 1) := dk_4 (dk_at dksX1_besides_0 16 rfl rfl)
theorem dX1_besides_17 : decode cX1_besides 17 = .ok (.invokevirtual 311, 3) := dk_182 1 55 (dk_at dksX1_besides_0 17 rfl rfl)
theorem dX1_besides_20 : decode cX1_besides 20 = .ok (.ifnonnull 7, 3) := dk_199 0 7 (dk_at dksX1_besides_0 20 rfl rfl)
theorem dX1_besides_23 : decode cX1_besides 23 = .ok (.iconst 0, 1) := dk_3 (dk_at dksX1_besides_0 23 rfl rfl)
theorem dX1_besides_24 : decode cX1_besides 24 = .ok (.goto 4, 3) := dk_167 0 4 (dk_at dksX1_besides_1 0 rfl rfl)
theorem dX1_besides_27 : decode cX1_besides 27 = .ok (.iconst 1, 1) := dk_4 (dk_at dksX1_besides_1 3 rfl rfl)
theorem dX1_besides_28 : decode cX1_besides 28 = .ok (.iadd, 1) := dk_96 (dk_at dksX1_besides_1 4 rfl rfl)
theorem dX1_besides_29 : decode cX1_besides 29 = .ok (.ireturn, 1) := dk_172 (dk_at dksX1_besides_1 5 rfl rfl)
abbrev cX1_unlooked : ByteArray := prog_1_method_118_code
def yX1_unlooked : MethodName := ⟨RX1, "unlooked", "(II)I"⟩
def dkwX1_unlooked_3 : List UInt8 := [17, 3, 231, 167, 0, 10, 28, 29, 100, 17, 5, 160, 108, 172]
abbrev dktX1_unlooked_3 : List UInt8 := dkwX1_unlooked_3 ++ []
def dkwX1_unlooked_2 : List UInt8 := [163, 0, 11, 42, 180, 0, 102, 21, 4, 46, 62, 132, 4, 1, 167, 255, 203, 29, 2, 160, 0, 9]
abbrev dktX1_unlooked_2 : List UInt8 := dkwX1_unlooked_2 ++ dktX1_unlooked_3
def dkwX1_unlooked_1 : List UInt8 := [160, 0, 33, 42, 180, 0, 96, 21, 4, 46, 2, 160, 0, 22, 42, 180, 0, 102, 21, 4, 46, 28]
abbrev dktX1_unlooked_1 : List UInt8 := dkwX1_unlooked_1 ++ dktX1_unlooked_2
def dkwX1_unlooked_0 : List UInt8 := [2, 62, 3, 54, 4, 21, 4, 42, 180, 2, 243, 162, 0, 50, 42, 180, 0, 93, 21, 4, 46, 27]
abbrev dktX1_unlooked_0 : List UInt8 := dkwX1_unlooked_0 ++ dktX1_unlooked_1
theorem dksX1_unlooked_0 : cX1_unlooked.data.toList.drop 0 = dktX1_unlooked_0 := by decide +kernel
theorem dksX1_unlooked_1 : cX1_unlooked.data.toList.drop 22 = dktX1_unlooked_1 := dk_seg dksX1_unlooked_0 22 rfl rfl
theorem dksX1_unlooked_2 : cX1_unlooked.data.toList.drop 44 = dktX1_unlooked_2 := dk_seg dksX1_unlooked_1 22 rfl rfl
theorem dksX1_unlooked_3 : cX1_unlooked.data.toList.drop 66 = dktX1_unlooked_3 := dk_seg dksX1_unlooked_2 22 rfl rfl
theorem dX1_unlooked_0 : decode cX1_unlooked 0 = .ok (.iconst (-1), 1) := dk_2 (dk_at dksX1_unlooked_0 0 rfl rfl)
theorem dX1_unlooked_1 : decode cX1_unlooked 1 = .ok (.istore_n 3, 1) := dk_62 (dk_at dksX1_unlooked_0 1 rfl rfl)
theorem dX1_unlooked_2 : decode cX1_unlooked 2 = .ok (.iconst 0, 1) := dk_3 (dk_at dksX1_unlooked_0 2 rfl rfl)
theorem dX1_unlooked_3 : decode cX1_unlooked 3 = .ok (.istore 4, 2) := dk_54 4 (dk_at dksX1_unlooked_0 3 rfl rfl)
theorem dX1_unlooked_5 : decode cX1_unlooked 5 = .ok (.iload 4, 2) := dk_21 4 (dk_at dksX1_unlooked_0 5 rfl rfl)
theorem dX1_unlooked_7 : decode cX1_unlooked 7 = .ok (.aload_n 0, 1) := dk_42 (dk_at dksX1_unlooked_0 7 rfl rfl)
theorem dX1_unlooked_8 : decode cX1_unlooked 8 = .ok (.getfield 755, 3) := dk_180 2 243 (dk_at dksX1_unlooked_0 8 rfl rfl)
theorem dX1_unlooked_11 : decode cX1_unlooked 11 = .ok (.if_icmp .ge 50, 3) := dk_162 0 50 (dk_at dksX1_unlooked_0 11 rfl rfl)
theorem dX1_unlooked_14 : decode cX1_unlooked 14 = .ok (.aload_n 0, 1) := dk_42 (dk_at dksX1_unlooked_0 14 rfl rfl)
theorem dX1_unlooked_15 : decode cX1_unlooked 15 = .ok (.getfield 93, 3) := dk_180 0 93 (dk_at dksX1_unlooked_0 15 rfl rfl)
theorem dX1_unlooked_18 : decode cX1_unlooked 18 = .ok (.iload 4, 2) := dk_21 4 (dk_at dksX1_unlooked_0 18 rfl rfl)
theorem dX1_unlooked_20 : decode cX1_unlooked 20 = .ok (.iaload, 1) := dk_46 (dk_at dksX1_unlooked_0 20 rfl rfl)
theorem dX1_unlooked_21 : decode cX1_unlooked 21 = .ok (.iload_n 1, 1) := dk_27 (dk_at dksX1_unlooked_0 21 rfl rfl)
theorem dX1_unlooked_22 : decode cX1_unlooked 22 = .ok (.if_icmp .ne 33, 3) := dk_160 0 33 (dk_at dksX1_unlooked_1 0 rfl rfl)
theorem dX1_unlooked_25 : decode cX1_unlooked 25 = .ok (.aload_n 0, 1) := dk_42 (dk_at dksX1_unlooked_1 3 rfl rfl)
theorem dX1_unlooked_26 : decode cX1_unlooked 26 = .ok (.getfield 96, 3) := dk_180 0 96 (dk_at dksX1_unlooked_1 4 rfl rfl)
theorem dX1_unlooked_29 : decode cX1_unlooked 29 = .ok (.iload 4, 2) := dk_21 4 (dk_at dksX1_unlooked_1 7 rfl rfl)
theorem dX1_unlooked_31 : decode cX1_unlooked 31 = .ok (.iaload, 1) := dk_46 (dk_at dksX1_unlooked_1 9 rfl rfl)
theorem dX1_unlooked_32 : decode cX1_unlooked 32 = .ok (.iconst (-1), 1) := dk_2 (dk_at dksX1_unlooked_1 10 rfl rfl)
theorem dX1_unlooked_33 : decode cX1_unlooked 33 = .ok (.if_icmp .ne 22, 3) := dk_160 0 22 (dk_at dksX1_unlooked_1 11 rfl rfl)
theorem dX1_unlooked_36 : decode cX1_unlooked 36 = .ok (.aload_n 0, 1) := dk_42 (dk_at dksX1_unlooked_1 14 rfl rfl)
theorem dX1_unlooked_37 : decode cX1_unlooked 37 = .ok (.getfield 102, 3) := dk_180 0 102 (dk_at dksX1_unlooked_1 15 rfl rfl)
theorem dX1_unlooked_40 : decode cX1_unlooked 40 = .ok (.iload 4, 2) := dk_21 4 (dk_at dksX1_unlooked_1 18 rfl rfl)
theorem dX1_unlooked_42 : decode cX1_unlooked 42 = .ok (.iaload, 1) := dk_46 (dk_at dksX1_unlooked_1 20 rfl rfl)
theorem dX1_unlooked_43 : decode cX1_unlooked 43 = .ok (.iload_n 2, 1) := dk_28 (dk_at dksX1_unlooked_1 21 rfl rfl)
theorem dX1_unlooked_44 : decode cX1_unlooked 44 = .ok (.if_icmp .gt 11, 3) := dk_163 0 11 (dk_at dksX1_unlooked_2 0 rfl rfl)
theorem dX1_unlooked_47 : decode cX1_unlooked 47 = .ok (.aload_n 0, 1) := dk_42 (dk_at dksX1_unlooked_2 3 rfl rfl)
theorem dX1_unlooked_48 : decode cX1_unlooked 48 = .ok (.getfield 102, 3) := dk_180 0 102 (dk_at dksX1_unlooked_2 4 rfl rfl)
theorem dX1_unlooked_51 : decode cX1_unlooked 51 = .ok (.iload 4, 2) := dk_21 4 (dk_at dksX1_unlooked_2 7 rfl rfl)
theorem dX1_unlooked_53 : decode cX1_unlooked 53 = .ok (.iaload, 1) := dk_46 (dk_at dksX1_unlooked_2 9 rfl rfl)
theorem dX1_unlooked_54 : decode cX1_unlooked 54 = .ok (.istore_n 3, 1) := dk_62 (dk_at dksX1_unlooked_2 10 rfl rfl)
theorem dX1_unlooked_55 : decode cX1_unlooked 55 = .ok (.iinc 4 1, 3) := dk_132 4 1 (dk_at dksX1_unlooked_2 11 rfl rfl)
theorem dX1_unlooked_58 : decode cX1_unlooked 58 = .ok (.goto (-53), 3) := dk_167 255 203 (dk_at dksX1_unlooked_2 14 rfl rfl)
theorem dX1_unlooked_61 : decode cX1_unlooked 61 = .ok (.iload_n 3, 1) := dk_29 (dk_at dksX1_unlooked_2 17 rfl rfl)
theorem dX1_unlooked_62 : decode cX1_unlooked 62 = .ok (.iconst (-1), 1) := dk_2 (dk_at dksX1_unlooked_2 18 rfl rfl)
theorem dX1_unlooked_63 : decode cX1_unlooked 63 = .ok (.if_icmp .ne 9, 3) := dk_160 0 9 (dk_at dksX1_unlooked_2 19 rfl rfl)
theorem dX1_unlooked_66 : decode cX1_unlooked 66 = .ok (.sipush 999, 3) := dk_17 3 231 (dk_at dksX1_unlooked_3 0 rfl rfl)
theorem dX1_unlooked_69 : decode cX1_unlooked 69 = .ok (.goto 10, 3) := dk_167 0 10 (dk_at dksX1_unlooked_3 3 rfl rfl)
theorem dX1_unlooked_72 : decode cX1_unlooked 72 = .ok (.iload_n 2, 1) := dk_28 (dk_at dksX1_unlooked_3 6 rfl rfl)
theorem dX1_unlooked_73 : decode cX1_unlooked 73 = .ok (.iload_n 3, 1) := dk_29 (dk_at dksX1_unlooked_3 7 rfl rfl)
theorem dX1_unlooked_74 : decode cX1_unlooked 74 = .ok (.isub, 1) := dk_100 (dk_at dksX1_unlooked_3 8 rfl rfl)
theorem dX1_unlooked_75 : decode cX1_unlooked 75 = .ok (.sipush 1440, 3) := dk_17 5 160 (dk_at dksX1_unlooked_3 9 rfl rfl)
theorem dX1_unlooked_78 : decode cX1_unlooked 78 = .ok (.idiv, 1) := dk_108 (dk_at dksX1_unlooked_3 12 rfl rfl)
theorem dX1_unlooked_79 : decode cX1_unlooked 79 = .ok (.ireturn, 1) := dk_172 (dk_at dksX1_unlooked_3 13 rfl rfl)
abbrev cX1_code : ByteArray := prog_1_method_122_code
def yX1_code : MethodName := ⟨RX1, "code", "(III)I"⟩
def dkwX1_code_1 : List UInt8 := [42, 180, 3, 6, 167, 0, 4, 2, 172]
abbrev dktX1_code_1 : List UInt8 := dkwX1_code_1 ++ []
def dkwX1_code_0 : List UInt8 := [42, 27, 28, 182, 2, 237, 153, 0, 25, 29, 155, 0, 21, 29, 42, 27, 28, 29, 182, 3, 9, 162, 0, 10]
abbrev dktX1_code_0 : List UInt8 := dkwX1_code_0 ++ dktX1_code_1
theorem dksX1_code_0 : cX1_code.data.toList.drop 0 = dktX1_code_0 := by decide +kernel
theorem dksX1_code_1 : cX1_code.data.toList.drop 24 = dktX1_code_1 := dk_seg dksX1_code_0 24 rfl rfl
theorem dX1_code_0 : decode cX1_code 0 = .ok (.aload_n 0, 1) := dk_42 (dk_at dksX1_code_0 0 rfl rfl)
theorem dX1_code_1 : decode cX1_code 1 = .ok (.iload_n 1, 1) := dk_27 (dk_at dksX1_code_0 1 rfl rfl)
theorem dX1_code_2 : decode cX1_code 2 = .ok (.iload_n 2, 1) := dk_28 (dk_at dksX1_code_0 2 rfl rfl)
theorem dX1_code_3 : decode cX1_code 3 = .ok (.invokevirtual 749, 3) := dk_182 2 237 (dk_at dksX1_code_0 3 rfl rfl)
theorem dX1_code_6 : decode cX1_code 6 = .ok (.ifCond .eq 25, 3) := dk_153 0 25 (dk_at dksX1_code_0 6 rfl rfl)
theorem dX1_code_9 : decode cX1_code 9 = .ok (.iload_n 3, 1) := dk_29 (dk_at dksX1_code_0 9 rfl rfl)
theorem dX1_code_10 : decode cX1_code 10 = .ok (.ifCond .lt 21, 3) := dk_155 0 21 (dk_at dksX1_code_0 10 rfl rfl)
theorem dX1_code_13 : decode cX1_code 13 = .ok (.iload_n 3, 1) := dk_29 (dk_at dksX1_code_0 13 rfl rfl)
theorem dX1_code_14 : decode cX1_code 14 = .ok (.aload_n 0, 1) := dk_42 (dk_at dksX1_code_0 14 rfl rfl)
theorem dX1_code_15 : decode cX1_code 15 = .ok (.iload_n 1, 1) := dk_27 (dk_at dksX1_code_0 15 rfl rfl)
theorem dX1_code_16 : decode cX1_code 16 = .ok (.iload_n 2, 1) := dk_28 (dk_at dksX1_code_0 16 rfl rfl)
theorem dX1_code_17 : decode cX1_code 17 = .ok (.iload_n 3, 1) := dk_29 (dk_at dksX1_code_0 17 rfl rfl)
theorem dX1_code_18 : decode cX1_code 18 = .ok (.invokevirtual 777, 3) := dk_182 3 9 (dk_at dksX1_code_0 18 rfl rfl)
theorem dX1_code_21 : decode cX1_code 21 = .ok (.if_icmp .ge 10, 3) := dk_162 0 10 (dk_at dksX1_code_0 21 rfl rfl)
theorem dX1_code_24 : decode cX1_code 24 = .ok (.aload_n 0, 1) := dk_42 (dk_at dksX1_code_1 0 rfl rfl)
theorem dX1_code_25 : decode cX1_code 25 = .ok (.getfield 774, 3) := dk_180 3 6 (dk_at dksX1_code_1 1 rfl rfl)
theorem dX1_code_28 : decode cX1_code 28 = .ok (.goto 4, 3) := dk_167 0 4 (dk_at dksX1_code_1 4 rfl rfl)
theorem dX1_code_31 : decode cX1_code 31 = .ok (.iconst (-1), 1) := dk_2 (dk_at dksX1_code_1 7 rfl rfl)
theorem dX1_code_32 : decode cX1_code 32 = .ok (.ireturn, 1) := dk_172 (dk_at dksX1_code_1 8 rfl rfl)
abbrev cX1_failing : ByteArray := prog_1_method_123_code
def yX1_failing : MethodName := ⟨RX1, "failing", "()I"⟩
def dkwX1_failing_1 : List UInt8 := [158, 0, 9, 27, 4, 28, 120, 128, 60, 132, 2, 1, 167, 255, 226, 27, 172]
abbrev dktX1_failing_1 : List UInt8 := dkwX1_failing_1 ++ []
def dkwX1_failing_0 : List UInt8 := [3, 60, 3, 61, 28, 42, 180, 0, 199, 162, 0, 28, 42, 28, 42, 180, 1, 159, 2, 182, 3, 9]
abbrev dktX1_failing_0 : List UInt8 := dkwX1_failing_0 ++ dktX1_failing_1
theorem dksX1_failing_0 : cX1_failing.data.toList.drop 0 = dktX1_failing_0 := by decide +kernel
theorem dksX1_failing_1 : cX1_failing.data.toList.drop 22 = dktX1_failing_1 := dk_seg dksX1_failing_0 22 rfl rfl
theorem dX1_failing_0 : decode cX1_failing 0 = .ok (.iconst 0, 1) := dk_3 (dk_at dksX1_failing_0 0 rfl rfl)
theorem dX1_failing_1 : decode cX1_failing 1 = .ok (.istore_n 1, 1) := dk_60 (dk_at dksX1_failing_0 1 rfl rfl)
theorem dX1_failing_2 : decode cX1_failing 2 = .ok (.iconst 0, 1) := dk_3 (dk_at dksX1_failing_0 2 rfl rfl)
theorem dX1_failing_3 : decode cX1_failing 3 = .ok (.istore_n 2, 1) := dk_61 (dk_at dksX1_failing_0 3 rfl rfl)
theorem dX1_failing_4 : decode cX1_failing 4 = .ok (.iload_n 2, 1) := dk_28 (dk_at dksX1_failing_0 4 rfl rfl)
theorem dX1_failing_5 : decode cX1_failing 5 = .ok (.aload_n 0, 1) := dk_42 (dk_at dksX1_failing_0 5 rfl rfl)
theorem dX1_failing_6 : decode cX1_failing 6 = .ok (.getfield 199, 3) := dk_180 0 199 (dk_at dksX1_failing_0 6 rfl rfl)
theorem dX1_failing_9 : decode cX1_failing 9 = .ok (.if_icmp .ge 28, 3) := dk_162 0 28 (dk_at dksX1_failing_0 9 rfl rfl)
theorem dX1_failing_12 : decode cX1_failing 12 = .ok (.aload_n 0, 1) := dk_42 (dk_at dksX1_failing_0 12 rfl rfl)
theorem dX1_failing_13 : decode cX1_failing 13 = .ok (.iload_n 2, 1) := dk_28 (dk_at dksX1_failing_0 13 rfl rfl)
theorem dX1_failing_14 : decode cX1_failing 14 = .ok (.aload_n 0, 1) := dk_42 (dk_at dksX1_failing_0 14 rfl rfl)
theorem dX1_failing_15 : decode cX1_failing 15 = .ok (.getfield 415, 3) := dk_180 1 159 (dk_at dksX1_failing_0 15 rfl rfl)
theorem dX1_failing_18 : decode cX1_failing 18 = .ok (.iconst (-1), 1) := dk_2 (dk_at dksX1_failing_0 18 rfl rfl)
theorem dX1_failing_19 : decode cX1_failing 19 = .ok (.invokevirtual 777, 3) := dk_182 3 9 (dk_at dksX1_failing_0 19 rfl rfl)
theorem dX1_failing_22 : decode cX1_failing 22 = .ok (.ifCond .le 9, 3) := dk_158 0 9 (dk_at dksX1_failing_1 0 rfl rfl)
theorem dX1_failing_25 : decode cX1_failing 25 = .ok (.iload_n 1, 1) := dk_27 (dk_at dksX1_failing_1 3 rfl rfl)
theorem dX1_failing_26 : decode cX1_failing 26 = .ok (.iconst 1, 1) := dk_4 (dk_at dksX1_failing_1 4 rfl rfl)
theorem dX1_failing_27 : decode cX1_failing 27 = .ok (.iload_n 2, 1) := dk_28 (dk_at dksX1_failing_1 5 rfl rfl)
theorem dX1_failing_28 : decode cX1_failing 28 = .ok (.ishl, 1) := dk_120 (dk_at dksX1_failing_1 6 rfl rfl)
theorem dX1_failing_29 : decode cX1_failing 29 = .ok (.ior, 1) := dk_128 (dk_at dksX1_failing_1 7 rfl rfl)
theorem dX1_failing_30 : decode cX1_failing 30 = .ok (.istore_n 1, 1) := dk_60 (dk_at dksX1_failing_1 8 rfl rfl)
theorem dX1_failing_31 : decode cX1_failing 31 = .ok (.iinc 2 1, 3) := dk_132 2 1 (dk_at dksX1_failing_1 9 rfl rfl)
theorem dX1_failing_34 : decode cX1_failing 34 = .ok (.goto (-30), 3) := dk_167 255 226 (dk_at dksX1_failing_1 12 rfl rfl)
theorem dX1_failing_37 : decode cX1_failing 37 = .ok (.iload_n 1, 1) := dk_27 (dk_at dksX1_failing_1 15 rfl rfl)
theorem dX1_failing_38 : decode cX1_failing 38 = .ok (.ireturn, 1) := dk_172 (dk_at dksX1_failing_1 16 rfl rfl)
abbrev cX1_round : ByteArray := prog_1_method_127_code
def yX1_round : MethodName := ⟨RX1, "round", "(III)I"⟩
def dkwX1_round_1 : List UInt8 := [42, 180, 3, 16, 167, 0, 19, 29, 4, 160, 0, 10, 42, 180, 3, 19, 167, 0, 7, 42, 180, 3, 25, 172]
abbrev dktX1_round_1 : List UInt8 := dkwX1_round_1 ++ []
def dkwX1_round_0 : List UInt8 := [29, 3, 5, 184, 0, 3, 153, 0, 12, 42, 27, 28, 182, 3, 40, 154, 0, 5, 2, 172, 29, 154, 0, 10]
abbrev dktX1_round_0 : List UInt8 := dkwX1_round_0 ++ dktX1_round_1
theorem dksX1_round_0 : cX1_round.data.toList.drop 0 = dktX1_round_0 := by decide +kernel
theorem dksX1_round_1 : cX1_round.data.toList.drop 24 = dktX1_round_1 := dk_seg dksX1_round_0 24 rfl rfl
theorem dX1_round_0 : decode cX1_round 0 = .ok (.iload_n 3, 1) := dk_29 (dk_at dksX1_round_0 0 rfl rfl)
theorem dX1_round_1 : decode cX1_round 1 = .ok (.iconst 0, 1) := dk_3 (dk_at dksX1_round_0 1 rfl rfl)
theorem dX1_round_2 : decode cX1_round 2 = .ok (.iconst 2, 1) := dk_5 (dk_at dksX1_round_0 2 rfl rfl)
theorem dX1_round_3 : decode cX1_round 3 = .ok (.invokestatic 3, 3) := dk_184 0 3 (dk_at dksX1_round_0 3 rfl rfl)
theorem dX1_round_6 : decode cX1_round 6 = .ok (.ifCond .eq 12, 3) := dk_153 0 12 (dk_at dksX1_round_0 6 rfl rfl)
theorem dX1_round_9 : decode cX1_round 9 = .ok (.aload_n 0, 1) := dk_42 (dk_at dksX1_round_0 9 rfl rfl)
theorem dX1_round_10 : decode cX1_round 10 = .ok (.iload_n 1, 1) := dk_27 (dk_at dksX1_round_0 10 rfl rfl)
theorem dX1_round_11 : decode cX1_round 11 = .ok (.iload_n 2, 1) := dk_28 (dk_at dksX1_round_0 11 rfl rfl)
theorem dX1_round_12 : decode cX1_round 12 = .ok (.invokevirtual 808, 3) := dk_182 3 40 (dk_at dksX1_round_0 12 rfl rfl)
theorem dX1_round_15 : decode cX1_round 15 = .ok (.ifCond .ne 5, 3) := dk_154 0 5 (dk_at dksX1_round_0 15 rfl rfl)
theorem dX1_round_18 : decode cX1_round 18 = .ok (.iconst (-1), 1) := dk_2 (dk_at dksX1_round_0 18 rfl rfl)
theorem dX1_round_19 : decode cX1_round 19 = .ok (.ireturn, 1) := dk_172 (dk_at dksX1_round_0 19 rfl rfl)
theorem dX1_round_20 : decode cX1_round 20 = .ok (.iload_n 3, 1) := dk_29 (dk_at dksX1_round_0 20 rfl rfl)
theorem dX1_round_21 : decode cX1_round 21 = .ok (.ifCond .ne 10, 3) := dk_154 0 10 (dk_at dksX1_round_0 21 rfl rfl)
theorem dX1_round_24 : decode cX1_round 24 = .ok (.aload_n 0, 1) := dk_42 (dk_at dksX1_round_1 0 rfl rfl)
theorem dX1_round_25 : decode cX1_round 25 = .ok (.getfield 784, 3) := dk_180 3 16 (dk_at dksX1_round_1 1 rfl rfl)
theorem dX1_round_28 : decode cX1_round 28 = .ok (.goto 19, 3) := dk_167 0 19 (dk_at dksX1_round_1 4 rfl rfl)
theorem dX1_round_31 : decode cX1_round 31 = .ok (.iload_n 3, 1) := dk_29 (dk_at dksX1_round_1 7 rfl rfl)
theorem dX1_round_32 : decode cX1_round 32 = .ok (.iconst 1, 1) := dk_4 (dk_at dksX1_round_1 8 rfl rfl)
theorem dX1_round_33 : decode cX1_round 33 = .ok (.if_icmp .ne 10, 3) := dk_160 0 10 (dk_at dksX1_round_1 9 rfl rfl)
theorem dX1_round_36 : decode cX1_round 36 = .ok (.aload_n 0, 1) := dk_42 (dk_at dksX1_round_1 12 rfl rfl)
theorem dX1_round_37 : decode cX1_round 37 = .ok (.getfield 787, 3) := dk_180 3 19 (dk_at dksX1_round_1 13 rfl rfl)
theorem dX1_round_40 : decode cX1_round 40 = .ok (.goto 7, 3) := dk_167 0 7 (dk_at dksX1_round_1 16 rfl rfl)
theorem dX1_round_43 : decode cX1_round 43 = .ok (.aload_n 0, 1) := dk_42 (dk_at dksX1_round_1 19 rfl rfl)
theorem dX1_round_44 : decode cX1_round 44 = .ok (.getfield 793, 3) := dk_180 3 25 (dk_at dksX1_round_1 20 rfl rfl)
theorem dX1_round_47 : decode cX1_round 47 = .ok (.ireturn, 1) := dk_172 (dk_at dksX1_round_1 23 rfl rfl)
abbrev cX1_findRound : ByteArray := prog_1_method_126_code
def yX1_findRound : MethodName := ⟨RX1, "findRound", "(II)Z"⟩
def dkwX1_findRound_2 : List UInt8 := [42, 180, 3, 13, 3, 3, 3, 28, 182, 3, 34, 4, 172]
abbrev dktX1_findRound_2 : List UInt8 := dkwX1_findRound_2 ++ []
def dkwX1_findRound_1 : List UInt8 := [182, 3, 37, 42, 3, 181, 3, 22, 42, 3, 181, 3, 25, 42, 3, 181, 3, 16, 42, 3, 181, 3, 19, 42]
abbrev dktX1_findRound_1 : List UInt8 := dkwX1_findRound_1 ++ dktX1_findRound_2
def dkwX1_findRound_0 : List UInt8 := [27, 184, 0, 143, 153, 0, 14, 28, 3, 17, 1, 244, 184, 0, 3, 154, 0, 5, 3, 172, 42, 27]
abbrev dktX1_findRound_0 : List UInt8 := dkwX1_findRound_0 ++ dktX1_findRound_1
theorem dksX1_findRound_0 : cX1_findRound.data.toList.drop 0 = dktX1_findRound_0 := by decide +kernel
theorem dksX1_findRound_1 : cX1_findRound.data.toList.drop 22 = dktX1_findRound_1 := dk_seg dksX1_findRound_0 22 rfl rfl
theorem dksX1_findRound_2 : cX1_findRound.data.toList.drop 46 = dktX1_findRound_2 := dk_seg dksX1_findRound_1 24 rfl rfl
theorem dX1_findRound_0 : decode cX1_findRound 0 = .ok (.iload_n 1, 1) := dk_27 (dk_at dksX1_findRound_0 0 rfl rfl)
theorem dX1_findRound_1 : decode cX1_findRound 1 = .ok (.invokestatic 143, 3) := dk_184 0 143 (dk_at dksX1_findRound_0 1 rfl rfl)
theorem dX1_findRound_4 : decode cX1_findRound 4 = .ok (.ifCond .eq 14, 3) := dk_153 0 14 (dk_at dksX1_findRound_0 4 rfl rfl)
theorem dX1_findRound_7 : decode cX1_findRound 7 = .ok (.iload_n 2, 1) := dk_28 (dk_at dksX1_findRound_0 7 rfl rfl)
theorem dX1_findRound_8 : decode cX1_findRound 8 = .ok (.iconst 0, 1) := dk_3 (dk_at dksX1_findRound_0 8 rfl rfl)
theorem dX1_findRound_9 : decode cX1_findRound 9 = .ok (.sipush 500, 3) := dk_17 1 244 (dk_at dksX1_findRound_0 9 rfl rfl)
theorem dX1_findRound_12 : decode cX1_findRound 12 = .ok (.invokestatic 3, 3) := dk_184 0 3 (dk_at dksX1_findRound_0 12 rfl rfl)
theorem dX1_findRound_15 : decode cX1_findRound 15 = .ok (.ifCond .ne 5, 3) := dk_154 0 5 (dk_at dksX1_findRound_0 15 rfl rfl)
theorem dX1_findRound_18 : decode cX1_findRound 18 = .ok (.iconst 0, 1) := dk_3 (dk_at dksX1_findRound_0 18 rfl rfl)
theorem dX1_findRound_19 : decode cX1_findRound 19 = .ok (.ireturn, 1) := dk_172 (dk_at dksX1_findRound_0 19 rfl rfl)
theorem dX1_findRound_20 : decode cX1_findRound 20 = .ok (.aload_n 0, 1) := dk_42 (dk_at dksX1_findRound_0 20 rfl rfl)
theorem dX1_findRound_21 : decode cX1_findRound 21 = .ok (.iload_n 1, 1) := dk_27 (dk_at dksX1_findRound_0 21 rfl rfl)
theorem dX1_findRound_22 : decode cX1_findRound 22 = .ok (.invokevirtual 805, 3) := dk_182 3 37 (dk_at dksX1_findRound_1 0 rfl rfl)
theorem dX1_findRound_25 : decode cX1_findRound 25 = .ok (.aload_n 0, 1) := dk_42 (dk_at dksX1_findRound_1 3 rfl rfl)
theorem dX1_findRound_26 : decode cX1_findRound 26 = .ok (.iconst 0, 1) := dk_3 (dk_at dksX1_findRound_1 4 rfl rfl)
theorem dX1_findRound_27 : decode cX1_findRound 27 = .ok (.putfield 790, 3) := dk_181 3 22 (dk_at dksX1_findRound_1 5 rfl rfl)
theorem dX1_findRound_30 : decode cX1_findRound 30 = .ok (.aload_n 0, 1) := dk_42 (dk_at dksX1_findRound_1 8 rfl rfl)
theorem dX1_findRound_31 : decode cX1_findRound 31 = .ok (.iconst 0, 1) := dk_3 (dk_at dksX1_findRound_1 9 rfl rfl)
theorem dX1_findRound_32 : decode cX1_findRound 32 = .ok (.putfield 793, 3) := dk_181 3 25 (dk_at dksX1_findRound_1 10 rfl rfl)
theorem dX1_findRound_35 : decode cX1_findRound 35 = .ok (.aload_n 0, 1) := dk_42 (dk_at dksX1_findRound_1 13 rfl rfl)
theorem dX1_findRound_36 : decode cX1_findRound 36 = .ok (.iconst 0, 1) := dk_3 (dk_at dksX1_findRound_1 14 rfl rfl)
theorem dX1_findRound_37 : decode cX1_findRound 37 = .ok (.putfield 784, 3) := dk_181 3 16 (dk_at dksX1_findRound_1 15 rfl rfl)
theorem dX1_findRound_40 : decode cX1_findRound 40 = .ok (.aload_n 0, 1) := dk_42 (dk_at dksX1_findRound_1 18 rfl rfl)
theorem dX1_findRound_41 : decode cX1_findRound 41 = .ok (.iconst 0, 1) := dk_3 (dk_at dksX1_findRound_1 19 rfl rfl)
theorem dX1_findRound_42 : decode cX1_findRound 42 = .ok (.putfield 787, 3) := dk_181 3 19 (dk_at dksX1_findRound_1 20 rfl rfl)
theorem dX1_findRound_45 : decode cX1_findRound 45 = .ok (.aload_n 0, 1) := dk_42 (dk_at dksX1_findRound_1 23 rfl rfl)
theorem dX1_findRound_46 : decode cX1_findRound 46 = .ok (.aload_n 0, 1) := dk_42 (dk_at dksX1_findRound_2 0 rfl rfl)
theorem dX1_findRound_47 : decode cX1_findRound 47 = .ok (.getfield 781, 3) := dk_180 3 13 (dk_at dksX1_findRound_2 1 rfl rfl)
theorem dX1_findRound_50 : decode cX1_findRound 50 = .ok (.iconst 0, 1) := dk_3 (dk_at dksX1_findRound_2 4 rfl rfl)
theorem dX1_findRound_51 : decode cX1_findRound 51 = .ok (.iconst 0, 1) := dk_3 (dk_at dksX1_findRound_2 5 rfl rfl)
theorem dX1_findRound_52 : decode cX1_findRound 52 = .ok (.iconst 0, 1) := dk_3 (dk_at dksX1_findRound_2 6 rfl rfl)
theorem dX1_findRound_53 : decode cX1_findRound 53 = .ok (.iload_n 2, 1) := dk_28 (dk_at dksX1_findRound_2 7 rfl rfl)
theorem dX1_findRound_54 : decode cX1_findRound 54 = .ok (.invokevirtual 802, 3) := dk_182 3 34 (dk_at dksX1_findRound_2 8 rfl rfl)
theorem dX1_findRound_57 : decode cX1_findRound 57 = .ok (.iconst 1, 1) := dk_4 (dk_at dksX1_findRound_2 11 rfl rfl)
theorem dX1_findRound_58 : decode cX1_findRound 58 = .ok (.ireturn, 1) := dk_172 (dk_at dksX1_findRound_2 12 rfl rfl)
abbrev cX1_plot : ByteArray := prog_1_method_124_code
def yX1_plot : MethodName := ⟨RX1, "plot", "(I)V"⟩
def dkwX1_plot_9 : List UInt8 := [180, 0, 105, 28, 46, 42, 180, 1, 159, 182, 3, 0, 184, 1, 86, 96, 79, 132, 2, 1, 167, 255, 201, 177]
abbrev dktX1_plot_9 : List UInt8 := dkwX1_plot_9 ++ []
def dkwX1_plot_8 : List UInt8 := [16, 10, 42, 42, 180, 0, 105, 28, 46, 42, 180, 1, 159, 2, 182, 3, 9, 104, 16, 30, 42, 42]
abbrev dktX1_plot_8 : List UInt8 := dkwX1_plot_8 ++ dktX1_plot_9
def dkwX1_plot_7 : List UInt8 := [167, 255, 206, 132, 2, 1, 167, 255, 160, 3, 61, 28, 42, 180, 3, 13, 162, 0, 53, 42, 180, 0, 108, 28]
abbrev dktX1_plot_7 : List UInt8 := dkwX1_plot_7 ++ dktX1_plot_8
def dkwX1_plot_6 : List UInt8 := [167, 0, 17, 42, 180, 0, 30, 42, 180, 0, 105, 29, 46, 50, 180, 1, 52, 46, 79, 132, 3, 1]
abbrev dktX1_plot_6 : List UInt8 := dkwX1_plot_6 ++ dktX1_plot_7
def dkwX1_plot_5 : List UInt8 := [163, 0, 48, 42, 180, 0, 119, 28, 50, 29, 42, 180, 0, 24, 29, 42, 180, 3, 13, 160, 0, 7, 27]
abbrev dktX1_plot_5 : List UInt8 := dkwX1_plot_5 ++ dktX1_plot_6
def dkwX1_plot_4 : List UInt8 := [180, 0, 30, 42, 180, 0, 105, 28, 46, 50, 180, 1, 52, 182, 0, 192, 3, 62, 29, 42, 180, 3, 13]
abbrev dktX1_plot_4 : List UInt8 := dkwX1_plot_4 ++ dktX1_plot_5
def dkwX1_plot_3 : List UInt8 := [61, 28, 42, 180, 3, 13, 163, 0, 94, 42, 28, 42, 180, 3, 13, 160, 0, 7, 27, 167, 0, 17, 42]
abbrev dktX1_plot_3 : List UInt8 := dkwX1_plot_3 ++ dktX1_plot_4
def dkwX1_plot_2 : List UInt8 := [42, 180, 0, 105, 42, 89, 180, 3, 13, 90, 4, 96, 181, 3, 13, 28, 79, 132, 2, 1, 167, 255, 200, 3]
abbrev dktX1_plot_2 : List UInt8 := dkwX1_plot_2 ++ dktX1_plot_3
def dkwX1_plot_1 : List UInt8 := [16, 8, 162, 0, 45, 42, 180, 0, 24, 42, 180, 0, 30, 28, 50, 180, 1, 52, 46, 18, 188, 162, 0, 20]
abbrev dktX1_plot_1 : List UInt8 := dkwX1_plot_1 ++ dktX1_plot_2
def dkwX1_plot_0 : List UInt8 := [42, 27, 182, 0, 192, 42, 3, 181, 3, 13, 3, 61, 28, 42, 180, 0, 199, 162, 0, 54, 42, 180, 3, 13]
abbrev dktX1_plot_0 : List UInt8 := dkwX1_plot_0 ++ dktX1_plot_1
theorem dksX1_plot_0 : cX1_plot.data.toList.drop 0 = dktX1_plot_0 := by decide +kernel
theorem dksX1_plot_1 : cX1_plot.data.toList.drop 24 = dktX1_plot_1 := dk_seg dksX1_plot_0 24 rfl rfl
theorem dksX1_plot_2 : cX1_plot.data.toList.drop 48 = dktX1_plot_2 := dk_seg dksX1_plot_1 24 rfl rfl
theorem dksX1_plot_3 : cX1_plot.data.toList.drop 72 = dktX1_plot_3 := dk_seg dksX1_plot_2 24 rfl rfl
theorem dksX1_plot_4 : cX1_plot.data.toList.drop 95 = dktX1_plot_4 := dk_seg dksX1_plot_3 23 rfl rfl
theorem dksX1_plot_5 : cX1_plot.data.toList.drop 118 = dktX1_plot_5 := dk_seg dksX1_plot_4 23 rfl rfl
theorem dksX1_plot_6 : cX1_plot.data.toList.drop 141 = dktX1_plot_6 := dk_seg dksX1_plot_5 23 rfl rfl
theorem dksX1_plot_7 : cX1_plot.data.toList.drop 163 = dktX1_plot_7 := dk_seg dksX1_plot_6 22 rfl rfl
theorem dksX1_plot_8 : cX1_plot.data.toList.drop 187 = dktX1_plot_8 := dk_seg dksX1_plot_7 24 rfl rfl
theorem dksX1_plot_9 : cX1_plot.data.toList.drop 209 = dktX1_plot_9 := dk_seg dksX1_plot_8 22 rfl rfl
theorem dX1_plot_0 : decode cX1_plot 0 = .ok (.aload_n 0, 1) := dk_42 (dk_at dksX1_plot_0 0 rfl rfl)
theorem dX1_plot_1 : decode cX1_plot 1 = .ok (.iload_n 1, 1) := dk_27 (dk_at dksX1_plot_0 1 rfl rfl)
theorem dX1_plot_2 : decode cX1_plot 2 = .ok (.invokevirtual 192, 3) := dk_182 0 192 (dk_at dksX1_plot_0 2 rfl rfl)
theorem dX1_plot_5 : decode cX1_plot 5 = .ok (.aload_n 0, 1) := dk_42 (dk_at dksX1_plot_0 5 rfl rfl)
theorem dX1_plot_6 : decode cX1_plot 6 = .ok (.iconst 0, 1) := dk_3 (dk_at dksX1_plot_0 6 rfl rfl)
theorem dX1_plot_7 : decode cX1_plot 7 = .ok (.putfield 781, 3) := dk_181 3 13 (dk_at dksX1_plot_0 7 rfl rfl)
theorem dX1_plot_10 : decode cX1_plot 10 = .ok (.iconst 0, 1) := dk_3 (dk_at dksX1_plot_0 10 rfl rfl)
theorem dX1_plot_11 : decode cX1_plot 11 = .ok (.istore_n 2, 1) := dk_61 (dk_at dksX1_plot_0 11 rfl rfl)
theorem dX1_plot_12 : decode cX1_plot 12 = .ok (.iload_n 2, 1) := dk_28 (dk_at dksX1_plot_0 12 rfl rfl)
theorem dX1_plot_13 : decode cX1_plot 13 = .ok (.aload_n 0, 1) := dk_42 (dk_at dksX1_plot_0 13 rfl rfl)
theorem dX1_plot_14 : decode cX1_plot 14 = .ok (.getfield 199, 3) := dk_180 0 199 (dk_at dksX1_plot_0 14 rfl rfl)
theorem dX1_plot_17 : decode cX1_plot 17 = .ok (.if_icmp .ge 54, 3) := dk_162 0 54 (dk_at dksX1_plot_0 17 rfl rfl)
theorem dX1_plot_20 : decode cX1_plot 20 = .ok (.aload_n 0, 1) := dk_42 (dk_at dksX1_plot_0 20 rfl rfl)
theorem dX1_plot_21 : decode cX1_plot 21 = .ok (.getfield 781, 3) := dk_180 3 13 (dk_at dksX1_plot_0 21 rfl rfl)
theorem dX1_plot_24 : decode cX1_plot 24 = .ok (.bipush 8, 2) := dk_16 8 (dk_at dksX1_plot_1 0 rfl rfl)
theorem dX1_plot_26 : decode cX1_plot 26 = .ok (.if_icmp .ge 45, 3) := dk_162 0 45 (dk_at dksX1_plot_1 2 rfl rfl)
theorem dX1_plot_29 : decode cX1_plot 29 = .ok (.aload_n 0, 1) := dk_42 (dk_at dksX1_plot_1 5 rfl rfl)
theorem dX1_plot_30 : decode cX1_plot 30 = .ok (.getfield 24, 3) := dk_180 0 24 (dk_at dksX1_plot_1 6 rfl rfl)
theorem dX1_plot_33 : decode cX1_plot 33 = .ok (.aload_n 0, 1) := dk_42 (dk_at dksX1_plot_1 9 rfl rfl)
theorem dX1_plot_34 : decode cX1_plot 34 = .ok (.getfield 30, 3) := dk_180 0 30 (dk_at dksX1_plot_1 10 rfl rfl)
theorem dX1_plot_37 : decode cX1_plot 37 = .ok (.iload_n 2, 1) := dk_28 (dk_at dksX1_plot_1 13 rfl rfl)
theorem dX1_plot_38 : decode cX1_plot 38 = .ok (.aaload, 1) := dk_50 (dk_at dksX1_plot_1 14 rfl rfl)
theorem dX1_plot_39 : decode cX1_plot 39 = .ok (.getfield 308, 3) := dk_180 1 52 (dk_at dksX1_plot_1 15 rfl rfl)
theorem dX1_plot_42 : decode cX1_plot 42 = .ok (.iaload, 1) := dk_46 (dk_at dksX1_plot_1 18 rfl rfl)
theorem dX1_plot_43 : decode cX1_plot 43 = .ok (.ldc 188, 2) := dk_18 188 (dk_at dksX1_plot_1 19 rfl rfl)
theorem dX1_plot_45 : decode cX1_plot 45 = .ok (.if_icmp .ge 20, 3) := dk_162 0 20 (dk_at dksX1_plot_1 21 rfl rfl)
theorem dX1_plot_48 : decode cX1_plot 48 = .ok (.aload_n 0, 1) := dk_42 (dk_at dksX1_plot_2 0 rfl rfl)
theorem dX1_plot_49 : decode cX1_plot 49 = .ok (.getfield 105, 3) := dk_180 0 105 (dk_at dksX1_plot_2 1 rfl rfl)
theorem dX1_plot_52 : decode cX1_plot 52 = .ok (.aload_n 0, 1) := dk_42 (dk_at dksX1_plot_2 4 rfl rfl)
theorem dX1_plot_53 : decode cX1_plot 53 = .ok (.dup, 1) := dk_89 (dk_at dksX1_plot_2 5 rfl rfl)
theorem dX1_plot_54 : decode cX1_plot 54 = .ok (.getfield 781, 3) := dk_180 3 13 (dk_at dksX1_plot_2 6 rfl rfl)
theorem dX1_plot_57 : decode cX1_plot 57 = .ok (.dup_x1, 1) := dk_90 (dk_at dksX1_plot_2 9 rfl rfl)
theorem dX1_plot_58 : decode cX1_plot 58 = .ok (.iconst 1, 1) := dk_4 (dk_at dksX1_plot_2 10 rfl rfl)
theorem dX1_plot_59 : decode cX1_plot 59 = .ok (.iadd, 1) := dk_96 (dk_at dksX1_plot_2 11 rfl rfl)
theorem dX1_plot_60 : decode cX1_plot 60 = .ok (.putfield 781, 3) := dk_181 3 13 (dk_at dksX1_plot_2 12 rfl rfl)
theorem dX1_plot_63 : decode cX1_plot 63 = .ok (.iload_n 2, 1) := dk_28 (dk_at dksX1_plot_2 15 rfl rfl)
theorem dX1_plot_64 : decode cX1_plot 64 = .ok (.iastore, 1) := dk_79 (dk_at dksX1_plot_2 16 rfl rfl)
theorem dX1_plot_65 : decode cX1_plot 65 = .ok (.iinc 2 1, 3) := dk_132 2 1 (dk_at dksX1_plot_2 17 rfl rfl)
theorem dX1_plot_68 : decode cX1_plot 68 = .ok (.goto (-56), 3) := dk_167 255 200 (dk_at dksX1_plot_2 20 rfl rfl)
theorem dX1_plot_71 : decode cX1_plot 71 = .ok (.iconst 0, 1) := dk_3 (dk_at dksX1_plot_2 23 rfl rfl)
theorem dX1_plot_72 : decode cX1_plot 72 = .ok (.istore_n 2, 1) := dk_61 (dk_at dksX1_plot_3 0 rfl rfl)
theorem dX1_plot_73 : decode cX1_plot 73 = .ok (.iload_n 2, 1) := dk_28 (dk_at dksX1_plot_3 1 rfl rfl)
theorem dX1_plot_74 : decode cX1_plot 74 = .ok (.aload_n 0, 1) := dk_42 (dk_at dksX1_plot_3 2 rfl rfl)
theorem dX1_plot_75 : decode cX1_plot 75 = .ok (.getfield 781, 3) := dk_180 3 13 (dk_at dksX1_plot_3 3 rfl rfl)
theorem dX1_plot_78 : decode cX1_plot 78 = .ok (.if_icmp .gt 94, 3) := dk_163 0 94 (dk_at dksX1_plot_3 6 rfl rfl)
theorem dX1_plot_81 : decode cX1_plot 81 = .ok (.aload_n 0, 1) := dk_42 (dk_at dksX1_plot_3 9 rfl rfl)
theorem dX1_plot_82 : decode cX1_plot 82 = .ok (.iload_n 2, 1) := dk_28 (dk_at dksX1_plot_3 10 rfl rfl)
theorem dX1_plot_83 : decode cX1_plot 83 = .ok (.aload_n 0, 1) := dk_42 (dk_at dksX1_plot_3 11 rfl rfl)
theorem dX1_plot_84 : decode cX1_plot 84 = .ok (.getfield 781, 3) := dk_180 3 13 (dk_at dksX1_plot_3 12 rfl rfl)
theorem dX1_plot_87 : decode cX1_plot 87 = .ok (.if_icmp .ne 7, 3) := dk_160 0 7 (dk_at dksX1_plot_3 15 rfl rfl)
theorem dX1_plot_90 : decode cX1_plot 90 = .ok (.iload_n 1, 1) := dk_27 (dk_at dksX1_plot_3 18 rfl rfl)
theorem dX1_plot_91 : decode cX1_plot 91 = .ok (.goto 17, 3) := dk_167 0 17 (dk_at dksX1_plot_3 19 rfl rfl)
theorem dX1_plot_94 : decode cX1_plot 94 = .ok (.aload_n 0, 1) := dk_42 (dk_at dksX1_plot_3 22 rfl rfl)
theorem dX1_plot_95 : decode cX1_plot 95 = .ok (.getfield 30, 3) := dk_180 0 30 (dk_at dksX1_plot_4 0 rfl rfl)
theorem dX1_plot_98 : decode cX1_plot 98 = .ok (.aload_n 0, 1) := dk_42 (dk_at dksX1_plot_4 3 rfl rfl)
theorem dX1_plot_99 : decode cX1_plot 99 = .ok (.getfield 105, 3) := dk_180 0 105 (dk_at dksX1_plot_4 4 rfl rfl)
theorem dX1_plot_102 : decode cX1_plot 102 = .ok (.iload_n 2, 1) := dk_28 (dk_at dksX1_plot_4 7 rfl rfl)
theorem dX1_plot_103 : decode cX1_plot 103 = .ok (.iaload, 1) := dk_46 (dk_at dksX1_plot_4 8 rfl rfl)
theorem dX1_plot_104 : decode cX1_plot 104 = .ok (.aaload, 1) := dk_50 (dk_at dksX1_plot_4 9 rfl rfl)
theorem dX1_plot_105 : decode cX1_plot 105 = .ok (.getfield 308, 3) := dk_180 1 52 (dk_at dksX1_plot_4 10 rfl rfl)
theorem dX1_plot_108 : decode cX1_plot 108 = .ok (.invokevirtual 192, 3) := dk_182 0 192 (dk_at dksX1_plot_4 13 rfl rfl)
theorem dX1_plot_111 : decode cX1_plot 111 = .ok (.iconst 0, 1) := dk_3 (dk_at dksX1_plot_4 16 rfl rfl)
theorem dX1_plot_112 : decode cX1_plot 112 = .ok (.istore_n 3, 1) := dk_62 (dk_at dksX1_plot_4 17 rfl rfl)
theorem dX1_plot_113 : decode cX1_plot 113 = .ok (.iload_n 3, 1) := dk_29 (dk_at dksX1_plot_4 18 rfl rfl)
theorem dX1_plot_114 : decode cX1_plot 114 = .ok (.aload_n 0, 1) := dk_42 (dk_at dksX1_plot_4 19 rfl rfl)
theorem dX1_plot_115 : decode cX1_plot 115 = .ok (.getfield 781, 3) := dk_180 3 13 (dk_at dksX1_plot_4 20 rfl rfl)
theorem dX1_plot_118 : decode cX1_plot 118 = .ok (.if_icmp .gt 48, 3) := dk_163 0 48 (dk_at dksX1_plot_5 0 rfl rfl)
theorem dX1_plot_121 : decode cX1_plot 121 = .ok (.aload_n 0, 1) := dk_42 (dk_at dksX1_plot_5 3 rfl rfl)
theorem dX1_plot_122 : decode cX1_plot 122 = .ok (.getfield 119, 3) := dk_180 0 119 (dk_at dksX1_plot_5 4 rfl rfl)
theorem dX1_plot_125 : decode cX1_plot 125 = .ok (.iload_n 2, 1) := dk_28 (dk_at dksX1_plot_5 7 rfl rfl)
theorem dX1_plot_126 : decode cX1_plot 126 = .ok (.aaload, 1) := dk_50 (dk_at dksX1_plot_5 8 rfl rfl)
theorem dX1_plot_127 : decode cX1_plot 127 = .ok (.iload_n 3, 1) := dk_29 (dk_at dksX1_plot_5 9 rfl rfl)
theorem dX1_plot_128 : decode cX1_plot 128 = .ok (.aload_n 0, 1) := dk_42 (dk_at dksX1_plot_5 10 rfl rfl)
theorem dX1_plot_129 : decode cX1_plot 129 = .ok (.getfield 24, 3) := dk_180 0 24 (dk_at dksX1_plot_5 11 rfl rfl)
theorem dX1_plot_132 : decode cX1_plot 132 = .ok (.iload_n 3, 1) := dk_29 (dk_at dksX1_plot_5 14 rfl rfl)
theorem dX1_plot_133 : decode cX1_plot 133 = .ok (.aload_n 0, 1) := dk_42 (dk_at dksX1_plot_5 15 rfl rfl)
theorem dX1_plot_134 : decode cX1_plot 134 = .ok (.getfield 781, 3) := dk_180 3 13 (dk_at dksX1_plot_5 16 rfl rfl)
theorem dX1_plot_137 : decode cX1_plot 137 = .ok (.if_icmp .ne 7, 3) := dk_160 0 7 (dk_at dksX1_plot_5 19 rfl rfl)
theorem dX1_plot_140 : decode cX1_plot 140 = .ok (.iload_n 1, 1) := dk_27 (dk_at dksX1_plot_5 22 rfl rfl)
theorem dX1_plot_141 : decode cX1_plot 141 = .ok (.goto 17, 3) := dk_167 0 17 (dk_at dksX1_plot_6 0 rfl rfl)
theorem dX1_plot_144 : decode cX1_plot 144 = .ok (.aload_n 0, 1) := dk_42 (dk_at dksX1_plot_6 3 rfl rfl)
theorem dX1_plot_145 : decode cX1_plot 145 = .ok (.getfield 30, 3) := dk_180 0 30 (dk_at dksX1_plot_6 4 rfl rfl)
theorem dX1_plot_148 : decode cX1_plot 148 = .ok (.aload_n 0, 1) := dk_42 (dk_at dksX1_plot_6 7 rfl rfl)
theorem dX1_plot_149 : decode cX1_plot 149 = .ok (.getfield 105, 3) := dk_180 0 105 (dk_at dksX1_plot_6 8 rfl rfl)
theorem dX1_plot_152 : decode cX1_plot 152 = .ok (.iload_n 3, 1) := dk_29 (dk_at dksX1_plot_6 11 rfl rfl)
theorem dX1_plot_153 : decode cX1_plot 153 = .ok (.iaload, 1) := dk_46 (dk_at dksX1_plot_6 12 rfl rfl)
theorem dX1_plot_154 : decode cX1_plot 154 = .ok (.aaload, 1) := dk_50 (dk_at dksX1_plot_6 13 rfl rfl)
theorem dX1_plot_155 : decode cX1_plot 155 = .ok (.getfield 308, 3) := dk_180 1 52 (dk_at dksX1_plot_6 14 rfl rfl)
theorem dX1_plot_158 : decode cX1_plot 158 = .ok (.iaload, 1) := dk_46 (dk_at dksX1_plot_6 17 rfl rfl)
theorem dX1_plot_159 : decode cX1_plot 159 = .ok (.iastore, 1) := dk_79 (dk_at dksX1_plot_6 18 rfl rfl)
theorem dX1_plot_160 : decode cX1_plot 160 = .ok (.iinc 3 1, 3) := dk_132 3 1 (dk_at dksX1_plot_6 19 rfl rfl)
theorem dX1_plot_163 : decode cX1_plot 163 = .ok (.goto (-50), 3) := dk_167 255 206 (dk_at dksX1_plot_7 0 rfl rfl)
theorem dX1_plot_166 : decode cX1_plot 166 = .ok (.iinc 2 1, 3) := dk_132 2 1 (dk_at dksX1_plot_7 3 rfl rfl)
theorem dX1_plot_169 : decode cX1_plot 169 = .ok (.goto (-96), 3) := dk_167 255 160 (dk_at dksX1_plot_7 6 rfl rfl)
theorem dX1_plot_172 : decode cX1_plot 172 = .ok (.iconst 0, 1) := dk_3 (dk_at dksX1_plot_7 9 rfl rfl)
theorem dX1_plot_173 : decode cX1_plot 173 = .ok (.istore_n 2, 1) := dk_61 (dk_at dksX1_plot_7 10 rfl rfl)
theorem dX1_plot_174 : decode cX1_plot 174 = .ok (.iload_n 2, 1) := dk_28 (dk_at dksX1_plot_7 11 rfl rfl)
theorem dX1_plot_175 : decode cX1_plot 175 = .ok (.aload_n 0, 1) := dk_42 (dk_at dksX1_plot_7 12 rfl rfl)
theorem dX1_plot_176 : decode cX1_plot 176 = .ok (.getfield 781, 3) := dk_180 3 13 (dk_at dksX1_plot_7 13 rfl rfl)
theorem dX1_plot_179 : decode cX1_plot 179 = .ok (.if_icmp .ge 53, 3) := dk_162 0 53 (dk_at dksX1_plot_7 16 rfl rfl)
theorem dX1_plot_182 : decode cX1_plot 182 = .ok (.aload_n 0, 1) := dk_42 (dk_at dksX1_plot_7 19 rfl rfl)
theorem dX1_plot_183 : decode cX1_plot 183 = .ok (.getfield 108, 3) := dk_180 0 108 (dk_at dksX1_plot_7 20 rfl rfl)
theorem dX1_plot_186 : decode cX1_plot 186 = .ok (.iload_n 2, 1) := dk_28 (dk_at dksX1_plot_7 23 rfl rfl)
theorem dX1_plot_187 : decode cX1_plot 187 = .ok (.bipush 10, 2) := dk_16 10 (dk_at dksX1_plot_8 0 rfl rfl)
theorem dX1_plot_189 : decode cX1_plot 189 = .ok (.aload_n 0, 1) := dk_42 (dk_at dksX1_plot_8 2 rfl rfl)
theorem dX1_plot_190 : decode cX1_plot 190 = .ok (.aload_n 0, 1) := dk_42 (dk_at dksX1_plot_8 3 rfl rfl)
theorem dX1_plot_191 : decode cX1_plot 191 = .ok (.getfield 105, 3) := dk_180 0 105 (dk_at dksX1_plot_8 4 rfl rfl)
theorem dX1_plot_194 : decode cX1_plot 194 = .ok (.iload_n 2, 1) := dk_28 (dk_at dksX1_plot_8 7 rfl rfl)
theorem dX1_plot_195 : decode cX1_plot 195 = .ok (.iaload, 1) := dk_46 (dk_at dksX1_plot_8 8 rfl rfl)
theorem dX1_plot_196 : decode cX1_plot 196 = .ok (.aload_n 0, 1) := dk_42 (dk_at dksX1_plot_8 9 rfl rfl)
theorem dX1_plot_197 : decode cX1_plot 197 = .ok (.getfield 415, 3) := dk_180 1 159 (dk_at dksX1_plot_8 10 rfl rfl)
theorem dX1_plot_200 : decode cX1_plot 200 = .ok (.iconst (-1), 1) := dk_2 (dk_at dksX1_plot_8 13 rfl rfl)
theorem dX1_plot_201 : decode cX1_plot 201 = .ok (.invokevirtual 777, 3) := dk_182 3 9 (dk_at dksX1_plot_8 14 rfl rfl)
theorem dX1_plot_204 : decode cX1_plot 204 = .ok (.imul, 1) := dk_104 (dk_at dksX1_plot_8 17 rfl rfl)
theorem dX1_plot_205 : decode cX1_plot 205 = .ok (.bipush 30, 2) := dk_16 30 (dk_at dksX1_plot_8 18 rfl rfl)
theorem dX1_plot_207 : decode cX1_plot 207 = .ok (.aload_n 0, 1) := dk_42 (dk_at dksX1_plot_8 20 rfl rfl)
theorem dX1_plot_208 : decode cX1_plot 208 = .ok (.aload_n 0, 1) := dk_42 (dk_at dksX1_plot_8 21 rfl rfl)
theorem dX1_plot_209 : decode cX1_plot 209 = .ok (.getfield 105, 3) := dk_180 0 105 (dk_at dksX1_plot_9 0 rfl rfl)
theorem dX1_plot_212 : decode cX1_plot 212 = .ok (.iload_n 2, 1) := dk_28 (dk_at dksX1_plot_9 3 rfl rfl)
theorem dX1_plot_213 : decode cX1_plot 213 = .ok (.iaload, 1) := dk_46 (dk_at dksX1_plot_9 4 rfl rfl)
theorem dX1_plot_214 : decode cX1_plot 214 = .ok (.aload_n 0, 1) := dk_42 (dk_at dksX1_plot_9 5 rfl rfl)
theorem dX1_plot_215 : decode cX1_plot 215 = .ok (.getfield 415, 3) := dk_180 1 159 (dk_at dksX1_plot_9 6 rfl rfl)
theorem dX1_plot_218 : decode cX1_plot 218 = .ok (.invokevirtual 768, 3) := dk_182 3 0 (dk_at dksX1_plot_9 9 rfl rfl)
theorem dX1_plot_221 : decode cX1_plot 221 = .ok (.invokestatic 342, 3) := dk_184 1 86 (dk_at dksX1_plot_9 12 rfl rfl)
theorem dX1_plot_224 : decode cX1_plot 224 = .ok (.iadd, 1) := dk_96 (dk_at dksX1_plot_9 15 rfl rfl)
theorem dX1_plot_225 : decode cX1_plot 225 = .ok (.iastore, 1) := dk_79 (dk_at dksX1_plot_9 16 rfl rfl)
theorem dX1_plot_226 : decode cX1_plot 226 = .ok (.iinc 2 1, 3) := dk_132 2 1 (dk_at dksX1_plot_9 17 rfl rfl)
theorem dX1_plot_229 : decode cX1_plot 229 = .ok (.goto (-55), 3) := dk_167 255 201 (dk_at dksX1_plot_9 20 rfl rfl)
theorem dX1_plot_232 : decode cX1_plot 232 = .ok (.return_, 1) := dk_177 (dk_at dksX1_plot_9 23 rfl rfl)
abbrev cX1_go : ByteArray := prog_1_method_125_code
def yX1_go : MethodName := ⟨RX1, "go", "(IIIII)V"⟩
def dkwX1_go_8 : List UInt8 := [100, 181, 3, 22, 132, 7, 1, 167, 255, 151, 177]
abbrev dktX1_go_8 : List UInt8 := dkwX1_go_8 ++ []
def dkwX1_go_7 : List UInt8 := [128, 21, 8, 21, 4, 42, 180, 0, 108, 21, 7, 46, 96, 21, 5, 182, 3, 34, 42, 89, 180, 3, 22, 4]
abbrev dktX1_go_7 : List UInt8 := dkwX1_go_7 ++ dktX1_go_8
def dkwX1_go_6 : List UInt8 := [180, 3, 22, 21, 7, 79, 42, 89, 180, 3, 22, 4, 96, 181, 3, 22, 42, 21, 7, 28, 4, 21, 7, 120]
abbrev dktX1_go_6 : List UInt8 := dkwX1_go_6 ++ dktX1_go_7
def dkwX1_go_5 : List UInt8 := [21, 7, 122, 4, 126, 4, 159, 0, 70, 21, 8, 21, 5, 164, 0, 6, 167, 0, 60, 42, 180, 0, 111, 42]
abbrev dktX1_go_5 : List UInt8 := dkwX1_go_5 ++ dktX1_go_6
def dkwX1_go_4 : List UInt8 := [180, 3, 13, 162, 0, 102, 29, 42, 180, 0, 119, 27, 50, 21, 7, 46, 96, 16, 10, 96, 54, 8, 28]
abbrev dktX1_go_4 : List UInt8 := dkwX1_go_4 ++ dktX1_go_5
def dkwX1_go_3 : List UInt8 := [180, 0, 111, 3, 42, 180, 0, 114, 3, 42, 180, 3, 22, 184, 3, 28, 3, 54, 7, 21, 7, 42]
abbrev dktX1_go_3 : List UInt8 := dkwX1_go_3 ++ dktX1_go_4
def dkwX1_go_2 : List UInt8 := [162, 0, 40, 42, 21, 4, 181, 3, 16, 42, 21, 6, 181, 3, 19, 42, 42, 180, 3, 22, 181, 3, 25, 42]
abbrev dktX1_go_2 : List UInt8 := dkwX1_go_2 ++ dktX1_go_3
def dkwX1_go_1 : List UInt8 := [42, 180, 3, 16, 163, 0, 21, 21, 4, 42, 180, 3, 16, 160, 0, 49, 21, 6, 42, 180, 3, 19]
abbrev dktX1_go_1 : List UInt8 := dkwX1_go_1 ++ dktX1_go_2
def dkwX1_go_0 : List UInt8 := [29, 42, 180, 0, 119, 27, 50, 42, 180, 3, 13, 46, 96, 54, 6, 21, 6, 21, 5, 163, 0, 67, 21, 4]
abbrev dktX1_go_0 : List UInt8 := dkwX1_go_0 ++ dktX1_go_1
theorem dksX1_go_0 : cX1_go.data.toList.drop 0 = dktX1_go_0 := by decide +kernel
theorem dksX1_go_1 : cX1_go.data.toList.drop 24 = dktX1_go_1 := dk_seg dksX1_go_0 24 rfl rfl
theorem dksX1_go_2 : cX1_go.data.toList.drop 46 = dktX1_go_2 := dk_seg dksX1_go_1 22 rfl rfl
theorem dksX1_go_3 : cX1_go.data.toList.drop 70 = dktX1_go_3 := dk_seg dksX1_go_2 24 rfl rfl
theorem dksX1_go_4 : cX1_go.data.toList.drop 92 = dktX1_go_4 := dk_seg dksX1_go_3 22 rfl rfl
theorem dksX1_go_5 : cX1_go.data.toList.drop 115 = dktX1_go_5 := dk_seg dksX1_go_4 23 rfl rfl
theorem dksX1_go_6 : cX1_go.data.toList.drop 139 = dktX1_go_6 := dk_seg dksX1_go_5 24 rfl rfl
theorem dksX1_go_7 : cX1_go.data.toList.drop 163 = dktX1_go_7 := dk_seg dksX1_go_6 24 rfl rfl
theorem dksX1_go_8 : cX1_go.data.toList.drop 187 = dktX1_go_8 := dk_seg dksX1_go_7 24 rfl rfl
theorem dX1_go_0 : decode cX1_go 0 = .ok (.iload_n 3, 1) := dk_29 (dk_at dksX1_go_0 0 rfl rfl)
theorem dX1_go_1 : decode cX1_go 1 = .ok (.aload_n 0, 1) := dk_42 (dk_at dksX1_go_0 1 rfl rfl)
theorem dX1_go_2 : decode cX1_go 2 = .ok (.getfield 119, 3) := dk_180 0 119 (dk_at dksX1_go_0 2 rfl rfl)
theorem dX1_go_5 : decode cX1_go 5 = .ok (.iload_n 1, 1) := dk_27 (dk_at dksX1_go_0 5 rfl rfl)
theorem dX1_go_6 : decode cX1_go 6 = .ok (.aaload, 1) := dk_50 (dk_at dksX1_go_0 6 rfl rfl)
theorem dX1_go_7 : decode cX1_go 7 = .ok (.aload_n 0, 1) := dk_42 (dk_at dksX1_go_0 7 rfl rfl)
theorem dX1_go_8 : decode cX1_go 8 = .ok (.getfield 781, 3) := dk_180 3 13 (dk_at dksX1_go_0 8 rfl rfl)
theorem dX1_go_11 : decode cX1_go 11 = .ok (.iaload, 1) := dk_46 (dk_at dksX1_go_0 11 rfl rfl)
theorem dX1_go_12 : decode cX1_go 12 = .ok (.iadd, 1) := dk_96 (dk_at dksX1_go_0 12 rfl rfl)
theorem dX1_go_13 : decode cX1_go 13 = .ok (.istore 6, 2) := dk_54 6 (dk_at dksX1_go_0 13 rfl rfl)
theorem dX1_go_15 : decode cX1_go 15 = .ok (.iload 6, 2) := dk_21 6 (dk_at dksX1_go_0 15 rfl rfl)
theorem dX1_go_17 : decode cX1_go 17 = .ok (.iload 5, 2) := dk_21 5 (dk_at dksX1_go_0 17 rfl rfl)
theorem dX1_go_19 : decode cX1_go 19 = .ok (.if_icmp .gt 67, 3) := dk_163 0 67 (dk_at dksX1_go_0 19 rfl rfl)
theorem dX1_go_22 : decode cX1_go 22 = .ok (.iload 4, 2) := dk_21 4 (dk_at dksX1_go_0 22 rfl rfl)
theorem dX1_go_24 : decode cX1_go 24 = .ok (.aload_n 0, 1) := dk_42 (dk_at dksX1_go_1 0 rfl rfl)
theorem dX1_go_25 : decode cX1_go 25 = .ok (.getfield 784, 3) := dk_180 3 16 (dk_at dksX1_go_1 1 rfl rfl)
theorem dX1_go_28 : decode cX1_go 28 = .ok (.if_icmp .gt 21, 3) := dk_163 0 21 (dk_at dksX1_go_1 4 rfl rfl)
theorem dX1_go_31 : decode cX1_go 31 = .ok (.iload 4, 2) := dk_21 4 (dk_at dksX1_go_1 7 rfl rfl)
theorem dX1_go_33 : decode cX1_go 33 = .ok (.aload_n 0, 1) := dk_42 (dk_at dksX1_go_1 9 rfl rfl)
theorem dX1_go_34 : decode cX1_go 34 = .ok (.getfield 784, 3) := dk_180 3 16 (dk_at dksX1_go_1 10 rfl rfl)
theorem dX1_go_37 : decode cX1_go 37 = .ok (.if_icmp .ne 49, 3) := dk_160 0 49 (dk_at dksX1_go_1 13 rfl rfl)
theorem dX1_go_40 : decode cX1_go 40 = .ok (.iload 6, 2) := dk_21 6 (dk_at dksX1_go_1 16 rfl rfl)
theorem dX1_go_42 : decode cX1_go 42 = .ok (.aload_n 0, 1) := dk_42 (dk_at dksX1_go_1 18 rfl rfl)
theorem dX1_go_43 : decode cX1_go 43 = .ok (.getfield 787, 3) := dk_180 3 19 (dk_at dksX1_go_1 19 rfl rfl)
theorem dX1_go_46 : decode cX1_go 46 = .ok (.if_icmp .ge 40, 3) := dk_162 0 40 (dk_at dksX1_go_2 0 rfl rfl)
theorem dX1_go_49 : decode cX1_go 49 = .ok (.aload_n 0, 1) := dk_42 (dk_at dksX1_go_2 3 rfl rfl)
theorem dX1_go_50 : decode cX1_go 50 = .ok (.iload 4, 2) := dk_21 4 (dk_at dksX1_go_2 4 rfl rfl)
theorem dX1_go_52 : decode cX1_go 52 = .ok (.putfield 784, 3) := dk_181 3 16 (dk_at dksX1_go_2 6 rfl rfl)
theorem dX1_go_55 : decode cX1_go 55 = .ok (.aload_n 0, 1) := dk_42 (dk_at dksX1_go_2 9 rfl rfl)
theorem dX1_go_56 : decode cX1_go 56 = .ok (.iload 6, 2) := dk_21 6 (dk_at dksX1_go_2 10 rfl rfl)
theorem dX1_go_58 : decode cX1_go 58 = .ok (.putfield 787, 3) := dk_181 3 19 (dk_at dksX1_go_2 12 rfl rfl)
theorem dX1_go_61 : decode cX1_go 61 = .ok (.aload_n 0, 1) := dk_42 (dk_at dksX1_go_2 15 rfl rfl)
theorem dX1_go_62 : decode cX1_go 62 = .ok (.aload_n 0, 1) := dk_42 (dk_at dksX1_go_2 16 rfl rfl)
theorem dX1_go_63 : decode cX1_go 63 = .ok (.getfield 790, 3) := dk_180 3 22 (dk_at dksX1_go_2 17 rfl rfl)
theorem dX1_go_66 : decode cX1_go 66 = .ok (.putfield 793, 3) := dk_181 3 25 (dk_at dksX1_go_2 20 rfl rfl)
theorem dX1_go_69 : decode cX1_go 69 = .ok (.aload_n 0, 1) := dk_42 (dk_at dksX1_go_2 23 rfl rfl)
theorem dX1_go_70 : decode cX1_go 70 = .ok (.getfield 111, 3) := dk_180 0 111 (dk_at dksX1_go_3 0 rfl rfl)
theorem dX1_go_73 : decode cX1_go 73 = .ok (.iconst 0, 1) := dk_3 (dk_at dksX1_go_3 3 rfl rfl)
theorem dX1_go_74 : decode cX1_go 74 = .ok (.aload_n 0, 1) := dk_42 (dk_at dksX1_go_3 4 rfl rfl)
theorem dX1_go_75 : decode cX1_go 75 = .ok (.getfield 114, 3) := dk_180 0 114 (dk_at dksX1_go_3 5 rfl rfl)
theorem dX1_go_78 : decode cX1_go 78 = .ok (.iconst 0, 1) := dk_3 (dk_at dksX1_go_3 8 rfl rfl)
theorem dX1_go_79 : decode cX1_go 79 = .ok (.aload_n 0, 1) := dk_42 (dk_at dksX1_go_3 9 rfl rfl)
theorem dX1_go_80 : decode cX1_go 80 = .ok (.getfield 790, 3) := dk_180 3 22 (dk_at dksX1_go_3 10 rfl rfl)
theorem dX1_go_83 : decode cX1_go 83 = .ok (.invokestatic 796, 3) := dk_184 3 28 (dk_at dksX1_go_3 13 rfl rfl)
theorem dX1_go_86 : decode cX1_go 86 = .ok (.iconst 0, 1) := dk_3 (dk_at dksX1_go_3 16 rfl rfl)
theorem dX1_go_87 : decode cX1_go 87 = .ok (.istore 7, 2) := dk_54 7 (dk_at dksX1_go_3 17 rfl rfl)
theorem dX1_go_89 : decode cX1_go 89 = .ok (.iload 7, 2) := dk_21 7 (dk_at dksX1_go_3 19 rfl rfl)
theorem dX1_go_91 : decode cX1_go 91 = .ok (.aload_n 0, 1) := dk_42 (dk_at dksX1_go_3 21 rfl rfl)
theorem dX1_go_92 : decode cX1_go 92 = .ok (.getfield 781, 3) := dk_180 3 13 (dk_at dksX1_go_4 0 rfl rfl)
theorem dX1_go_95 : decode cX1_go 95 = .ok (.if_icmp .ge 102, 3) := dk_162 0 102 (dk_at dksX1_go_4 3 rfl rfl)
theorem dX1_go_98 : decode cX1_go 98 = .ok (.iload_n 3, 1) := dk_29 (dk_at dksX1_go_4 6 rfl rfl)
theorem dX1_go_99 : decode cX1_go 99 = .ok (.aload_n 0, 1) := dk_42 (dk_at dksX1_go_4 7 rfl rfl)
theorem dX1_go_100 : decode cX1_go 100 = .ok (.getfield 119, 3) := dk_180 0 119 (dk_at dksX1_go_4 8 rfl rfl)
theorem dX1_go_103 : decode cX1_go 103 = .ok (.iload_n 1, 1) := dk_27 (dk_at dksX1_go_4 11 rfl rfl)
theorem dX1_go_104 : decode cX1_go 104 = .ok (.aaload, 1) := dk_50 (dk_at dksX1_go_4 12 rfl rfl)
theorem dX1_go_105 : decode cX1_go 105 = .ok (.iload 7, 2) := dk_21 7 (dk_at dksX1_go_4 13 rfl rfl)
theorem dX1_go_107 : decode cX1_go 107 = .ok (.iaload, 1) := dk_46 (dk_at dksX1_go_4 15 rfl rfl)
theorem dX1_go_108 : decode cX1_go 108 = .ok (.iadd, 1) := dk_96 (dk_at dksX1_go_4 16 rfl rfl)
theorem dX1_go_109 : decode cX1_go 109 = .ok (.bipush 10, 2) := dk_16 10 (dk_at dksX1_go_4 17 rfl rfl)
theorem dX1_go_111 : decode cX1_go 111 = .ok (.iadd, 1) := dk_96 (dk_at dksX1_go_4 19 rfl rfl)
theorem dX1_go_112 : decode cX1_go 112 = .ok (.istore 8, 2) := dk_54 8 (dk_at dksX1_go_4 20 rfl rfl)
theorem dX1_go_114 : decode cX1_go 114 = .ok (.iload_n 2, 1) := dk_28 (dk_at dksX1_go_4 22 rfl rfl)
theorem dX1_go_115 : decode cX1_go 115 = .ok (.iload 7, 2) := dk_21 7 (dk_at dksX1_go_5 0 rfl rfl)
theorem dX1_go_117 : decode cX1_go 117 = .ok (.ishr, 1) := dk_122 (dk_at dksX1_go_5 2 rfl rfl)
theorem dX1_go_118 : decode cX1_go 118 = .ok (.iconst 1, 1) := dk_4 (dk_at dksX1_go_5 3 rfl rfl)
theorem dX1_go_119 : decode cX1_go 119 = .ok (.iand, 1) := dk_126 (dk_at dksX1_go_5 4 rfl rfl)
theorem dX1_go_120 : decode cX1_go 120 = .ok (.iconst 1, 1) := dk_4 (dk_at dksX1_go_5 5 rfl rfl)
theorem dX1_go_121 : decode cX1_go 121 = .ok (.if_icmp .eq 70, 3) := dk_159 0 70 (dk_at dksX1_go_5 6 rfl rfl)
theorem dX1_go_124 : decode cX1_go 124 = .ok (.iload 8, 2) := dk_21 8 (dk_at dksX1_go_5 9 rfl rfl)
theorem dX1_go_126 : decode cX1_go 126 = .ok (.iload 5, 2) := dk_21 5 (dk_at dksX1_go_5 11 rfl rfl)
theorem dX1_go_128 : decode cX1_go 128 = .ok (.if_icmp .le 6, 3) := dk_164 0 6 (dk_at dksX1_go_5 13 rfl rfl)
theorem dX1_go_131 : decode cX1_go 131 = .ok (.goto 60, 3) := dk_167 0 60 (dk_at dksX1_go_5 16 rfl rfl)
theorem dX1_go_134 : decode cX1_go 134 = .ok (.aload_n 0, 1) := dk_42 (dk_at dksX1_go_5 19 rfl rfl)
theorem dX1_go_135 : decode cX1_go 135 = .ok (.getfield 111, 3) := dk_180 0 111 (dk_at dksX1_go_5 20 rfl rfl)
theorem dX1_go_138 : decode cX1_go 138 = .ok (.aload_n 0, 1) := dk_42 (dk_at dksX1_go_5 23 rfl rfl)
theorem dX1_go_139 : decode cX1_go 139 = .ok (.getfield 790, 3) := dk_180 3 22 (dk_at dksX1_go_6 0 rfl rfl)
theorem dX1_go_142 : decode cX1_go 142 = .ok (.iload 7, 2) := dk_21 7 (dk_at dksX1_go_6 3 rfl rfl)
theorem dX1_go_144 : decode cX1_go 144 = .ok (.iastore, 1) := dk_79 (dk_at dksX1_go_6 5 rfl rfl)
theorem dX1_go_145 : decode cX1_go 145 = .ok (.aload_n 0, 1) := dk_42 (dk_at dksX1_go_6 6 rfl rfl)
theorem dX1_go_146 : decode cX1_go 146 = .ok (.dup, 1) := dk_89 (dk_at dksX1_go_6 7 rfl rfl)
theorem dX1_go_147 : decode cX1_go 147 = .ok (.getfield 790, 3) := dk_180 3 22 (dk_at dksX1_go_6 8 rfl rfl)
theorem dX1_go_150 : decode cX1_go 150 = .ok (.iconst 1, 1) := dk_4 (dk_at dksX1_go_6 11 rfl rfl)
theorem dX1_go_151 : decode cX1_go 151 = .ok (.iadd, 1) := dk_96 (dk_at dksX1_go_6 12 rfl rfl)
theorem dX1_go_152 : decode cX1_go 152 = .ok (.putfield 790, 3) := dk_181 3 22 (dk_at dksX1_go_6 13 rfl rfl)
theorem dX1_go_155 : decode cX1_go 155 = .ok (.aload_n 0, 1) := dk_42 (dk_at dksX1_go_6 16 rfl rfl)
theorem dX1_go_156 : decode cX1_go 156 = .ok (.iload 7, 2) := dk_21 7 (dk_at dksX1_go_6 17 rfl rfl)
theorem dX1_go_158 : decode cX1_go 158 = .ok (.iload_n 2, 1) := dk_28 (dk_at dksX1_go_6 19 rfl rfl)
theorem dX1_go_159 : decode cX1_go 159 = .ok (.iconst 1, 1) := dk_4 (dk_at dksX1_go_6 20 rfl rfl)
theorem dX1_go_160 : decode cX1_go 160 = .ok (.iload 7, 2) := dk_21 7 (dk_at dksX1_go_6 21 rfl rfl)
theorem dX1_go_162 : decode cX1_go 162 = .ok (.ishl, 1) := dk_120 (dk_at dksX1_go_6 23 rfl rfl)
theorem dX1_go_163 : decode cX1_go 163 = .ok (.ior, 1) := dk_128 (dk_at dksX1_go_7 0 rfl rfl)
theorem dX1_go_164 : decode cX1_go 164 = .ok (.iload 8, 2) := dk_21 8 (dk_at dksX1_go_7 1 rfl rfl)
theorem dX1_go_166 : decode cX1_go 166 = .ok (.iload 4, 2) := dk_21 4 (dk_at dksX1_go_7 3 rfl rfl)
theorem dX1_go_168 : decode cX1_go 168 = .ok (.aload_n 0, 1) := dk_42 (dk_at dksX1_go_7 5 rfl rfl)
theorem dX1_go_169 : decode cX1_go 169 = .ok (.getfield 108, 3) := dk_180 0 108 (dk_at dksX1_go_7 6 rfl rfl)
theorem dX1_go_172 : decode cX1_go 172 = .ok (.iload 7, 2) := dk_21 7 (dk_at dksX1_go_7 9 rfl rfl)
theorem dX1_go_174 : decode cX1_go 174 = .ok (.iaload, 1) := dk_46 (dk_at dksX1_go_7 11 rfl rfl)
theorem dX1_go_175 : decode cX1_go 175 = .ok (.iadd, 1) := dk_96 (dk_at dksX1_go_7 12 rfl rfl)
theorem dX1_go_176 : decode cX1_go 176 = .ok (.iload 5, 2) := dk_21 5 (dk_at dksX1_go_7 13 rfl rfl)
theorem dX1_go_178 : decode cX1_go 178 = .ok (.invokevirtual 802, 3) := dk_182 3 34 (dk_at dksX1_go_7 15 rfl rfl)
theorem dX1_go_181 : decode cX1_go 181 = .ok (.aload_n 0, 1) := dk_42 (dk_at dksX1_go_7 18 rfl rfl)
theorem dX1_go_182 : decode cX1_go 182 = .ok (.dup, 1) := dk_89 (dk_at dksX1_go_7 19 rfl rfl)
theorem dX1_go_183 : decode cX1_go 183 = .ok (.getfield 790, 3) := dk_180 3 22 (dk_at dksX1_go_7 20 rfl rfl)
theorem dX1_go_186 : decode cX1_go 186 = .ok (.iconst 1, 1) := dk_4 (dk_at dksX1_go_7 23 rfl rfl)
theorem dX1_go_187 : decode cX1_go 187 = .ok (.isub, 1) := dk_100 (dk_at dksX1_go_8 0 rfl rfl)
theorem dX1_go_188 : decode cX1_go 188 = .ok (.putfield 790, 3) := dk_181 3 22 (dk_at dksX1_go_8 1 rfl rfl)
theorem dX1_go_191 : decode cX1_go 191 = .ok (.iinc 7 1, 3) := dk_132 7 1 (dk_at dksX1_go_8 4 rfl rfl)
theorem dX1_go_194 : decode cX1_go 194 = .ok (.goto (-105), 3) := dk_167 255 151 (dk_at dksX1_go_8 7 rfl rfl)
theorem dX1_go_197 : decode cX1_go 197 = .ok (.return_, 1) := dk_177 (dk_at dksX1_go_8 10 rfl rfl)
abbrev cX1_rounded : ByteArray := prog_1_method_128_code
def yX1_rounded : MethodName := ⟨RX1, "rounded", "(III)I"⟩
def dkwX1_rounded_1 : List UInt8 := [180, 0, 105, 42, 180, 0, 114, 29, 46, 46, 167, 0, 4, 2, 172]
abbrev dktX1_rounded_1 : List UInt8 := dkwX1_rounded_1 ++ []
def dkwX1_rounded_0 : List UInt8 := [42, 27, 28, 182, 3, 40, 153, 0, 31, 29, 3, 42, 180, 3, 25, 4, 100, 184, 0, 3, 153, 0, 17, 42]
abbrev dktX1_rounded_0 : List UInt8 := dkwX1_rounded_0 ++ dktX1_rounded_1
theorem dksX1_rounded_0 : cX1_rounded.data.toList.drop 0 = dktX1_rounded_0 := by decide +kernel
theorem dksX1_rounded_1 : cX1_rounded.data.toList.drop 24 = dktX1_rounded_1 := dk_seg dksX1_rounded_0 24 rfl rfl
theorem dX1_rounded_0 : decode cX1_rounded 0 = .ok (.aload_n 0, 1) := dk_42 (dk_at dksX1_rounded_0 0 rfl rfl)
theorem dX1_rounded_1 : decode cX1_rounded 1 = .ok (.iload_n 1, 1) := dk_27 (dk_at dksX1_rounded_0 1 rfl rfl)
theorem dX1_rounded_2 : decode cX1_rounded 2 = .ok (.iload_n 2, 1) := dk_28 (dk_at dksX1_rounded_0 2 rfl rfl)
theorem dX1_rounded_3 : decode cX1_rounded 3 = .ok (.invokevirtual 808, 3) := dk_182 3 40 (dk_at dksX1_rounded_0 3 rfl rfl)
theorem dX1_rounded_6 : decode cX1_rounded 6 = .ok (.ifCond .eq 31, 3) := dk_153 0 31 (dk_at dksX1_rounded_0 6 rfl rfl)
theorem dX1_rounded_9 : decode cX1_rounded 9 = .ok (.iload_n 3, 1) := dk_29 (dk_at dksX1_rounded_0 9 rfl rfl)
theorem dX1_rounded_10 : decode cX1_rounded 10 = .ok (.iconst 0, 1) := dk_3 (dk_at dksX1_rounded_0 10 rfl rfl)
theorem dX1_rounded_11 : decode cX1_rounded 11 = .ok (.aload_n 0, 1) := dk_42 (dk_at dksX1_rounded_0 11 rfl rfl)
theorem dX1_rounded_12 : decode cX1_rounded 12 = .ok (.getfield 793, 3) := dk_180 3 25 (dk_at dksX1_rounded_0 12 rfl rfl)
theorem dX1_rounded_15 : decode cX1_rounded 15 = .ok (.iconst 1, 1) := dk_4 (dk_at dksX1_rounded_0 15 rfl rfl)
theorem dX1_rounded_16 : decode cX1_rounded 16 = .ok (.isub, 1) := dk_100 (dk_at dksX1_rounded_0 16 rfl rfl)
theorem dX1_rounded_17 : decode cX1_rounded 17 = .ok (.invokestatic 3, 3) := dk_184 0 3 (dk_at dksX1_rounded_0 17 rfl rfl)
theorem dX1_rounded_20 : decode cX1_rounded 20 = .ok (.ifCond .eq 17, 3) := dk_153 0 17 (dk_at dksX1_rounded_0 20 rfl rfl)
theorem dX1_rounded_23 : decode cX1_rounded 23 = .ok (.aload_n 0, 1) := dk_42 (dk_at dksX1_rounded_0 23 rfl rfl)
theorem dX1_rounded_24 : decode cX1_rounded 24 = .ok (.getfield 105, 3) := dk_180 0 105 (dk_at dksX1_rounded_1 0 rfl rfl)
theorem dX1_rounded_27 : decode cX1_rounded 27 = .ok (.aload_n 0, 1) := dk_42 (dk_at dksX1_rounded_1 3 rfl rfl)
theorem dX1_rounded_28 : decode cX1_rounded 28 = .ok (.getfield 114, 3) := dk_180 0 114 (dk_at dksX1_rounded_1 4 rfl rfl)
theorem dX1_rounded_31 : decode cX1_rounded 31 = .ok (.iload_n 3, 1) := dk_29 (dk_at dksX1_rounded_1 7 rfl rfl)
theorem dX1_rounded_32 : decode cX1_rounded 32 = .ok (.iaload, 1) := dk_46 (dk_at dksX1_rounded_1 8 rfl rfl)
theorem dX1_rounded_33 : decode cX1_rounded 33 = .ok (.iaload, 1) := dk_46 (dk_at dksX1_rounded_1 9 rfl rfl)
theorem dX1_rounded_34 : decode cX1_rounded 34 = .ok (.goto 4, 3) := dk_167 0 4 (dk_at dksX1_rounded_1 10 rfl rfl)
theorem dX1_rounded_37 : decode cX1_rounded 37 = .ok (.iconst (-1), 1) := dk_2 (dk_at dksX1_rounded_1 13 rfl rfl)
theorem dX1_rounded_38 : decode cX1_rounded 38 = .ok (.ireturn, 1) := dk_172 (dk_at dksX1_rounded_1 14 rfl rfl)
abbrev cX1_plan : ByteArray := prog_1_method_133_code
def yX1_plan : MethodName := ⟨RX1, "plan", "(II)I"⟩
def dkwX1_plan_0 : List UInt8 := [42, 27, 28, 182, 3, 55, 153, 0, 10, 42, 180, 3, 46, 167, 0, 4, 2, 172]
abbrev dktX1_plan_0 : List UInt8 := dkwX1_plan_0 ++ []
theorem dksX1_plan_0 : cX1_plan.data.toList.drop 0 = dktX1_plan_0 := by decide +kernel
theorem dX1_plan_0 : decode cX1_plan 0 = .ok (.aload_n 0, 1) := dk_42 (dk_at dksX1_plan_0 0 rfl rfl)
theorem dX1_plan_1 : decode cX1_plan 1 = .ok (.iload_n 1, 1) := dk_27 (dk_at dksX1_plan_0 1 rfl rfl)
theorem dX1_plan_2 : decode cX1_plan 2 = .ok (.iload_n 2, 1) := dk_28 (dk_at dksX1_plan_0 2 rfl rfl)
theorem dX1_plan_3 : decode cX1_plan 3 = .ok (.invokevirtual 823, 3) := dk_182 3 55 (dk_at dksX1_plan_0 3 rfl rfl)
theorem dX1_plan_6 : decode cX1_plan 6 = .ok (.ifCond .eq 10, 3) := dk_153 0 10 (dk_at dksX1_plan_0 6 rfl rfl)
theorem dX1_plan_9 : decode cX1_plan 9 = .ok (.aload_n 0, 1) := dk_42 (dk_at dksX1_plan_0 9 rfl rfl)
theorem dX1_plan_10 : decode cX1_plan 10 = .ok (.getfield 814, 3) := dk_180 3 46 (dk_at dksX1_plan_0 10 rfl rfl)
theorem dX1_plan_13 : decode cX1_plan 13 = .ok (.goto 4, 3) := dk_167 0 4 (dk_at dksX1_plan_0 13 rfl rfl)
theorem dX1_plan_16 : decode cX1_plan 16 = .ok (.iconst (-1), 1) := dk_2 (dk_at dksX1_plan_0 16 rfl rfl)
theorem dX1_plan_17 : decode cX1_plan 17 = .ok (.ireturn, 1) := dk_172 (dk_at dksX1_plan_0 17 rfl rfl)
abbrev cX1_findPlan : ByteArray := prog_1_method_132_code
def yX1_findPlan : MethodName := ⟨RX1, "findPlan", "(II)Z"⟩
def dkwX1_findPlan_1 : List UInt8 := [182, 3, 52, 42, 2, 181, 3, 46, 42, 27, 3, 3, 3, 28, 182, 3, 49, 4, 172]
abbrev dktX1_findPlan_1 : List UInt8 := dkwX1_findPlan_1 ++ []
def dkwX1_findPlan_0 : List UInt8 := [27, 4, 7, 184, 0, 3, 153, 0, 13, 28, 4, 16, 100, 184, 0, 3, 154, 0, 5, 3, 172, 42]
abbrev dktX1_findPlan_0 : List UInt8 := dkwX1_findPlan_0 ++ dktX1_findPlan_1
theorem dksX1_findPlan_0 : cX1_findPlan.data.toList.drop 0 = dktX1_findPlan_0 := by decide +kernel
theorem dksX1_findPlan_1 : cX1_findPlan.data.toList.drop 22 = dktX1_findPlan_1 := dk_seg dksX1_findPlan_0 22 rfl rfl
theorem dX1_findPlan_0 : decode cX1_findPlan 0 = .ok (.iload_n 1, 1) := dk_27 (dk_at dksX1_findPlan_0 0 rfl rfl)
theorem dX1_findPlan_1 : decode cX1_findPlan 1 = .ok (.iconst 1, 1) := dk_4 (dk_at dksX1_findPlan_0 1 rfl rfl)
theorem dX1_findPlan_2 : decode cX1_findPlan 2 = .ok (.iconst 4, 1) := dk_7 (dk_at dksX1_findPlan_0 2 rfl rfl)
theorem dX1_findPlan_3 : decode cX1_findPlan 3 = .ok (.invokestatic 3, 3) := dk_184 0 3 (dk_at dksX1_findPlan_0 3 rfl rfl)
theorem dX1_findPlan_6 : decode cX1_findPlan 6 = .ok (.ifCond .eq 13, 3) := dk_153 0 13 (dk_at dksX1_findPlan_0 6 rfl rfl)
theorem dX1_findPlan_9 : decode cX1_findPlan 9 = .ok (.iload_n 2, 1) := dk_28 (dk_at dksX1_findPlan_0 9 rfl rfl)
theorem dX1_findPlan_10 : decode cX1_findPlan 10 = .ok (.iconst 1, 1) := dk_4 (dk_at dksX1_findPlan_0 10 rfl rfl)
theorem dX1_findPlan_11 : decode cX1_findPlan 11 = .ok (.bipush 100, 2) := dk_16 100 (dk_at dksX1_findPlan_0 11 rfl rfl)
theorem dX1_findPlan_13 : decode cX1_findPlan 13 = .ok (.invokestatic 3, 3) := dk_184 0 3 (dk_at dksX1_findPlan_0 13 rfl rfl)
theorem dX1_findPlan_16 : decode cX1_findPlan 16 = .ok (.ifCond .ne 5, 3) := dk_154 0 5 (dk_at dksX1_findPlan_0 16 rfl rfl)
theorem dX1_findPlan_19 : decode cX1_findPlan 19 = .ok (.iconst 0, 1) := dk_3 (dk_at dksX1_findPlan_0 19 rfl rfl)
theorem dX1_findPlan_20 : decode cX1_findPlan 20 = .ok (.ireturn, 1) := dk_172 (dk_at dksX1_findPlan_0 20 rfl rfl)
theorem dX1_findPlan_21 : decode cX1_findPlan 21 = .ok (.aload_n 0, 1) := dk_42 (dk_at dksX1_findPlan_0 21 rfl rfl)
theorem dX1_findPlan_22 : decode cX1_findPlan 22 = .ok (.invokevirtual 820, 3) := dk_182 3 52 (dk_at dksX1_findPlan_1 0 rfl rfl)
theorem dX1_findPlan_25 : decode cX1_findPlan 25 = .ok (.aload_n 0, 1) := dk_42 (dk_at dksX1_findPlan_1 3 rfl rfl)
theorem dX1_findPlan_26 : decode cX1_findPlan 26 = .ok (.iconst (-1), 1) := dk_2 (dk_at dksX1_findPlan_1 4 rfl rfl)
theorem dX1_findPlan_27 : decode cX1_findPlan 27 = .ok (.putfield 814, 3) := dk_181 3 46 (dk_at dksX1_findPlan_1 5 rfl rfl)
theorem dX1_findPlan_30 : decode cX1_findPlan 30 = .ok (.aload_n 0, 1) := dk_42 (dk_at dksX1_findPlan_1 8 rfl rfl)
theorem dX1_findPlan_31 : decode cX1_findPlan 31 = .ok (.iload_n 1, 1) := dk_27 (dk_at dksX1_findPlan_1 9 rfl rfl)
theorem dX1_findPlan_32 : decode cX1_findPlan 32 = .ok (.iconst 0, 1) := dk_3 (dk_at dksX1_findPlan_1 10 rfl rfl)
theorem dX1_findPlan_33 : decode cX1_findPlan 33 = .ok (.iconst 0, 1) := dk_3 (dk_at dksX1_findPlan_1 11 rfl rfl)
theorem dX1_findPlan_34 : decode cX1_findPlan 34 = .ok (.iconst 0, 1) := dk_3 (dk_at dksX1_findPlan_1 12 rfl rfl)
theorem dX1_findPlan_35 : decode cX1_findPlan 35 = .ok (.iload_n 2, 1) := dk_28 (dk_at dksX1_findPlan_1 13 rfl rfl)
theorem dX1_findPlan_36 : decode cX1_findPlan 36 = .ok (.invokevirtual 817, 3) := dk_182 3 49 (dk_at dksX1_findPlan_1 14 rfl rfl)
theorem dX1_findPlan_39 : decode cX1_findPlan 39 = .ok (.iconst 1, 1) := dk_4 (dk_at dksX1_findPlan_1 17 rfl rfl)
theorem dX1_findPlan_40 : decode cX1_findPlan 40 = .ok (.ireturn, 1) := dk_172 (dk_at dksX1_findPlan_1 18 rfl rfl)
abbrev cX1_survey : ByteArray := prog_1_method_129_code
def yX1_survey : MethodName := ⟨RX1, "survey", "()V"⟩
def dkwX1_survey_3 : List UInt8 := [132, 1, 1, 167, 255, 227, 177]
abbrev dktX1_survey_3 : List UInt8 := dkwX1_survey_3 ++ []
def dkwX1_survey_2 : List UInt8 := [180, 2, 75, 162, 0, 27, 42, 180, 0, 125, 42, 180, 0, 74, 27, 50, 180, 2, 78, 92, 46, 4, 96, 79]
abbrev dktX1_survey_2 : List UInt8 := dkwX1_survey_2 ++ dktX1_survey_3
def dkwX1_survey_1 : List UInt8 := [3, 16, 20, 184, 3, 28, 42, 180, 0, 125, 27, 3, 79, 132, 1, 1, 167, 255, 218, 3, 60, 27, 42]
abbrev dktX1_survey_1 : List UInt8 := dkwX1_survey_1 ++ dktX1_survey_2
def dkwX1_survey_0 : List UInt8 := [3, 60, 27, 16, 20, 162, 0, 38, 42, 27, 182, 0, 192, 42, 180, 0, 24, 3, 42, 180, 0, 122, 27, 50]
abbrev dktX1_survey_0 : List UInt8 := dkwX1_survey_0 ++ dktX1_survey_1
theorem dksX1_survey_0 : cX1_survey.data.toList.drop 0 = dktX1_survey_0 := by decide +kernel
theorem dksX1_survey_1 : cX1_survey.data.toList.drop 24 = dktX1_survey_1 := dk_seg dksX1_survey_0 24 rfl rfl
theorem dksX1_survey_2 : cX1_survey.data.toList.drop 47 = dktX1_survey_2 := dk_seg dksX1_survey_1 23 rfl rfl
theorem dksX1_survey_3 : cX1_survey.data.toList.drop 71 = dktX1_survey_3 := dk_seg dksX1_survey_2 24 rfl rfl
theorem dX1_survey_0 : decode cX1_survey 0 = .ok (.iconst 0, 1) := dk_3 (dk_at dksX1_survey_0 0 rfl rfl)
theorem dX1_survey_1 : decode cX1_survey 1 = .ok (.istore_n 1, 1) := dk_60 (dk_at dksX1_survey_0 1 rfl rfl)
theorem dX1_survey_2 : decode cX1_survey 2 = .ok (.iload_n 1, 1) := dk_27 (dk_at dksX1_survey_0 2 rfl rfl)
theorem dX1_survey_3 : decode cX1_survey 3 = .ok (.bipush 20, 2) := dk_16 20 (dk_at dksX1_survey_0 3 rfl rfl)
theorem dX1_survey_5 : decode cX1_survey 5 = .ok (.if_icmp .ge 38, 3) := dk_162 0 38 (dk_at dksX1_survey_0 5 rfl rfl)
theorem dX1_survey_8 : decode cX1_survey 8 = .ok (.aload_n 0, 1) := dk_42 (dk_at dksX1_survey_0 8 rfl rfl)
theorem dX1_survey_9 : decode cX1_survey 9 = .ok (.iload_n 1, 1) := dk_27 (dk_at dksX1_survey_0 9 rfl rfl)
theorem dX1_survey_10 : decode cX1_survey 10 = .ok (.invokevirtual 192, 3) := dk_182 0 192 (dk_at dksX1_survey_0 10 rfl rfl)
theorem dX1_survey_13 : decode cX1_survey 13 = .ok (.aload_n 0, 1) := dk_42 (dk_at dksX1_survey_0 13 rfl rfl)
theorem dX1_survey_14 : decode cX1_survey 14 = .ok (.getfield 24, 3) := dk_180 0 24 (dk_at dksX1_survey_0 14 rfl rfl)
theorem dX1_survey_17 : decode cX1_survey 17 = .ok (.iconst 0, 1) := dk_3 (dk_at dksX1_survey_0 17 rfl rfl)
theorem dX1_survey_18 : decode cX1_survey 18 = .ok (.aload_n 0, 1) := dk_42 (dk_at dksX1_survey_0 18 rfl rfl)
theorem dX1_survey_19 : decode cX1_survey 19 = .ok (.getfield 122, 3) := dk_180 0 122 (dk_at dksX1_survey_0 19 rfl rfl)
theorem dX1_survey_22 : decode cX1_survey 22 = .ok (.iload_n 1, 1) := dk_27 (dk_at dksX1_survey_0 22 rfl rfl)
theorem dX1_survey_23 : decode cX1_survey 23 = .ok (.aaload, 1) := dk_50 (dk_at dksX1_survey_0 23 rfl rfl)
theorem dX1_survey_24 : decode cX1_survey 24 = .ok (.iconst 0, 1) := dk_3 (dk_at dksX1_survey_1 0 rfl rfl)
theorem dX1_survey_25 : decode cX1_survey 25 = .ok (.bipush 20, 2) := dk_16 20 (dk_at dksX1_survey_1 1 rfl rfl)
theorem dX1_survey_27 : decode cX1_survey 27 = .ok (.invokestatic 796, 3) := dk_184 3 28 (dk_at dksX1_survey_1 3 rfl rfl)
theorem dX1_survey_30 : decode cX1_survey 30 = .ok (.aload_n 0, 1) := dk_42 (dk_at dksX1_survey_1 6 rfl rfl)
theorem dX1_survey_31 : decode cX1_survey 31 = .ok (.getfield 125, 3) := dk_180 0 125 (dk_at dksX1_survey_1 7 rfl rfl)
theorem dX1_survey_34 : decode cX1_survey 34 = .ok (.iload_n 1, 1) := dk_27 (dk_at dksX1_survey_1 10 rfl rfl)
theorem dX1_survey_35 : decode cX1_survey 35 = .ok (.iconst 0, 1) := dk_3 (dk_at dksX1_survey_1 11 rfl rfl)
theorem dX1_survey_36 : decode cX1_survey 36 = .ok (.iastore, 1) := dk_79 (dk_at dksX1_survey_1 12 rfl rfl)
theorem dX1_survey_37 : decode cX1_survey 37 = .ok (.iinc 1 1, 3) := dk_132 1 1 (dk_at dksX1_survey_1 13 rfl rfl)
theorem dX1_survey_40 : decode cX1_survey 40 = .ok (.goto (-38), 3) := dk_167 255 218 (dk_at dksX1_survey_1 16 rfl rfl)
theorem dX1_survey_43 : decode cX1_survey 43 = .ok (.iconst 0, 1) := dk_3 (dk_at dksX1_survey_1 19 rfl rfl)
theorem dX1_survey_44 : decode cX1_survey 44 = .ok (.istore_n 1, 1) := dk_60 (dk_at dksX1_survey_1 20 rfl rfl)
theorem dX1_survey_45 : decode cX1_survey 45 = .ok (.iload_n 1, 1) := dk_27 (dk_at dksX1_survey_1 21 rfl rfl)
theorem dX1_survey_46 : decode cX1_survey 46 = .ok (.aload_n 0, 1) := dk_42 (dk_at dksX1_survey_1 22 rfl rfl)
theorem dX1_survey_47 : decode cX1_survey 47 = .ok (.getfield 587, 3) := dk_180 2 75 (dk_at dksX1_survey_2 0 rfl rfl)
theorem dX1_survey_50 : decode cX1_survey 50 = .ok (.if_icmp .ge 27, 3) := dk_162 0 27 (dk_at dksX1_survey_2 3 rfl rfl)
theorem dX1_survey_53 : decode cX1_survey 53 = .ok (.aload_n 0, 1) := dk_42 (dk_at dksX1_survey_2 6 rfl rfl)
theorem dX1_survey_54 : decode cX1_survey 54 = .ok (.getfield 125, 3) := dk_180 0 125 (dk_at dksX1_survey_2 7 rfl rfl)
theorem dX1_survey_57 : decode cX1_survey 57 = .ok (.aload_n 0, 1) := dk_42 (dk_at dksX1_survey_2 10 rfl rfl)
theorem dX1_survey_58 : decode cX1_survey 58 = .ok (.getfield 74, 3) := dk_180 0 74 (dk_at dksX1_survey_2 11 rfl rfl)
theorem dX1_survey_61 : decode cX1_survey 61 = .ok (.iload_n 1, 1) := dk_27 (dk_at dksX1_survey_2 14 rfl rfl)
theorem dX1_survey_62 : decode cX1_survey 62 = .ok (.aaload, 1) := dk_50 (dk_at dksX1_survey_2 15 rfl rfl)
theorem dX1_survey_63 : decode cX1_survey 63 = .ok (.getfield 590, 3) := dk_180 2 78 (dk_at dksX1_survey_2 16 rfl rfl)
theorem dX1_survey_66 : decode cX1_survey 66 = .ok (.dup2, 1) := dk_92 (dk_at dksX1_survey_2 19 rfl rfl)
theorem dX1_survey_67 : decode cX1_survey 67 = .ok (.iaload, 1) := dk_46 (dk_at dksX1_survey_2 20 rfl rfl)
theorem dX1_survey_68 : decode cX1_survey 68 = .ok (.iconst 1, 1) := dk_4 (dk_at dksX1_survey_2 21 rfl rfl)
theorem dX1_survey_69 : decode cX1_survey 69 = .ok (.iadd, 1) := dk_96 (dk_at dksX1_survey_2 22 rfl rfl)
theorem dX1_survey_70 : decode cX1_survey 70 = .ok (.iastore, 1) := dk_79 (dk_at dksX1_survey_2 23 rfl rfl)
theorem dX1_survey_71 : decode cX1_survey 71 = .ok (.iinc 1 1, 3) := dk_132 1 1 (dk_at dksX1_survey_3 0 rfl rfl)
theorem dX1_survey_74 : decode cX1_survey 74 = .ok (.goto (-29), 3) := dk_167 255 227 (dk_at dksX1_survey_3 3 rfl rfl)
theorem dX1_survey_77 : decode cX1_survey 77 = .ok (.return_, 1) := dk_177 (dk_at dksX1_survey_3 6 rfl rfl)
abbrev cX1_pick : ByteArray := prog_1_method_131_code
def yX1_pick : MethodName := ⟨RX1, "pick", "(IIIII)V"⟩
def dkwX1_pick_5 : List UInt8 := [4, 21, 6, 120, 128, 21, 5, 182, 3, 49, 132, 6, 1, 167, 255, 217, 177]
abbrev dktX1_pick_5 : List UInt8 := dkwX1_pick_5 ++ []
def dkwX1_pick_4 : List UInt8 := [16, 20, 162, 0, 38, 42, 180, 0, 128, 28, 21, 6, 79, 42, 27, 28, 4, 96, 21, 6, 4, 96, 21, 4]
abbrev dktX1_pick_4 : List UInt8 := dkwX1_pick_4 ++ dktX1_pick_5
def dkwX1_pick_3 : List UInt8 := [181, 3, 46, 42, 180, 0, 128, 3, 42, 180, 0, 131, 3, 27, 184, 3, 28, 177, 29, 54, 6, 21, 6]
abbrev dktX1_pick_3 : List UInt8 := dkwX1_pick_3 ++ dktX1_pick_4
def dkwX1_pick_2 : List UInt8 := [96, 54, 6, 132, 7, 1, 167, 255, 213, 21, 6, 42, 180, 3, 46, 163, 0, 4, 177, 42, 21, 6]
abbrev dktX1_pick_2 : List UInt8 := dkwX1_pick_2 ++ dktX1_pick_3
def dkwX1_pick_1 : List UInt8 := [46, 158, 0, 26, 21, 6, 42, 180, 0, 125, 21, 7, 46, 42, 21, 7, 21, 4, 21, 5, 182, 3, 43, 104]
abbrev dktX1_pick_1 : List UInt8 := dkwX1_pick_1 ++ dktX1_pick_2
def dkwX1_pick_0 : List UInt8 := [28, 27, 160, 0, 86, 3, 54, 6, 3, 54, 7, 21, 7, 16, 20, 162, 0, 42, 42, 180, 0, 125, 21, 7]
abbrev dktX1_pick_0 : List UInt8 := dkwX1_pick_0 ++ dktX1_pick_1
theorem dksX1_pick_0 : cX1_pick.data.toList.drop 0 = dktX1_pick_0 := by decide +kernel
theorem dksX1_pick_1 : cX1_pick.data.toList.drop 24 = dktX1_pick_1 := dk_seg dksX1_pick_0 24 rfl rfl
theorem dksX1_pick_2 : cX1_pick.data.toList.drop 48 = dktX1_pick_2 := dk_seg dksX1_pick_1 24 rfl rfl
theorem dksX1_pick_3 : cX1_pick.data.toList.drop 70 = dktX1_pick_3 := dk_seg dksX1_pick_2 22 rfl rfl
theorem dksX1_pick_4 : cX1_pick.data.toList.drop 93 = dktX1_pick_4 := dk_seg dksX1_pick_3 23 rfl rfl
theorem dksX1_pick_5 : cX1_pick.data.toList.drop 117 = dktX1_pick_5 := dk_seg dksX1_pick_4 24 rfl rfl
theorem dX1_pick_0 : decode cX1_pick 0 = .ok (.iload_n 2, 1) := dk_28 (dk_at dksX1_pick_0 0 rfl rfl)
theorem dX1_pick_1 : decode cX1_pick 1 = .ok (.iload_n 1, 1) := dk_27 (dk_at dksX1_pick_0 1 rfl rfl)
theorem dX1_pick_2 : decode cX1_pick 2 = .ok (.if_icmp .ne 86, 3) := dk_160 0 86 (dk_at dksX1_pick_0 2 rfl rfl)
theorem dX1_pick_5 : decode cX1_pick 5 = .ok (.iconst 0, 1) := dk_3 (dk_at dksX1_pick_0 5 rfl rfl)
theorem dX1_pick_6 : decode cX1_pick 6 = .ok (.istore 6, 2) := dk_54 6 (dk_at dksX1_pick_0 6 rfl rfl)
theorem dX1_pick_8 : decode cX1_pick 8 = .ok (.iconst 0, 1) := dk_3 (dk_at dksX1_pick_0 8 rfl rfl)
theorem dX1_pick_9 : decode cX1_pick 9 = .ok (.istore 7, 2) := dk_54 7 (dk_at dksX1_pick_0 9 rfl rfl)
theorem dX1_pick_11 : decode cX1_pick 11 = .ok (.iload 7, 2) := dk_21 7 (dk_at dksX1_pick_0 11 rfl rfl)
theorem dX1_pick_13 : decode cX1_pick 13 = .ok (.bipush 20, 2) := dk_16 20 (dk_at dksX1_pick_0 13 rfl rfl)
theorem dX1_pick_15 : decode cX1_pick 15 = .ok (.if_icmp .ge 42, 3) := dk_162 0 42 (dk_at dksX1_pick_0 15 rfl rfl)
theorem dX1_pick_18 : decode cX1_pick 18 = .ok (.aload_n 0, 1) := dk_42 (dk_at dksX1_pick_0 18 rfl rfl)
theorem dX1_pick_19 : decode cX1_pick 19 = .ok (.getfield 125, 3) := dk_180 0 125 (dk_at dksX1_pick_0 19 rfl rfl)
theorem dX1_pick_22 : decode cX1_pick 22 = .ok (.iload 7, 2) := dk_21 7 (dk_at dksX1_pick_0 22 rfl rfl)
theorem dX1_pick_24 : decode cX1_pick 24 = .ok (.iaload, 1) := dk_46 (dk_at dksX1_pick_1 0 rfl rfl)
theorem dX1_pick_25 : decode cX1_pick 25 = .ok (.ifCond .le 26, 3) := dk_158 0 26 (dk_at dksX1_pick_1 1 rfl rfl)
theorem dX1_pick_28 : decode cX1_pick 28 = .ok (.iload 6, 2) := dk_21 6 (dk_at dksX1_pick_1 4 rfl rfl)
theorem dX1_pick_30 : decode cX1_pick 30 = .ok (.aload_n 0, 1) := dk_42 (dk_at dksX1_pick_1 6 rfl rfl)
theorem dX1_pick_31 : decode cX1_pick 31 = .ok (.getfield 125, 3) := dk_180 0 125 (dk_at dksX1_pick_1 7 rfl rfl)
theorem dX1_pick_34 : decode cX1_pick 34 = .ok (.iload 7, 2) := dk_21 7 (dk_at dksX1_pick_1 10 rfl rfl)
theorem dX1_pick_36 : decode cX1_pick 36 = .ok (.iaload, 1) := dk_46 (dk_at dksX1_pick_1 12 rfl rfl)
theorem dX1_pick_37 : decode cX1_pick 37 = .ok (.aload_n 0, 1) := dk_42 (dk_at dksX1_pick_1 13 rfl rfl)
theorem dX1_pick_38 : decode cX1_pick 38 = .ok (.iload 7, 2) := dk_21 7 (dk_at dksX1_pick_1 14 rfl rfl)
theorem dX1_pick_40 : decode cX1_pick 40 = .ok (.iload 4, 2) := dk_21 4 (dk_at dksX1_pick_1 16 rfl rfl)
theorem dX1_pick_42 : decode cX1_pick 42 = .ok (.iload 5, 2) := dk_21 5 (dk_at dksX1_pick_1 18 rfl rfl)
theorem dX1_pick_44 : decode cX1_pick 44 = .ok (.invokevirtual 811, 3) := dk_182 3 43 (dk_at dksX1_pick_1 20 rfl rfl)
theorem dX1_pick_47 : decode cX1_pick 47 = .ok (.imul, 1) := dk_104 (dk_at dksX1_pick_1 23 rfl rfl)
theorem dX1_pick_48 : decode cX1_pick 48 = .ok (.iadd, 1) := dk_96 (dk_at dksX1_pick_2 0 rfl rfl)
theorem dX1_pick_49 : decode cX1_pick 49 = .ok (.istore 6, 2) := dk_54 6 (dk_at dksX1_pick_2 1 rfl rfl)
theorem dX1_pick_51 : decode cX1_pick 51 = .ok (.iinc 7 1, 3) := dk_132 7 1 (dk_at dksX1_pick_2 3 rfl rfl)
theorem dX1_pick_54 : decode cX1_pick 54 = .ok (.goto (-43), 3) := dk_167 255 213 (dk_at dksX1_pick_2 6 rfl rfl)
theorem dX1_pick_57 : decode cX1_pick 57 = .ok (.iload 6, 2) := dk_21 6 (dk_at dksX1_pick_2 9 rfl rfl)
theorem dX1_pick_59 : decode cX1_pick 59 = .ok (.aload_n 0, 1) := dk_42 (dk_at dksX1_pick_2 11 rfl rfl)
theorem dX1_pick_60 : decode cX1_pick 60 = .ok (.getfield 814, 3) := dk_180 3 46 (dk_at dksX1_pick_2 12 rfl rfl)
theorem dX1_pick_63 : decode cX1_pick 63 = .ok (.if_icmp .gt 4, 3) := dk_163 0 4 (dk_at dksX1_pick_2 15 rfl rfl)
theorem dX1_pick_66 : decode cX1_pick 66 = .ok (.return_, 1) := dk_177 (dk_at dksX1_pick_2 18 rfl rfl)
theorem dX1_pick_67 : decode cX1_pick 67 = .ok (.aload_n 0, 1) := dk_42 (dk_at dksX1_pick_2 19 rfl rfl)
theorem dX1_pick_68 : decode cX1_pick 68 = .ok (.iload 6, 2) := dk_21 6 (dk_at dksX1_pick_2 20 rfl rfl)
theorem dX1_pick_70 : decode cX1_pick 70 = .ok (.putfield 814, 3) := dk_181 3 46 (dk_at dksX1_pick_3 0 rfl rfl)
theorem dX1_pick_73 : decode cX1_pick 73 = .ok (.aload_n 0, 1) := dk_42 (dk_at dksX1_pick_3 3 rfl rfl)
theorem dX1_pick_74 : decode cX1_pick 74 = .ok (.getfield 128, 3) := dk_180 0 128 (dk_at dksX1_pick_3 4 rfl rfl)
theorem dX1_pick_77 : decode cX1_pick 77 = .ok (.iconst 0, 1) := dk_3 (dk_at dksX1_pick_3 7 rfl rfl)
theorem dX1_pick_78 : decode cX1_pick 78 = .ok (.aload_n 0, 1) := dk_42 (dk_at dksX1_pick_3 8 rfl rfl)
theorem dX1_pick_79 : decode cX1_pick 79 = .ok (.getfield 131, 3) := dk_180 0 131 (dk_at dksX1_pick_3 9 rfl rfl)
theorem dX1_pick_82 : decode cX1_pick 82 = .ok (.iconst 0, 1) := dk_3 (dk_at dksX1_pick_3 12 rfl rfl)
theorem dX1_pick_83 : decode cX1_pick 83 = .ok (.iload_n 1, 1) := dk_27 (dk_at dksX1_pick_3 13 rfl rfl)
theorem dX1_pick_84 : decode cX1_pick 84 = .ok (.invokestatic 796, 3) := dk_184 3 28 (dk_at dksX1_pick_3 14 rfl rfl)
theorem dX1_pick_87 : decode cX1_pick 87 = .ok (.return_, 1) := dk_177 (dk_at dksX1_pick_3 17 rfl rfl)
theorem dX1_pick_88 : decode cX1_pick 88 = .ok (.iload_n 3, 1) := dk_29 (dk_at dksX1_pick_3 18 rfl rfl)
theorem dX1_pick_89 : decode cX1_pick 89 = .ok (.istore 6, 2) := dk_54 6 (dk_at dksX1_pick_3 19 rfl rfl)
theorem dX1_pick_91 : decode cX1_pick 91 = .ok (.iload 6, 2) := dk_21 6 (dk_at dksX1_pick_3 21 rfl rfl)
theorem dX1_pick_93 : decode cX1_pick 93 = .ok (.bipush 20, 2) := dk_16 20 (dk_at dksX1_pick_4 0 rfl rfl)
theorem dX1_pick_95 : decode cX1_pick 95 = .ok (.if_icmp .ge 38, 3) := dk_162 0 38 (dk_at dksX1_pick_4 2 rfl rfl)
theorem dX1_pick_98 : decode cX1_pick 98 = .ok (.aload_n 0, 1) := dk_42 (dk_at dksX1_pick_4 5 rfl rfl)
theorem dX1_pick_99 : decode cX1_pick 99 = .ok (.getfield 128, 3) := dk_180 0 128 (dk_at dksX1_pick_4 6 rfl rfl)
theorem dX1_pick_102 : decode cX1_pick 102 = .ok (.iload_n 2, 1) := dk_28 (dk_at dksX1_pick_4 9 rfl rfl)
theorem dX1_pick_103 : decode cX1_pick 103 = .ok (.iload 6, 2) := dk_21 6 (dk_at dksX1_pick_4 10 rfl rfl)
theorem dX1_pick_105 : decode cX1_pick 105 = .ok (.iastore, 1) := dk_79 (dk_at dksX1_pick_4 12 rfl rfl)
theorem dX1_pick_106 : decode cX1_pick 106 = .ok (.aload_n 0, 1) := dk_42 (dk_at dksX1_pick_4 13 rfl rfl)
theorem dX1_pick_107 : decode cX1_pick 107 = .ok (.iload_n 1, 1) := dk_27 (dk_at dksX1_pick_4 14 rfl rfl)
theorem dX1_pick_108 : decode cX1_pick 108 = .ok (.iload_n 2, 1) := dk_28 (dk_at dksX1_pick_4 15 rfl rfl)
theorem dX1_pick_109 : decode cX1_pick 109 = .ok (.iconst 1, 1) := dk_4 (dk_at dksX1_pick_4 16 rfl rfl)
theorem dX1_pick_110 : decode cX1_pick 110 = .ok (.iadd, 1) := dk_96 (dk_at dksX1_pick_4 17 rfl rfl)
theorem dX1_pick_111 : decode cX1_pick 111 = .ok (.iload 6, 2) := dk_21 6 (dk_at dksX1_pick_4 18 rfl rfl)
theorem dX1_pick_113 : decode cX1_pick 113 = .ok (.iconst 1, 1) := dk_4 (dk_at dksX1_pick_4 20 rfl rfl)
theorem dX1_pick_114 : decode cX1_pick 114 = .ok (.iadd, 1) := dk_96 (dk_at dksX1_pick_4 21 rfl rfl)
theorem dX1_pick_115 : decode cX1_pick 115 = .ok (.iload 4, 2) := dk_21 4 (dk_at dksX1_pick_4 22 rfl rfl)
theorem dX1_pick_117 : decode cX1_pick 117 = .ok (.iconst 1, 1) := dk_4 (dk_at dksX1_pick_5 0 rfl rfl)
theorem dX1_pick_118 : decode cX1_pick 118 = .ok (.iload 6, 2) := dk_21 6 (dk_at dksX1_pick_5 1 rfl rfl)
theorem dX1_pick_120 : decode cX1_pick 120 = .ok (.ishl, 1) := dk_120 (dk_at dksX1_pick_5 3 rfl rfl)
theorem dX1_pick_121 : decode cX1_pick 121 = .ok (.ior, 1) := dk_128 (dk_at dksX1_pick_5 4 rfl rfl)
theorem dX1_pick_122 : decode cX1_pick 122 = .ok (.iload 5, 2) := dk_21 5 (dk_at dksX1_pick_5 5 rfl rfl)
theorem dX1_pick_124 : decode cX1_pick 124 = .ok (.invokevirtual 817, 3) := dk_182 3 49 (dk_at dksX1_pick_5 7 rfl rfl)
theorem dX1_pick_127 : decode cX1_pick 127 = .ok (.iinc 6 1, 3) := dk_132 6 1 (dk_at dksX1_pick_5 10 rfl rfl)
theorem dX1_pick_130 : decode cX1_pick 130 = .ok (.goto (-39), 3) := dk_167 255 217 (dk_at dksX1_pick_5 13 rfl rfl)
theorem dX1_pick_133 : decode cX1_pick 133 = .ok (.return_, 1) := dk_177 (dk_at dksX1_pick_5 16 rfl rfl)
abbrev cX1_points : ByteArray := prog_1_method_130_code
def yX1_points : MethodName := ⟨RX1, "points", "(III)I"⟩
def dkwX1_points_2 : List UInt8 := [154, 0, 7, 3, 167, 0, 14, 21, 4, 4, 160, 0, 7, 5, 167, 0, 4, 6, 172]
abbrev dktX1_points_2 : List UInt8 := dkwX1_points_2 ++ []
def dkwX1_points_1 : List UInt8 := [180, 0, 122, 21, 5, 50, 27, 46, 29, 163, 0, 6, 132, 4, 1, 132, 5, 1, 167, 255, 220, 21, 4]
abbrev dktX1_points_1 : List UInt8 := dkwX1_points_1 ++ dktX1_points_2
def dkwX1_points_0 : List UInt8 := [3, 54, 4, 3, 54, 5, 21, 5, 16, 20, 162, 0, 35, 28, 21, 5, 122, 4, 126, 4, 160, 0, 19, 42]
abbrev dktX1_points_0 : List UInt8 := dkwX1_points_0 ++ dktX1_points_1
theorem dksX1_points_0 : cX1_points.data.toList.drop 0 = dktX1_points_0 := by decide +kernel
theorem dksX1_points_1 : cX1_points.data.toList.drop 24 = dktX1_points_1 := dk_seg dksX1_points_0 24 rfl rfl
theorem dksX1_points_2 : cX1_points.data.toList.drop 47 = dktX1_points_2 := dk_seg dksX1_points_1 23 rfl rfl
theorem dX1_points_0 : decode cX1_points 0 = .ok (.iconst 0, 1) := dk_3 (dk_at dksX1_points_0 0 rfl rfl)
theorem dX1_points_1 : decode cX1_points 1 = .ok (.istore 4, 2) := dk_54 4 (dk_at dksX1_points_0 1 rfl rfl)
theorem dX1_points_3 : decode cX1_points 3 = .ok (.iconst 0, 1) := dk_3 (dk_at dksX1_points_0 3 rfl rfl)
theorem dX1_points_4 : decode cX1_points 4 = .ok (.istore 5, 2) := dk_54 5 (dk_at dksX1_points_0 4 rfl rfl)
theorem dX1_points_6 : decode cX1_points 6 = .ok (.iload 5, 2) := dk_21 5 (dk_at dksX1_points_0 6 rfl rfl)
theorem dX1_points_8 : decode cX1_points 8 = .ok (.bipush 20, 2) := dk_16 20 (dk_at dksX1_points_0 8 rfl rfl)
theorem dX1_points_10 : decode cX1_points 10 = .ok (.if_icmp .ge 35, 3) := dk_162 0 35 (dk_at dksX1_points_0 10 rfl rfl)
theorem dX1_points_13 : decode cX1_points 13 = .ok (.iload_n 2, 1) := dk_28 (dk_at dksX1_points_0 13 rfl rfl)
theorem dX1_points_14 : decode cX1_points 14 = .ok (.iload 5, 2) := dk_21 5 (dk_at dksX1_points_0 14 rfl rfl)
theorem dX1_points_16 : decode cX1_points 16 = .ok (.ishr, 1) := dk_122 (dk_at dksX1_points_0 16 rfl rfl)
theorem dX1_points_17 : decode cX1_points 17 = .ok (.iconst 1, 1) := dk_4 (dk_at dksX1_points_0 17 rfl rfl)
theorem dX1_points_18 : decode cX1_points 18 = .ok (.iand, 1) := dk_126 (dk_at dksX1_points_0 18 rfl rfl)
theorem dX1_points_19 : decode cX1_points 19 = .ok (.iconst 1, 1) := dk_4 (dk_at dksX1_points_0 19 rfl rfl)
theorem dX1_points_20 : decode cX1_points 20 = .ok (.if_icmp .ne 19, 3) := dk_160 0 19 (dk_at dksX1_points_0 20 rfl rfl)
theorem dX1_points_23 : decode cX1_points 23 = .ok (.aload_n 0, 1) := dk_42 (dk_at dksX1_points_0 23 rfl rfl)
theorem dX1_points_24 : decode cX1_points 24 = .ok (.getfield 122, 3) := dk_180 0 122 (dk_at dksX1_points_1 0 rfl rfl)
theorem dX1_points_27 : decode cX1_points 27 = .ok (.iload 5, 2) := dk_21 5 (dk_at dksX1_points_1 3 rfl rfl)
theorem dX1_points_29 : decode cX1_points 29 = .ok (.aaload, 1) := dk_50 (dk_at dksX1_points_1 5 rfl rfl)
theorem dX1_points_30 : decode cX1_points 30 = .ok (.iload_n 1, 1) := dk_27 (dk_at dksX1_points_1 6 rfl rfl)
theorem dX1_points_31 : decode cX1_points 31 = .ok (.iaload, 1) := dk_46 (dk_at dksX1_points_1 7 rfl rfl)
theorem dX1_points_32 : decode cX1_points 32 = .ok (.iload_n 3, 1) := dk_29 (dk_at dksX1_points_1 8 rfl rfl)
theorem dX1_points_33 : decode cX1_points 33 = .ok (.if_icmp .gt 6, 3) := dk_163 0 6 (dk_at dksX1_points_1 9 rfl rfl)
theorem dX1_points_36 : decode cX1_points 36 = .ok (.iinc 4 1, 3) := dk_132 4 1 (dk_at dksX1_points_1 12 rfl rfl)
theorem dX1_points_39 : decode cX1_points 39 = .ok (.iinc 5 1, 3) := dk_132 5 1 (dk_at dksX1_points_1 15 rfl rfl)
theorem dX1_points_42 : decode cX1_points 42 = .ok (.goto (-36), 3) := dk_167 255 220 (dk_at dksX1_points_1 18 rfl rfl)
theorem dX1_points_45 : decode cX1_points 45 = .ok (.iload 4, 2) := dk_21 4 (dk_at dksX1_points_1 21 rfl rfl)
theorem dX1_points_47 : decode cX1_points 47 = .ok (.ifCond .ne 7, 3) := dk_154 0 7 (dk_at dksX1_points_2 0 rfl rfl)
theorem dX1_points_50 : decode cX1_points 50 = .ok (.iconst 0, 1) := dk_3 (dk_at dksX1_points_2 3 rfl rfl)
theorem dX1_points_51 : decode cX1_points 51 = .ok (.goto 14, 3) := dk_167 0 14 (dk_at dksX1_points_2 4 rfl rfl)
theorem dX1_points_54 : decode cX1_points 54 = .ok (.iload 4, 2) := dk_21 4 (dk_at dksX1_points_2 7 rfl rfl)
theorem dX1_points_56 : decode cX1_points 56 = .ok (.iconst 1, 1) := dk_4 (dk_at dksX1_points_2 9 rfl rfl)
theorem dX1_points_57 : decode cX1_points 57 = .ok (.if_icmp .ne 7, 3) := dk_160 0 7 (dk_at dksX1_points_2 10 rfl rfl)
theorem dX1_points_60 : decode cX1_points 60 = .ok (.iconst 2, 1) := dk_5 (dk_at dksX1_points_2 13 rfl rfl)
theorem dX1_points_61 : decode cX1_points 61 = .ok (.goto 4, 3) := dk_167 0 4 (dk_at dksX1_points_2 14 rfl rfl)
theorem dX1_points_64 : decode cX1_points 64 = .ok (.iconst 3, 1) := dk_6 (dk_at dksX1_points_2 17 rfl rfl)
theorem dX1_points_65 : decode cX1_points 65 = .ok (.ireturn, 1) := dk_172 (dk_at dksX1_points_2 18 rfl rfl)
abbrev cX1_planned : ByteArray := prog_1_method_134_code
def yX1_planned : MethodName := ⟨RX1, "planned", "(III)I"⟩
def dkwX1_planned_1 : List UInt8 := [29, 46, 167, 0, 4, 2, 172]
abbrev dktX1_planned_1 : List UInt8 := dkwX1_planned_1 ++ []
def dkwX1_planned_0 : List UInt8 := [42, 27, 28, 182, 3, 55, 153, 0, 23, 29, 3, 27, 4, 100, 184, 0, 3, 153, 0, 12, 42, 180, 0, 131]
abbrev dktX1_planned_0 : List UInt8 := dkwX1_planned_0 ++ dktX1_planned_1
theorem dksX1_planned_0 : cX1_planned.data.toList.drop 0 = dktX1_planned_0 := by decide +kernel
theorem dksX1_planned_1 : cX1_planned.data.toList.drop 24 = dktX1_planned_1 := dk_seg dksX1_planned_0 24 rfl rfl
theorem dX1_planned_0 : decode cX1_planned 0 = .ok (.aload_n 0, 1) := dk_42 (dk_at dksX1_planned_0 0 rfl rfl)
theorem dX1_planned_1 : decode cX1_planned 1 = .ok (.iload_n 1, 1) := dk_27 (dk_at dksX1_planned_0 1 rfl rfl)
theorem dX1_planned_2 : decode cX1_planned 2 = .ok (.iload_n 2, 1) := dk_28 (dk_at dksX1_planned_0 2 rfl rfl)
theorem dX1_planned_3 : decode cX1_planned 3 = .ok (.invokevirtual 823, 3) := dk_182 3 55 (dk_at dksX1_planned_0 3 rfl rfl)
theorem dX1_planned_6 : decode cX1_planned 6 = .ok (.ifCond .eq 23, 3) := dk_153 0 23 (dk_at dksX1_planned_0 6 rfl rfl)
theorem dX1_planned_9 : decode cX1_planned 9 = .ok (.iload_n 3, 1) := dk_29 (dk_at dksX1_planned_0 9 rfl rfl)
theorem dX1_planned_10 : decode cX1_planned 10 = .ok (.iconst 0, 1) := dk_3 (dk_at dksX1_planned_0 10 rfl rfl)
theorem dX1_planned_11 : decode cX1_planned 11 = .ok (.iload_n 1, 1) := dk_27 (dk_at dksX1_planned_0 11 rfl rfl)
theorem dX1_planned_12 : decode cX1_planned 12 = .ok (.iconst 1, 1) := dk_4 (dk_at dksX1_planned_0 12 rfl rfl)
theorem dX1_planned_13 : decode cX1_planned 13 = .ok (.isub, 1) := dk_100 (dk_at dksX1_planned_0 13 rfl rfl)
theorem dX1_planned_14 : decode cX1_planned 14 = .ok (.invokestatic 3, 3) := dk_184 0 3 (dk_at dksX1_planned_0 14 rfl rfl)
theorem dX1_planned_17 : decode cX1_planned 17 = .ok (.ifCond .eq 12, 3) := dk_153 0 12 (dk_at dksX1_planned_0 17 rfl rfl)
theorem dX1_planned_20 : decode cX1_planned 20 = .ok (.aload_n 0, 1) := dk_42 (dk_at dksX1_planned_0 20 rfl rfl)
theorem dX1_planned_21 : decode cX1_planned 21 = .ok (.getfield 131, 3) := dk_180 0 131 (dk_at dksX1_planned_0 21 rfl rfl)
theorem dX1_planned_24 : decode cX1_planned 24 = .ok (.iload_n 3, 1) := dk_29 (dk_at dksX1_planned_1 0 rfl rfl)
theorem dX1_planned_25 : decode cX1_planned 25 = .ok (.iaload, 1) := dk_46 (dk_at dksX1_planned_1 1 rfl rfl)
theorem dX1_planned_26 : decode cX1_planned 26 = .ok (.goto 4, 3) := dk_167 0 4 (dk_at dksX1_planned_1 2 rfl rfl)
theorem dX1_planned_29 : decode cX1_planned 29 = .ok (.iconst (-1), 1) := dk_2 (dk_at dksX1_planned_1 5 rfl rfl)
theorem dX1_planned_30 : decode cX1_planned 30 = .ok (.ireturn, 1) := dk_172 (dk_at dksX1_planned_1 6 rfl rfl)
abbrev cX1_row : ByteArray := prog_1_method_136_code
def yX1_row : MethodName := ⟨RX1, "row", "(I)I"⟩
def dkwX1_row_4 : List UInt8 := [180, 3, 58, 4, 96, 181, 3, 58, 42, 180, 3, 58, 4, 100, 172]
abbrev dktX1_row_4 : List UInt8 := dkwX1_row_4 ++ []
def dkwX1_row_3 : List UInt8 := [167, 0, 10, 187, 3, 70, 89, 183, 3, 72, 83, 42, 180, 0, 140, 42, 180, 3, 58, 27, 79, 42, 89]
abbrev dktX1_row_3 : List UInt8 := dkwX1_row_3 ++ dktX1_row_4
def dkwX1_row_2 : List UInt8 := [187, 3, 64, 89, 183, 3, 66, 167, 0, 25, 27, 5, 160, 0, 13, 187, 3, 67, 89, 183, 3, 69]
abbrev dktX1_row_2 : List UInt8 := dkwX1_row_2 ++ dktX1_row_3
def dkwX1_row_1 : List UInt8 := [42, 180, 3, 58, 27, 154, 0, 13, 187, 3, 61, 89, 183, 3, 63, 167, 0, 40, 27, 4, 160, 0, 13]
abbrev dktX1_row_1 : List UInt8 := dkwX1_row_1 ++ dktX1_row_2
def dkwX1_row_0 : List UInt8 := [27, 3, 6, 184, 0, 3, 153, 0, 12, 42, 180, 3, 58, 16, 6, 160, 0, 5, 2, 172, 42, 180, 0, 136]
abbrev dktX1_row_0 : List UInt8 := dkwX1_row_0 ++ dktX1_row_1
theorem dksX1_row_0 : cX1_row.data.toList.drop 0 = dktX1_row_0 := by decide +kernel
theorem dksX1_row_1 : cX1_row.data.toList.drop 24 = dktX1_row_1 := dk_seg dksX1_row_0 24 rfl rfl
theorem dksX1_row_2 : cX1_row.data.toList.drop 47 = dktX1_row_2 := dk_seg dksX1_row_1 23 rfl rfl
theorem dksX1_row_3 : cX1_row.data.toList.drop 69 = dktX1_row_3 := dk_seg dksX1_row_2 22 rfl rfl
theorem dksX1_row_4 : cX1_row.data.toList.drop 92 = dktX1_row_4 := dk_seg dksX1_row_3 23 rfl rfl
theorem dX1_row_0 : decode cX1_row 0 = .ok (.iload_n 1, 1) := dk_27 (dk_at dksX1_row_0 0 rfl rfl)
theorem dX1_row_1 : decode cX1_row 1 = .ok (.iconst 0, 1) := dk_3 (dk_at dksX1_row_0 1 rfl rfl)
theorem dX1_row_2 : decode cX1_row 2 = .ok (.iconst 3, 1) := dk_6 (dk_at dksX1_row_0 2 rfl rfl)
theorem dX1_row_3 : decode cX1_row 3 = .ok (.invokestatic 3, 3) := dk_184 0 3 (dk_at dksX1_row_0 3 rfl rfl)
theorem dX1_row_6 : decode cX1_row 6 = .ok (.ifCond .eq 12, 3) := dk_153 0 12 (dk_at dksX1_row_0 6 rfl rfl)
theorem dX1_row_9 : decode cX1_row 9 = .ok (.aload_n 0, 1) := dk_42 (dk_at dksX1_row_0 9 rfl rfl)
theorem dX1_row_10 : decode cX1_row 10 = .ok (.getfield 826, 3) := dk_180 3 58 (dk_at dksX1_row_0 10 rfl rfl)
theorem dX1_row_13 : decode cX1_row 13 = .ok (.bipush 6, 2) := dk_16 6 (dk_at dksX1_row_0 13 rfl rfl)
theorem dX1_row_15 : decode cX1_row 15 = .ok (.if_icmp .ne 5, 3) := dk_160 0 5 (dk_at dksX1_row_0 15 rfl rfl)
theorem dX1_row_18 : decode cX1_row 18 = .ok (.iconst (-1), 1) := dk_2 (dk_at dksX1_row_0 18 rfl rfl)
theorem dX1_row_19 : decode cX1_row 19 = .ok (.ireturn, 1) := dk_172 (dk_at dksX1_row_0 19 rfl rfl)
theorem dX1_row_20 : decode cX1_row 20 = .ok (.aload_n 0, 1) := dk_42 (dk_at dksX1_row_0 20 rfl rfl)
theorem dX1_row_21 : decode cX1_row 21 = .ok (.getfield 136, 3) := dk_180 0 136 (dk_at dksX1_row_0 21 rfl rfl)
theorem dX1_row_24 : decode cX1_row 24 = .ok (.aload_n 0, 1) := dk_42 (dk_at dksX1_row_1 0 rfl rfl)
theorem dX1_row_25 : decode cX1_row 25 = .ok (.getfield 826, 3) := dk_180 3 58 (dk_at dksX1_row_1 1 rfl rfl)
theorem dX1_row_28 : decode cX1_row 28 = .ok (.iload_n 1, 1) := dk_27 (dk_at dksX1_row_1 4 rfl rfl)
theorem dX1_row_29 : decode cX1_row 29 = .ok (.ifCond .ne 13, 3) := dk_154 0 13 (dk_at dksX1_row_1 5 rfl rfl)
theorem dX1_row_32 : decode cX1_row 32 = .ok (.new 829, 3) := dk_187 3 61 (dk_at dksX1_row_1 8 rfl rfl)
theorem dX1_row_35 : decode cX1_row 35 = .ok (.dup, 1) := dk_89 (dk_at dksX1_row_1 11 rfl rfl)
theorem dX1_row_36 : decode cX1_row 36 = .ok (.invokespecial 831, 3) := dk_183 3 63 (dk_at dksX1_row_1 12 rfl rfl)
theorem dX1_row_39 : decode cX1_row 39 = .ok (.goto 40, 3) := dk_167 0 40 (dk_at dksX1_row_1 15 rfl rfl)
theorem dX1_row_42 : decode cX1_row 42 = .ok (.iload_n 1, 1) := dk_27 (dk_at dksX1_row_1 18 rfl rfl)
theorem dX1_row_43 : decode cX1_row 43 = .ok (.iconst 1, 1) := dk_4 (dk_at dksX1_row_1 19 rfl rfl)
theorem dX1_row_44 : decode cX1_row 44 = .ok (.if_icmp .ne 13, 3) := dk_160 0 13 (dk_at dksX1_row_1 20 rfl rfl)
theorem dX1_row_47 : decode cX1_row 47 = .ok (.new 832, 3) := dk_187 3 64 (dk_at dksX1_row_2 0 rfl rfl)
theorem dX1_row_50 : decode cX1_row 50 = .ok (.dup, 1) := dk_89 (dk_at dksX1_row_2 3 rfl rfl)
theorem dX1_row_51 : decode cX1_row 51 = .ok (.invokespecial 834, 3) := dk_183 3 66 (dk_at dksX1_row_2 4 rfl rfl)
theorem dX1_row_54 : decode cX1_row 54 = .ok (.goto 25, 3) := dk_167 0 25 (dk_at dksX1_row_2 7 rfl rfl)
theorem dX1_row_57 : decode cX1_row 57 = .ok (.iload_n 1, 1) := dk_27 (dk_at dksX1_row_2 10 rfl rfl)
theorem dX1_row_58 : decode cX1_row 58 = .ok (.iconst 2, 1) := dk_5 (dk_at dksX1_row_2 11 rfl rfl)
theorem dX1_row_59 : decode cX1_row 59 = .ok (.if_icmp .ne 13, 3) := dk_160 0 13 (dk_at dksX1_row_2 12 rfl rfl)
theorem dX1_row_62 : decode cX1_row 62 = .ok (.new 835, 3) := dk_187 3 67 (dk_at dksX1_row_2 15 rfl rfl)
theorem dX1_row_65 : decode cX1_row 65 = .ok (.dup, 1) := dk_89 (dk_at dksX1_row_2 18 rfl rfl)
theorem dX1_row_66 : decode cX1_row 66 = .ok (.invokespecial 837, 3) := dk_183 3 69 (dk_at dksX1_row_2 19 rfl rfl)
theorem dX1_row_69 : decode cX1_row 69 = .ok (.goto 10, 3) := dk_167 0 10 (dk_at dksX1_row_3 0 rfl rfl)
theorem dX1_row_72 : decode cX1_row 72 = .ok (.new 838, 3) := dk_187 3 70 (dk_at dksX1_row_3 3 rfl rfl)
theorem dX1_row_75 : decode cX1_row 75 = .ok (.dup, 1) := dk_89 (dk_at dksX1_row_3 6 rfl rfl)
theorem dX1_row_76 : decode cX1_row 76 = .ok (.invokespecial 840, 3) := dk_183 3 72 (dk_at dksX1_row_3 7 rfl rfl)
theorem dX1_row_79 : decode cX1_row 79 = .ok (.aastore, 1) := dk_83 (dk_at dksX1_row_3 10 rfl rfl)
theorem dX1_row_80 : decode cX1_row 80 = .ok (.aload_n 0, 1) := dk_42 (dk_at dksX1_row_3 11 rfl rfl)
theorem dX1_row_81 : decode cX1_row 81 = .ok (.getfield 140, 3) := dk_180 0 140 (dk_at dksX1_row_3 12 rfl rfl)
theorem dX1_row_84 : decode cX1_row 84 = .ok (.aload_n 0, 1) := dk_42 (dk_at dksX1_row_3 15 rfl rfl)
theorem dX1_row_85 : decode cX1_row 85 = .ok (.getfield 826, 3) := dk_180 3 58 (dk_at dksX1_row_3 16 rfl rfl)
theorem dX1_row_88 : decode cX1_row 88 = .ok (.iload_n 1, 1) := dk_27 (dk_at dksX1_row_3 19 rfl rfl)
theorem dX1_row_89 : decode cX1_row 89 = .ok (.iastore, 1) := dk_79 (dk_at dksX1_row_3 20 rfl rfl)
theorem dX1_row_90 : decode cX1_row 90 = .ok (.aload_n 0, 1) := dk_42 (dk_at dksX1_row_3 21 rfl rfl)
theorem dX1_row_91 : decode cX1_row 91 = .ok (.dup, 1) := dk_89 (dk_at dksX1_row_3 22 rfl rfl)
theorem dX1_row_92 : decode cX1_row 92 = .ok (.getfield 826, 3) := dk_180 3 58 (dk_at dksX1_row_4 0 rfl rfl)
theorem dX1_row_95 : decode cX1_row 95 = .ok (.iconst 1, 1) := dk_4 (dk_at dksX1_row_4 3 rfl rfl)
theorem dX1_row_96 : decode cX1_row 96 = .ok (.iadd, 1) := dk_96 (dk_at dksX1_row_4 4 rfl rfl)
theorem dX1_row_97 : decode cX1_row 97 = .ok (.putfield 826, 3) := dk_181 3 58 (dk_at dksX1_row_4 5 rfl rfl)
theorem dX1_row_100 : decode cX1_row 100 = .ok (.aload_n 0, 1) := dk_42 (dk_at dksX1_row_4 8 rfl rfl)
theorem dX1_row_101 : decode cX1_row 101 = .ok (.getfield 826, 3) := dk_180 3 58 (dk_at dksX1_row_4 9 rfl rfl)
theorem dX1_row_104 : decode cX1_row 104 = .ok (.iconst 1, 1) := dk_4 (dk_at dksX1_row_4 12 rfl rfl)
theorem dX1_row_105 : decode cX1_row 105 = .ok (.isub, 1) := dk_100 (dk_at dksX1_row_4 13 rfl rfl)
theorem dX1_row_106 : decode cX1_row 106 = .ok (.ireturn, 1) := dk_172 (dk_at dksX1_row_4 14 rfl rfl)
abbrev cX1_put : ByteArray := prog_1_method_137_code
def yX1_put : MethodName := ⟨RX1, "put", "(III)Z"⟩
def dkwX1_put_2 : List UInt8 := [182, 3, 78, 4, 172]
abbrev dktX1_put_2 : List UInt8 := dkwX1_put_2 ++ []
def dkwX1_put_1 : List UInt8 := [29, 19, 3, 76, 19, 3, 77, 184, 0, 3, 154, 0, 5, 3, 172, 42, 180, 0, 136, 27, 50, 28, 29]
abbrev dktX1_put_1 : List UInt8 := dkwX1_put_1 ++ dktX1_put_2
def dkwX1_put_0 : List UInt8 := [42, 27, 182, 3, 73, 153, 0, 32, 42, 180, 0, 136, 27, 50, 198, 0, 23, 28, 184, 0, 143, 153, 0, 16]
abbrev dktX1_put_0 : List UInt8 := dkwX1_put_0 ++ dktX1_put_1
theorem dksX1_put_0 : cX1_put.data.toList.drop 0 = dktX1_put_0 := by decide +kernel
theorem dksX1_put_1 : cX1_put.data.toList.drop 24 = dktX1_put_1 := dk_seg dksX1_put_0 24 rfl rfl
theorem dksX1_put_2 : cX1_put.data.toList.drop 47 = dktX1_put_2 := dk_seg dksX1_put_1 23 rfl rfl
theorem dX1_put_0 : decode cX1_put 0 = .ok (.aload_n 0, 1) := dk_42 (dk_at dksX1_put_0 0 rfl rfl)
theorem dX1_put_1 : decode cX1_put 1 = .ok (.iload_n 1, 1) := dk_27 (dk_at dksX1_put_0 1 rfl rfl)
theorem dX1_put_2 : decode cX1_put 2 = .ok (.invokevirtual 841, 3) := dk_182 3 73 (dk_at dksX1_put_0 2 rfl rfl)
theorem dX1_put_5 : decode cX1_put 5 = .ok (.ifCond .eq 32, 3) := dk_153 0 32 (dk_at dksX1_put_0 5 rfl rfl)
theorem dX1_put_8 : decode cX1_put 8 = .ok (.aload_n 0, 1) := dk_42 (dk_at dksX1_put_0 8 rfl rfl)
theorem dX1_put_9 : decode cX1_put 9 = .ok (.getfield 136, 3) := dk_180 0 136 (dk_at dksX1_put_0 9 rfl rfl)
theorem dX1_put_12 : decode cX1_put 12 = .ok (.iload_n 1, 1) := dk_27 (dk_at dksX1_put_0 12 rfl rfl)
theorem dX1_put_13 : decode cX1_put 13 = .ok (.aaload, 1) := dk_50 (dk_at dksX1_put_0 13 rfl rfl)
theorem dX1_put_14 : decode cX1_put 14 = .ok (.ifnull 23, 3) := dk_198 0 23 (dk_at dksX1_put_0 14 rfl rfl)
theorem dX1_put_17 : decode cX1_put 17 = .ok (.iload_n 2, 1) := dk_28 (dk_at dksX1_put_0 17 rfl rfl)
theorem dX1_put_18 : decode cX1_put 18 = .ok (.invokestatic 143, 3) := dk_184 0 143 (dk_at dksX1_put_0 18 rfl rfl)
theorem dX1_put_21 : decode cX1_put 21 = .ok (.ifCond .eq 16, 3) := dk_153 0 16 (dk_at dksX1_put_0 21 rfl rfl)
theorem dX1_put_24 : decode cX1_put 24 = .ok (.iload_n 3, 1) := dk_29 (dk_at dksX1_put_1 0 rfl rfl)
theorem dX1_put_25 : decode cX1_put 25 = .ok (.ldc_w 844, 3) := dk_19 3 76 (dk_at dksX1_put_1 1 rfl rfl)
theorem dX1_put_28 : decode cX1_put 28 = .ok (.ldc_w 845, 3) := dk_19 3 77 (dk_at dksX1_put_1 4 rfl rfl)
theorem dX1_put_31 : decode cX1_put 31 = .ok (.invokestatic 3, 3) := dk_184 0 3 (dk_at dksX1_put_1 7 rfl rfl)
theorem dX1_put_34 : decode cX1_put 34 = .ok (.ifCond .ne 5, 3) := dk_154 0 5 (dk_at dksX1_put_1 10 rfl rfl)
theorem dX1_put_37 : decode cX1_put 37 = .ok (.iconst 0, 1) := dk_3 (dk_at dksX1_put_1 13 rfl rfl)
theorem dX1_put_38 : decode cX1_put 38 = .ok (.ireturn, 1) := dk_172 (dk_at dksX1_put_1 14 rfl rfl)
theorem dX1_put_39 : decode cX1_put 39 = .ok (.aload_n 0, 1) := dk_42 (dk_at dksX1_put_1 15 rfl rfl)
theorem dX1_put_40 : decode cX1_put 40 = .ok (.getfield 136, 3) := dk_180 0 136 (dk_at dksX1_put_1 16 rfl rfl)
theorem dX1_put_43 : decode cX1_put 43 = .ok (.iload_n 1, 1) := dk_27 (dk_at dksX1_put_1 19 rfl rfl)
theorem dX1_put_44 : decode cX1_put 44 = .ok (.aaload, 1) := dk_50 (dk_at dksX1_put_1 20 rfl rfl)
theorem dX1_put_45 : decode cX1_put 45 = .ok (.iload_n 2, 1) := dk_28 (dk_at dksX1_put_1 21 rfl rfl)
theorem dX1_put_46 : decode cX1_put 46 = .ok (.iload_n 3, 1) := dk_29 (dk_at dksX1_put_1 22 rfl rfl)
theorem dX1_put_47 : decode cX1_put 47 = .ok (.invokevirtual 846, 3) := dk_182 3 78 (dk_at dksX1_put_2 0 rfl rfl)
theorem dX1_put_50 : decode cX1_put 50 = .ok (.iconst 1, 1) := dk_4 (dk_at dksX1_put_2 3 rfl rfl)
theorem dX1_put_51 : decode cX1_put 51 = .ok (.ireturn, 1) := dk_172 (dk_at dksX1_put_2 4 rfl rfl)
abbrev cX1_isRow : ByteArray := prog_1_method_135_code
def yX1_isRow : MethodName := ⟨RX1, "isRow", "(I)Z"⟩
def dkwX1_isRow_0 : List UInt8 := [27, 3, 42, 180, 3, 58, 4, 100, 184, 0, 3, 172]
abbrev dktX1_isRow_0 : List UInt8 := dkwX1_isRow_0 ++ []
theorem dksX1_isRow_0 : cX1_isRow.data.toList.drop 0 = dktX1_isRow_0 := by decide +kernel
theorem dX1_isRow_0 : decode cX1_isRow 0 = .ok (.iload_n 1, 1) := dk_27 (dk_at dksX1_isRow_0 0 rfl rfl)
theorem dX1_isRow_1 : decode cX1_isRow 1 = .ok (.iconst 0, 1) := dk_3 (dk_at dksX1_isRow_0 1 rfl rfl)
theorem dX1_isRow_2 : decode cX1_isRow 2 = .ok (.aload_n 0, 1) := dk_42 (dk_at dksX1_isRow_0 2 rfl rfl)
theorem dX1_isRow_3 : decode cX1_isRow 3 = .ok (.getfield 826, 3) := dk_180 3 58 (dk_at dksX1_isRow_0 3 rfl rfl)
theorem dX1_isRow_6 : decode cX1_isRow 6 = .ok (.iconst 1, 1) := dk_4 (dk_at dksX1_isRow_0 6 rfl rfl)
theorem dX1_isRow_7 : decode cX1_isRow 7 = .ok (.isub, 1) := dk_100 (dk_at dksX1_isRow_0 7 rfl rfl)
theorem dX1_isRow_8 : decode cX1_isRow 8 = .ok (.invokestatic 3, 3) := dk_184 0 3 (dk_at dksX1_isRow_0 8 rfl rfl)
theorem dX1_isRow_11 : decode cX1_isRow 11 = .ok (.ireturn, 1) := dk_172 (dk_at dksX1_isRow_0 11 rfl rfl)
abbrev cX1_lose : ByteArray := prog_1_method_138_code
def yX1_lose : MethodName := ⟨RX1, "lose", "(I)Z"⟩
def dkwX1_lose_1 : List UInt8 := [1, 83, 4, 172]
abbrev dktX1_lose_1 : List UInt8 := dkwX1_lose_1 ++ []
def dkwX1_lose_0 : List UInt8 := [42, 27, 182, 3, 73, 153, 0, 12, 42, 180, 0, 136, 27, 50, 199, 0, 5, 3, 172, 42, 180, 0, 136, 27]
abbrev dktX1_lose_0 : List UInt8 := dkwX1_lose_0 ++ dktX1_lose_1
theorem dksX1_lose_0 : cX1_lose.data.toList.drop 0 = dktX1_lose_0 := by decide +kernel
theorem dksX1_lose_1 : cX1_lose.data.toList.drop 24 = dktX1_lose_1 := dk_seg dksX1_lose_0 24 rfl rfl
theorem dX1_lose_0 : decode cX1_lose 0 = .ok (.aload_n 0, 1) := dk_42 (dk_at dksX1_lose_0 0 rfl rfl)
theorem dX1_lose_1 : decode cX1_lose 1 = .ok (.iload_n 1, 1) := dk_27 (dk_at dksX1_lose_0 1 rfl rfl)
theorem dX1_lose_2 : decode cX1_lose 2 = .ok (.invokevirtual 841, 3) := dk_182 3 73 (dk_at dksX1_lose_0 2 rfl rfl)
theorem dX1_lose_5 : decode cX1_lose 5 = .ok (.ifCond .eq 12, 3) := dk_153 0 12 (dk_at dksX1_lose_0 5 rfl rfl)
theorem dX1_lose_8 : decode cX1_lose 8 = .ok (.aload_n 0, 1) := dk_42 (dk_at dksX1_lose_0 8 rfl rfl)
theorem dX1_lose_9 : decode cX1_lose 9 = .ok (.getfield 136, 3) := dk_180 0 136 (dk_at dksX1_lose_0 9 rfl rfl)
theorem dX1_lose_12 : decode cX1_lose 12 = .ok (.iload_n 1, 1) := dk_27 (dk_at dksX1_lose_0 12 rfl rfl)
theorem dX1_lose_13 : decode cX1_lose 13 = .ok (.aaload, 1) := dk_50 (dk_at dksX1_lose_0 13 rfl rfl)
theorem dX1_lose_14 : decode cX1_lose 14 = .ok (.ifnonnull 5, 3) := dk_199 0 5 (dk_at dksX1_lose_0 14 rfl rfl)
theorem dX1_lose_17 : decode cX1_lose 17 = .ok (.iconst 0, 1) := dk_3 (dk_at dksX1_lose_0 17 rfl rfl)
theorem dX1_lose_18 : decode cX1_lose 18 = .ok (.ireturn, 1) := dk_172 (dk_at dksX1_lose_0 18 rfl rfl)
theorem dX1_lose_19 : decode cX1_lose 19 = .ok (.aload_n 0, 1) := dk_42 (dk_at dksX1_lose_0 19 rfl rfl)
theorem dX1_lose_20 : decode cX1_lose 20 = .ok (.getfield 136, 3) := dk_180 0 136 (dk_at dksX1_lose_0 20 rfl rfl)
theorem dX1_lose_23 : decode cX1_lose 23 = .ok (.iload_n 1, 1) := dk_27 (dk_at dksX1_lose_0 23 rfl rfl)
theorem dX1_lose_24 : decode cX1_lose 24 = .ok (.aconst_null, 1) := dk_1 (dk_at dksX1_lose_1 0 rfl rfl)
theorem dX1_lose_25 : decode cX1_lose 25 = .ok (.aastore, 1) := dk_83 (dk_at dksX1_lose_1 1 rfl rfl)
theorem dX1_lose_26 : decode cX1_lose 26 = .ok (.iconst 1, 1) := dk_4 (dk_at dksX1_lose_1 2 rfl rfl)
theorem dX1_lose_27 : decode cX1_lose 27 = .ok (.ireturn, 1) := dk_172 (dk_at dksX1_lose_1 3 rfl rfl)
abbrev cX1_copy : ByteArray := prog_1_method_139_code
def yX1_copy : MethodName := ⟨RX1, "copy", "(IIIII)I"⟩
def dkwX1_copy_3 : List UInt8 := [182, 3, 81, 3, 172, 58, 6, 7, 172]
abbrev dktX1_copy_3 : List UInt8 := dkwX1_copy_3 ++ []
def dkwX1_copy_2 : List UInt8 := [29, 46, 159, 0, 5, 6, 172, 42, 180, 0, 136, 27, 50, 28, 42, 180, 0, 136, 29, 50, 21, 4, 21, 5]
abbrev dktX1_copy_2 : List UInt8 := dkwX1_copy_2 ++ dktX1_copy_3
def dkwX1_copy_1 : List UInt8 := [198, 0, 12, 42, 180, 0, 136, 29, 50, 199, 0, 5, 5, 172, 42, 180, 0, 140, 27, 46, 42, 180, 0, 140]
abbrev dktX1_copy_1 : List UInt8 := dkwX1_copy_1 ++ dktX1_copy_2
def dkwX1_copy_0 : List UInt8 := [42, 27, 182, 3, 73, 153, 0, 11, 42, 29, 182, 3, 73, 154, 0, 5, 4, 172, 42, 180, 0, 136, 27, 50]
abbrev dktX1_copy_0 : List UInt8 := dkwX1_copy_0 ++ dktX1_copy_1
theorem dksX1_copy_0 : cX1_copy.data.toList.drop 0 = dktX1_copy_0 := by decide +kernel
theorem dksX1_copy_1 : cX1_copy.data.toList.drop 24 = dktX1_copy_1 := dk_seg dksX1_copy_0 24 rfl rfl
theorem dksX1_copy_2 : cX1_copy.data.toList.drop 48 = dktX1_copy_2 := dk_seg dksX1_copy_1 24 rfl rfl
theorem dksX1_copy_3 : cX1_copy.data.toList.drop 72 = dktX1_copy_3 := dk_seg dksX1_copy_2 24 rfl rfl
theorem dX1_copy_0 : decode cX1_copy 0 = .ok (.aload_n 0, 1) := dk_42 (dk_at dksX1_copy_0 0 rfl rfl)
theorem dX1_copy_1 : decode cX1_copy 1 = .ok (.iload_n 1, 1) := dk_27 (dk_at dksX1_copy_0 1 rfl rfl)
theorem dX1_copy_2 : decode cX1_copy 2 = .ok (.invokevirtual 841, 3) := dk_182 3 73 (dk_at dksX1_copy_0 2 rfl rfl)
theorem dX1_copy_5 : decode cX1_copy 5 = .ok (.ifCond .eq 11, 3) := dk_153 0 11 (dk_at dksX1_copy_0 5 rfl rfl)
theorem dX1_copy_8 : decode cX1_copy 8 = .ok (.aload_n 0, 1) := dk_42 (dk_at dksX1_copy_0 8 rfl rfl)
theorem dX1_copy_9 : decode cX1_copy 9 = .ok (.iload_n 3, 1) := dk_29 (dk_at dksX1_copy_0 9 rfl rfl)
theorem dX1_copy_10 : decode cX1_copy 10 = .ok (.invokevirtual 841, 3) := dk_182 3 73 (dk_at dksX1_copy_0 10 rfl rfl)
theorem dX1_copy_13 : decode cX1_copy 13 = .ok (.ifCond .ne 5, 3) := dk_154 0 5 (dk_at dksX1_copy_0 13 rfl rfl)
theorem dX1_copy_16 : decode cX1_copy 16 = .ok (.iconst 1, 1) := dk_4 (dk_at dksX1_copy_0 16 rfl rfl)
theorem dX1_copy_17 : decode cX1_copy 17 = .ok (.ireturn, 1) := dk_172 (dk_at dksX1_copy_0 17 rfl rfl)
theorem dX1_copy_18 : decode cX1_copy 18 = .ok (.aload_n 0, 1) := dk_42 (dk_at dksX1_copy_0 18 rfl rfl)
theorem dX1_copy_19 : decode cX1_copy 19 = .ok (.getfield 136, 3) := dk_180 0 136 (dk_at dksX1_copy_0 19 rfl rfl)
theorem dX1_copy_22 : decode cX1_copy 22 = .ok (.iload_n 1, 1) := dk_27 (dk_at dksX1_copy_0 22 rfl rfl)
theorem dX1_copy_23 : decode cX1_copy 23 = .ok (.aaload, 1) := dk_50 (dk_at dksX1_copy_0 23 rfl rfl)
theorem dX1_copy_24 : decode cX1_copy 24 = .ok (.ifnull 12, 3) := dk_198 0 12 (dk_at dksX1_copy_1 0 rfl rfl)
theorem dX1_copy_27 : decode cX1_copy 27 = .ok (.aload_n 0, 1) := dk_42 (dk_at dksX1_copy_1 3 rfl rfl)
theorem dX1_copy_28 : decode cX1_copy 28 = .ok (.getfield 136, 3) := dk_180 0 136 (dk_at dksX1_copy_1 4 rfl rfl)
theorem dX1_copy_31 : decode cX1_copy 31 = .ok (.iload_n 3, 1) := dk_29 (dk_at dksX1_copy_1 7 rfl rfl)
theorem dX1_copy_32 : decode cX1_copy 32 = .ok (.aaload, 1) := dk_50 (dk_at dksX1_copy_1 8 rfl rfl)
theorem dX1_copy_33 : decode cX1_copy 33 = .ok (.ifnonnull 5, 3) := dk_199 0 5 (dk_at dksX1_copy_1 9 rfl rfl)
theorem dX1_copy_36 : decode cX1_copy 36 = .ok (.iconst 2, 1) := dk_5 (dk_at dksX1_copy_1 12 rfl rfl)
theorem dX1_copy_37 : decode cX1_copy 37 = .ok (.ireturn, 1) := dk_172 (dk_at dksX1_copy_1 13 rfl rfl)
theorem dX1_copy_38 : decode cX1_copy 38 = .ok (.aload_n 0, 1) := dk_42 (dk_at dksX1_copy_1 14 rfl rfl)
theorem dX1_copy_39 : decode cX1_copy 39 = .ok (.getfield 140, 3) := dk_180 0 140 (dk_at dksX1_copy_1 15 rfl rfl)
theorem dX1_copy_42 : decode cX1_copy 42 = .ok (.iload_n 1, 1) := dk_27 (dk_at dksX1_copy_1 18 rfl rfl)
theorem dX1_copy_43 : decode cX1_copy 43 = .ok (.iaload, 1) := dk_46 (dk_at dksX1_copy_1 19 rfl rfl)
theorem dX1_copy_44 : decode cX1_copy 44 = .ok (.aload_n 0, 1) := dk_42 (dk_at dksX1_copy_1 20 rfl rfl)
theorem dX1_copy_45 : decode cX1_copy 45 = .ok (.getfield 140, 3) := dk_180 0 140 (dk_at dksX1_copy_1 21 rfl rfl)
theorem dX1_copy_48 : decode cX1_copy 48 = .ok (.iload_n 3, 1) := dk_29 (dk_at dksX1_copy_2 0 rfl rfl)
theorem dX1_copy_49 : decode cX1_copy 49 = .ok (.iaload, 1) := dk_46 (dk_at dksX1_copy_2 1 rfl rfl)
theorem dX1_copy_50 : decode cX1_copy 50 = .ok (.if_icmp .eq 5, 3) := dk_159 0 5 (dk_at dksX1_copy_2 2 rfl rfl)
theorem dX1_copy_53 : decode cX1_copy 53 = .ok (.iconst 3, 1) := dk_6 (dk_at dksX1_copy_2 5 rfl rfl)
theorem dX1_copy_54 : decode cX1_copy 54 = .ok (.ireturn, 1) := dk_172 (dk_at dksX1_copy_2 6 rfl rfl)
theorem dX1_copy_55 : decode cX1_copy 55 = .ok (.aload_n 0, 1) := dk_42 (dk_at dksX1_copy_2 7 rfl rfl)
theorem dX1_copy_56 : decode cX1_copy 56 = .ok (.getfield 136, 3) := dk_180 0 136 (dk_at dksX1_copy_2 8 rfl rfl)
theorem dX1_copy_59 : decode cX1_copy 59 = .ok (.iload_n 1, 1) := dk_27 (dk_at dksX1_copy_2 11 rfl rfl)
theorem dX1_copy_60 : decode cX1_copy 60 = .ok (.aaload, 1) := dk_50 (dk_at dksX1_copy_2 12 rfl rfl)
theorem dX1_copy_61 : decode cX1_copy 61 = .ok (.iload_n 2, 1) := dk_28 (dk_at dksX1_copy_2 13 rfl rfl)
theorem dX1_copy_62 : decode cX1_copy 62 = .ok (.aload_n 0, 1) := dk_42 (dk_at dksX1_copy_2 14 rfl rfl)
theorem dX1_copy_63 : decode cX1_copy 63 = .ok (.getfield 136, 3) := dk_180 0 136 (dk_at dksX1_copy_2 15 rfl rfl)
theorem dX1_copy_66 : decode cX1_copy 66 = .ok (.iload_n 3, 1) := dk_29 (dk_at dksX1_copy_2 18 rfl rfl)
theorem dX1_copy_67 : decode cX1_copy 67 = .ok (.aaload, 1) := dk_50 (dk_at dksX1_copy_2 19 rfl rfl)
theorem dX1_copy_68 : decode cX1_copy 68 = .ok (.iload 4, 2) := dk_21 4 (dk_at dksX1_copy_2 20 rfl rfl)
theorem dX1_copy_70 : decode cX1_copy 70 = .ok (.iload 5, 2) := dk_21 5 (dk_at dksX1_copy_2 22 rfl rfl)
theorem dX1_copy_72 : decode cX1_copy 72 = .ok (.invokevirtual 849, 3) := dk_182 3 81 (dk_at dksX1_copy_3 0 rfl rfl)
theorem dX1_copy_75 : decode cX1_copy 75 = .ok (.iconst 0, 1) := dk_3 (dk_at dksX1_copy_3 3 rfl rfl)
theorem dX1_copy_76 : decode cX1_copy 76 = .ok (.ireturn, 1) := dk_172 (dk_at dksX1_copy_3 4 rfl rfl)
theorem dX1_copy_77 : decode cX1_copy 77 = .ok (.astore 6, 2) := dk_58 6 (dk_at dksX1_copy_3 5 rfl rfl)
theorem dX1_copy_79 : decode cX1_copy 79 = .ok (.iconst 4, 1) := dk_7 (dk_at dksX1_copy_3 7 rfl rfl)
theorem dX1_copy_80 : decode cX1_copy 80 = .ok (.ireturn, 1) := dk_172 (dk_at dksX1_copy_3 8 rfl rfl)
abbrev cX1_judge : ByteArray := prog_1_method_142_code
def yX1_judge : MethodName := ⟨RX1, "judge", "(III)D"⟩
def dkwX1_judge_1 : List UInt8 := [50, 28, 29, 182, 3, 100, 175]
abbrev dktX1_judge_1 : List UInt8 := dkwX1_judge_1 ++ []
def dkwX1_judge_0 : List UInt8 := [42, 27, 28, 29, 182, 3, 93, 154, 0, 7, 20, 3, 98, 175, 42, 182, 3, 52, 42, 42, 180, 0, 136, 27]
abbrev dktX1_judge_0 : List UInt8 := dkwX1_judge_0 ++ dktX1_judge_1
theorem dksX1_judge_0 : cX1_judge.data.toList.drop 0 = dktX1_judge_0 := by decide +kernel
theorem dksX1_judge_1 : cX1_judge.data.toList.drop 24 = dktX1_judge_1 := dk_seg dksX1_judge_0 24 rfl rfl
theorem dX1_judge_0 : decode cX1_judge 0 = .ok (.aload_n 0, 1) := dk_42 (dk_at dksX1_judge_0 0 rfl rfl)
theorem dX1_judge_1 : decode cX1_judge 1 = .ok (.iload_n 1, 1) := dk_27 (dk_at dksX1_judge_0 1 rfl rfl)
theorem dX1_judge_2 : decode cX1_judge 2 = .ok (.iload_n 2, 1) := dk_28 (dk_at dksX1_judge_0 2 rfl rfl)
theorem dX1_judge_3 : decode cX1_judge 3 = .ok (.iload_n 3, 1) := dk_29 (dk_at dksX1_judge_0 3 rfl rfl)
theorem dX1_judge_4 : decode cX1_judge 4 = .ok (.invokevirtual 861, 3) := dk_182 3 93 (dk_at dksX1_judge_0 4 rfl rfl)
theorem dX1_judge_7 : decode cX1_judge 7 = .ok (.ifCond .ne 7, 3) := dk_154 0 7 (dk_at dksX1_judge_0 7 rfl rfl)
theorem dX1_judge_10 : decode cX1_judge 10 = .ok (.ldc2_w 866, 3) := dk_20 3 98 (dk_at dksX1_judge_0 10 rfl rfl)
theorem dX1_judge_13 : decode cX1_judge 13 = .ok (.dreturn, 1) := dk_175 (dk_at dksX1_judge_0 13 rfl rfl)
theorem dX1_judge_14 : decode cX1_judge 14 = .ok (.aload_n 0, 1) := dk_42 (dk_at dksX1_judge_0 14 rfl rfl)
theorem dX1_judge_15 : decode cX1_judge 15 = .ok (.invokevirtual 820, 3) := dk_182 3 52 (dk_at dksX1_judge_0 15 rfl rfl)
theorem dX1_judge_18 : decode cX1_judge 18 = .ok (.aload_n 0, 1) := dk_42 (dk_at dksX1_judge_0 18 rfl rfl)
theorem dX1_judge_19 : decode cX1_judge 19 = .ok (.aload_n 0, 1) := dk_42 (dk_at dksX1_judge_0 19 rfl rfl)
theorem dX1_judge_20 : decode cX1_judge 20 = .ok (.getfield 136, 3) := dk_180 0 136 (dk_at dksX1_judge_0 20 rfl rfl)
theorem dX1_judge_23 : decode cX1_judge 23 = .ok (.iload_n 1, 1) := dk_27 (dk_at dksX1_judge_0 23 rfl rfl)
theorem dX1_judge_24 : decode cX1_judge 24 = .ok (.aaload, 1) := dk_50 (dk_at dksX1_judge_1 0 rfl rfl)
theorem dX1_judge_25 : decode cX1_judge 25 = .ok (.iload_n 2, 1) := dk_28 (dk_at dksX1_judge_1 1 rfl rfl)
theorem dX1_judge_26 : decode cX1_judge 26 = .ok (.iload_n 3, 1) := dk_29 (dk_at dksX1_judge_1 2 rfl rfl)
theorem dX1_judge_27 : decode cX1_judge 27 = .ok (.invokevirtual 868, 3) := dk_182 3 100 (dk_at dksX1_judge_1 3 rfl rfl)
theorem dX1_judge_30 : decode cX1_judge 30 = .ok (.dreturn, 1) := dk_175 (dk_at dksX1_judge_1 6 rfl rfl)
abbrev cX1_isJudged : ByteArray := prog_1_method_141_code
def yX1_isJudged : MethodName := ⟨RX1, "isJudged", "(III)Z"⟩
def dkwX1_isJudged_1 : List UInt8 := [184, 0, 3, 153, 0, 17, 29, 3, 16, 100, 184, 0, 3, 153, 0, 7, 4, 167, 0, 4, 3, 172]
abbrev dktX1_isJudged_1 : List UInt8 := dkwX1_isJudged_1 ++ []
def dkwX1_isJudged_0 : List UInt8 := [42, 27, 182, 3, 73, 153, 0, 37, 42, 180, 0, 136, 27, 50, 198, 0, 28, 28, 3, 19, 3, 92]
abbrev dktX1_isJudged_0 : List UInt8 := dkwX1_isJudged_0 ++ dktX1_isJudged_1
theorem dksX1_isJudged_0 : cX1_isJudged.data.toList.drop 0 = dktX1_isJudged_0 := by decide +kernel
theorem dksX1_isJudged_1 : cX1_isJudged.data.toList.drop 22 = dktX1_isJudged_1 := dk_seg dksX1_isJudged_0 22 rfl rfl
theorem dX1_isJudged_0 : decode cX1_isJudged 0 = .ok (.aload_n 0, 1) := dk_42 (dk_at dksX1_isJudged_0 0 rfl rfl)
theorem dX1_isJudged_1 : decode cX1_isJudged 1 = .ok (.iload_n 1, 1) := dk_27 (dk_at dksX1_isJudged_0 1 rfl rfl)
theorem dX1_isJudged_2 : decode cX1_isJudged 2 = .ok (.invokevirtual 841, 3) := dk_182 3 73 (dk_at dksX1_isJudged_0 2 rfl rfl)
theorem dX1_isJudged_5 : decode cX1_isJudged 5 = .ok (.ifCond .eq 37, 3) := dk_153 0 37 (dk_at dksX1_isJudged_0 5 rfl rfl)
theorem dX1_isJudged_8 : decode cX1_isJudged 8 = .ok (.aload_n 0, 1) := dk_42 (dk_at dksX1_isJudged_0 8 rfl rfl)
theorem dX1_isJudged_9 : decode cX1_isJudged 9 = .ok (.getfield 136, 3) := dk_180 0 136 (dk_at dksX1_isJudged_0 9 rfl rfl)
theorem dX1_isJudged_12 : decode cX1_isJudged 12 = .ok (.iload_n 1, 1) := dk_27 (dk_at dksX1_isJudged_0 12 rfl rfl)
theorem dX1_isJudged_13 : decode cX1_isJudged 13 = .ok (.aaload, 1) := dk_50 (dk_at dksX1_isJudged_0 13 rfl rfl)
theorem dX1_isJudged_14 : decode cX1_isJudged 14 = .ok (.ifnull 28, 3) := dk_198 0 28 (dk_at dksX1_isJudged_0 14 rfl rfl)
theorem dX1_isJudged_17 : decode cX1_isJudged 17 = .ok (.iload_n 2, 1) := dk_28 (dk_at dksX1_isJudged_0 17 rfl rfl)
theorem dX1_isJudged_18 : decode cX1_isJudged 18 = .ok (.iconst 0, 1) := dk_3 (dk_at dksX1_isJudged_0 18 rfl rfl)
theorem dX1_isJudged_19 : decode cX1_isJudged 19 = .ok (.ldc_w 860, 3) := dk_19 3 92 (dk_at dksX1_isJudged_0 19 rfl rfl)
theorem dX1_isJudged_22 : decode cX1_isJudged 22 = .ok (.invokestatic 3, 3) := dk_184 0 3 (dk_at dksX1_isJudged_1 0 rfl rfl)
theorem dX1_isJudged_25 : decode cX1_isJudged 25 = .ok (.ifCond .eq 17, 3) := dk_153 0 17 (dk_at dksX1_isJudged_1 3 rfl rfl)
theorem dX1_isJudged_28 : decode cX1_isJudged 28 = .ok (.iload_n 3, 1) := dk_29 (dk_at dksX1_isJudged_1 6 rfl rfl)
theorem dX1_isJudged_29 : decode cX1_isJudged 29 = .ok (.iconst 0, 1) := dk_3 (dk_at dksX1_isJudged_1 7 rfl rfl)
theorem dX1_isJudged_30 : decode cX1_isJudged 30 = .ok (.bipush 100, 2) := dk_16 100 (dk_at dksX1_isJudged_1 8 rfl rfl)
theorem dX1_isJudged_32 : decode cX1_isJudged 32 = .ok (.invokestatic 3, 3) := dk_184 0 3 (dk_at dksX1_isJudged_1 10 rfl rfl)
theorem dX1_isJudged_35 : decode cX1_isJudged 35 = .ok (.ifCond .eq 7, 3) := dk_153 0 7 (dk_at dksX1_isJudged_1 13 rfl rfl)
theorem dX1_isJudged_38 : decode cX1_isJudged 38 = .ok (.iconst 1, 1) := dk_4 (dk_at dksX1_isJudged_1 16 rfl rfl)
theorem dX1_isJudged_39 : decode cX1_isJudged 39 = .ok (.goto 4, 3) := dk_167 0 4 (dk_at dksX1_isJudged_1 17 rfl rfl)
theorem dX1_isJudged_42 : decode cX1_isJudged 42 = .ok (.iconst 0, 1) := dk_3 (dk_at dksX1_isJudged_1 20 rfl rfl)
theorem dX1_isJudged_43 : decode cX1_isJudged 43 = .ok (.ireturn, 1) := dk_172 (dk_at dksX1_isJudged_1 21 rfl rfl)
abbrev cX1_judged : ByteArray := prog_1_method_140_code
def yX1_judged : MethodName := ⟨RX1, "judged", "(LCityBrigade$Row;II)D"⟩
def dkwX1_judged_2 : List UInt8 := [107, 99, 57, 4, 132, 6, 1, 167, 255, 208, 24, 4, 175]
abbrev dktX1_judged_2 : List UInt8 := dkwX1_judged_2 ++ []
def dkwX1_judged_1 : List UInt8 := [24, 7, 151, 153, 0, 8, 20, 3, 90, 57, 7, 24, 4, 24, 7, 42, 21, 6, 28, 29, 182, 3, 43, 135]
abbrev dktX1_judged_1 : List UInt8 := dkwX1_judged_1 ++ dktX1_judged_2
def dkwX1_judged_0 : List UInt8 := [14, 57, 4, 3, 54, 6, 21, 6, 16, 20, 162, 0, 47, 43, 21, 6, 182, 3, 86, 57, 7, 24, 7]
abbrev dktX1_judged_0 : List UInt8 := dkwX1_judged_0 ++ dktX1_judged_1
theorem dksX1_judged_0 : cX1_judged.data.toList.drop 0 = dktX1_judged_0 := by decide +kernel
theorem dksX1_judged_1 : cX1_judged.data.toList.drop 23 = dktX1_judged_1 := dk_seg dksX1_judged_0 23 rfl rfl
theorem dksX1_judged_2 : cX1_judged.data.toList.drop 47 = dktX1_judged_2 := dk_seg dksX1_judged_1 24 rfl rfl
theorem dX1_judged_0 : decode cX1_judged 0 = .ok (.dconst 0, 1) := dk_14 (dk_at dksX1_judged_0 0 rfl rfl)
theorem dX1_judged_1 : decode cX1_judged 1 = .ok (.dstore 4, 2) := dk_57 4 (dk_at dksX1_judged_0 1 rfl rfl)
theorem dX1_judged_3 : decode cX1_judged 3 = .ok (.iconst 0, 1) := dk_3 (dk_at dksX1_judged_0 3 rfl rfl)
theorem dX1_judged_4 : decode cX1_judged 4 = .ok (.istore 6, 2) := dk_54 6 (dk_at dksX1_judged_0 4 rfl rfl)
theorem dX1_judged_6 : decode cX1_judged 6 = .ok (.iload 6, 2) := dk_21 6 (dk_at dksX1_judged_0 6 rfl rfl)
theorem dX1_judged_8 : decode cX1_judged 8 = .ok (.bipush 20, 2) := dk_16 20 (dk_at dksX1_judged_0 8 rfl rfl)
theorem dX1_judged_10 : decode cX1_judged 10 = .ok (.if_icmp .ge 47, 3) := dk_162 0 47 (dk_at dksX1_judged_0 10 rfl rfl)
theorem dX1_judged_13 : decode cX1_judged 13 = .ok (.aload_n 1, 1) := dk_43 (dk_at dksX1_judged_0 13 rfl rfl)
theorem dX1_judged_14 : decode cX1_judged 14 = .ok (.iload 6, 2) := dk_21 6 (dk_at dksX1_judged_0 14 rfl rfl)
theorem dX1_judged_16 : decode cX1_judged 16 = .ok (.invokevirtual 854, 3) := dk_182 3 86 (dk_at dksX1_judged_0 16 rfl rfl)
theorem dX1_judged_19 : decode cX1_judged 19 = .ok (.dstore 7, 2) := dk_57 7 (dk_at dksX1_judged_0 19 rfl rfl)
theorem dX1_judged_21 : decode cX1_judged 21 = .ok (.dload 7, 2) := dk_24 7 (dk_at dksX1_judged_0 21 rfl rfl)
theorem dX1_judged_23 : decode cX1_judged 23 = .ok (.dload 7, 2) := dk_24 7 (dk_at dksX1_judged_1 0 rfl rfl)
theorem dX1_judged_25 : decode cX1_judged 25 = .ok (.dcmp .l, 1) := dk_151 (dk_at dksX1_judged_1 2 rfl rfl)
theorem dX1_judged_26 : decode cX1_judged 26 = .ok (.ifCond .eq 8, 3) := dk_153 0 8 (dk_at dksX1_judged_1 3 rfl rfl)
theorem dX1_judged_29 : decode cX1_judged 29 = .ok (.ldc2_w 858, 3) := dk_20 3 90 (dk_at dksX1_judged_1 6 rfl rfl)
theorem dX1_judged_32 : decode cX1_judged 32 = .ok (.dstore 7, 2) := dk_57 7 (dk_at dksX1_judged_1 9 rfl rfl)
theorem dX1_judged_34 : decode cX1_judged 34 = .ok (.dload 4, 2) := dk_24 4 (dk_at dksX1_judged_1 11 rfl rfl)
theorem dX1_judged_36 : decode cX1_judged 36 = .ok (.dload 7, 2) := dk_24 7 (dk_at dksX1_judged_1 13 rfl rfl)
theorem dX1_judged_38 : decode cX1_judged 38 = .ok (.aload_n 0, 1) := dk_42 (dk_at dksX1_judged_1 15 rfl rfl)
theorem dX1_judged_39 : decode cX1_judged 39 = .ok (.iload 6, 2) := dk_21 6 (dk_at dksX1_judged_1 16 rfl rfl)
theorem dX1_judged_41 : decode cX1_judged 41 = .ok (.iload_n 2, 1) := dk_28 (dk_at dksX1_judged_1 18 rfl rfl)
theorem dX1_judged_42 : decode cX1_judged 42 = .ok (.iload_n 3, 1) := dk_29 (dk_at dksX1_judged_1 19 rfl rfl)
theorem dX1_judged_43 : decode cX1_judged 43 = .ok (.invokevirtual 811, 3) := dk_182 3 43 (dk_at dksX1_judged_1 20 rfl rfl)
theorem dX1_judged_46 : decode cX1_judged 46 = .ok (.i2d, 1) := dk_135 (dk_at dksX1_judged_1 23 rfl rfl)
theorem dX1_judged_47 : decode cX1_judged 47 = .ok (.dmul, 1) := dk_107 (dk_at dksX1_judged_2 0 rfl rfl)
theorem dX1_judged_48 : decode cX1_judged 48 = .ok (.dadd, 1) := dk_99 (dk_at dksX1_judged_2 1 rfl rfl)
theorem dX1_judged_49 : decode cX1_judged 49 = .ok (.dstore 4, 2) := dk_57 4 (dk_at dksX1_judged_2 2 rfl rfl)
theorem dX1_judged_51 : decode cX1_judged 51 = .ok (.iinc 6 1, 3) := dk_132 6 1 (dk_at dksX1_judged_2 4 rfl rfl)
theorem dX1_judged_54 : decode cX1_judged 54 = .ok (.goto (-48), 3) := dk_167 255 208 (dk_at dksX1_judged_2 7 rfl rfl)
theorem dX1_judged_57 : decode cX1_judged 57 = .ok (.dload 4, 2) := dk_24 4 (dk_at dksX1_judged_2 10 rfl rfl)
theorem dX1_judged_59 : decode cX1_judged 59 = .ok (.dreturn, 1) := dk_175 (dk_at dksX1_judged_2 12 rfl rfl)
abbrev cX1_loss : ByteArray := prog_1_method_143_code
def yX1_loss : MethodName := ⟨RX1, "loss", "(IIII)D"⟩
def dkwX1_loss_2 : List UInt8 := [42, 180, 0, 136, 27, 50, 28, 4, 21, 4, 120, 2, 130, 126, 29, 182, 3, 100, 103, 175]
abbrev dktX1_loss_2 : List UInt8 := dkwX1_loss_2 ++ []
def dkwX1_loss_1 : List UInt8 := [154, 0, 7, 20, 3, 98, 175, 42, 182, 3, 52, 42, 42, 180, 0, 136, 27, 50, 28, 29, 182, 3, 100, 42]
abbrev dktX1_loss_1 : List UInt8 := dkwX1_loss_1 ++ dktX1_loss_2
def dkwX1_loss_0 : List UInt8 := [42, 27, 28, 29, 182, 3, 93, 153, 0, 20, 21, 4, 184, 0, 143, 153, 0, 12, 28, 21, 4, 122, 4, 126]
abbrev dktX1_loss_0 : List UInt8 := dkwX1_loss_0 ++ dktX1_loss_1
theorem dksX1_loss_0 : cX1_loss.data.toList.drop 0 = dktX1_loss_0 := by decide +kernel
theorem dksX1_loss_1 : cX1_loss.data.toList.drop 24 = dktX1_loss_1 := dk_seg dksX1_loss_0 24 rfl rfl
theorem dksX1_loss_2 : cX1_loss.data.toList.drop 48 = dktX1_loss_2 := dk_seg dksX1_loss_1 24 rfl rfl
theorem dX1_loss_0 : decode cX1_loss 0 = .ok (.aload_n 0, 1) := dk_42 (dk_at dksX1_loss_0 0 rfl rfl)
theorem dX1_loss_1 : decode cX1_loss 1 = .ok (.iload_n 1, 1) := dk_27 (dk_at dksX1_loss_0 1 rfl rfl)
theorem dX1_loss_2 : decode cX1_loss 2 = .ok (.iload_n 2, 1) := dk_28 (dk_at dksX1_loss_0 2 rfl rfl)
theorem dX1_loss_3 : decode cX1_loss 3 = .ok (.iload_n 3, 1) := dk_29 (dk_at dksX1_loss_0 3 rfl rfl)
theorem dX1_loss_4 : decode cX1_loss 4 = .ok (.invokevirtual 861, 3) := dk_182 3 93 (dk_at dksX1_loss_0 4 rfl rfl)
theorem dX1_loss_7 : decode cX1_loss 7 = .ok (.ifCond .eq 20, 3) := dk_153 0 20 (dk_at dksX1_loss_0 7 rfl rfl)
theorem dX1_loss_10 : decode cX1_loss 10 = .ok (.iload 4, 2) := dk_21 4 (dk_at dksX1_loss_0 10 rfl rfl)
theorem dX1_loss_12 : decode cX1_loss 12 = .ok (.invokestatic 143, 3) := dk_184 0 143 (dk_at dksX1_loss_0 12 rfl rfl)
theorem dX1_loss_15 : decode cX1_loss 15 = .ok (.ifCond .eq 12, 3) := dk_153 0 12 (dk_at dksX1_loss_0 15 rfl rfl)
theorem dX1_loss_18 : decode cX1_loss 18 = .ok (.iload_n 2, 1) := dk_28 (dk_at dksX1_loss_0 18 rfl rfl)
theorem dX1_loss_19 : decode cX1_loss 19 = .ok (.iload 4, 2) := dk_21 4 (dk_at dksX1_loss_0 19 rfl rfl)
theorem dX1_loss_21 : decode cX1_loss 21 = .ok (.ishr, 1) := dk_122 (dk_at dksX1_loss_0 21 rfl rfl)
theorem dX1_loss_22 : decode cX1_loss 22 = .ok (.iconst 1, 1) := dk_4 (dk_at dksX1_loss_0 22 rfl rfl)
theorem dX1_loss_23 : decode cX1_loss 23 = .ok (.iand, 1) := dk_126 (dk_at dksX1_loss_0 23 rfl rfl)
theorem dX1_loss_24 : decode cX1_loss 24 = .ok (.ifCond .ne 7, 3) := dk_154 0 7 (dk_at dksX1_loss_1 0 rfl rfl)
theorem dX1_loss_27 : decode cX1_loss 27 = .ok (.ldc2_w 866, 3) := dk_20 3 98 (dk_at dksX1_loss_1 3 rfl rfl)
theorem dX1_loss_30 : decode cX1_loss 30 = .ok (.dreturn, 1) := dk_175 (dk_at dksX1_loss_1 6 rfl rfl)
theorem dX1_loss_31 : decode cX1_loss 31 = .ok (.aload_n 0, 1) := dk_42 (dk_at dksX1_loss_1 7 rfl rfl)
theorem dX1_loss_32 : decode cX1_loss 32 = .ok (.invokevirtual 820, 3) := dk_182 3 52 (dk_at dksX1_loss_1 8 rfl rfl)
theorem dX1_loss_35 : decode cX1_loss 35 = .ok (.aload_n 0, 1) := dk_42 (dk_at dksX1_loss_1 11 rfl rfl)
theorem dX1_loss_36 : decode cX1_loss 36 = .ok (.aload_n 0, 1) := dk_42 (dk_at dksX1_loss_1 12 rfl rfl)
theorem dX1_loss_37 : decode cX1_loss 37 = .ok (.getfield 136, 3) := dk_180 0 136 (dk_at dksX1_loss_1 13 rfl rfl)
theorem dX1_loss_40 : decode cX1_loss 40 = .ok (.iload_n 1, 1) := dk_27 (dk_at dksX1_loss_1 16 rfl rfl)
theorem dX1_loss_41 : decode cX1_loss 41 = .ok (.aaload, 1) := dk_50 (dk_at dksX1_loss_1 17 rfl rfl)
theorem dX1_loss_42 : decode cX1_loss 42 = .ok (.iload_n 2, 1) := dk_28 (dk_at dksX1_loss_1 18 rfl rfl)
theorem dX1_loss_43 : decode cX1_loss 43 = .ok (.iload_n 3, 1) := dk_29 (dk_at dksX1_loss_1 19 rfl rfl)
theorem dX1_loss_44 : decode cX1_loss 44 = .ok (.invokevirtual 868, 3) := dk_182 3 100 (dk_at dksX1_loss_1 20 rfl rfl)
theorem dX1_loss_47 : decode cX1_loss 47 = .ok (.aload_n 0, 1) := dk_42 (dk_at dksX1_loss_1 23 rfl rfl)
theorem dX1_loss_48 : decode cX1_loss 48 = .ok (.aload_n 0, 1) := dk_42 (dk_at dksX1_loss_2 0 rfl rfl)
theorem dX1_loss_49 : decode cX1_loss 49 = .ok (.getfield 136, 3) := dk_180 0 136 (dk_at dksX1_loss_2 1 rfl rfl)
theorem dX1_loss_52 : decode cX1_loss 52 = .ok (.iload_n 1, 1) := dk_27 (dk_at dksX1_loss_2 4 rfl rfl)
theorem dX1_loss_53 : decode cX1_loss 53 = .ok (.aaload, 1) := dk_50 (dk_at dksX1_loss_2 5 rfl rfl)
theorem dX1_loss_54 : decode cX1_loss 54 = .ok (.iload_n 2, 1) := dk_28 (dk_at dksX1_loss_2 6 rfl rfl)
theorem dX1_loss_55 : decode cX1_loss 55 = .ok (.iconst 1, 1) := dk_4 (dk_at dksX1_loss_2 7 rfl rfl)
theorem dX1_loss_56 : decode cX1_loss 56 = .ok (.iload 4, 2) := dk_21 4 (dk_at dksX1_loss_2 8 rfl rfl)
theorem dX1_loss_58 : decode cX1_loss 58 = .ok (.ishl, 1) := dk_120 (dk_at dksX1_loss_2 10 rfl rfl)
theorem dX1_loss_59 : decode cX1_loss 59 = .ok (.iconst (-1), 1) := dk_2 (dk_at dksX1_loss_2 11 rfl rfl)
theorem dX1_loss_60 : decode cX1_loss 60 = .ok (.ixor, 1) := dk_130 (dk_at dksX1_loss_2 12 rfl rfl)
theorem dX1_loss_61 : decode cX1_loss 61 = .ok (.iand, 1) := dk_126 (dk_at dksX1_loss_2 13 rfl rfl)
theorem dX1_loss_62 : decode cX1_loss 62 = .ok (.iload_n 3, 1) := dk_29 (dk_at dksX1_loss_2 14 rfl rfl)
theorem dX1_loss_63 : decode cX1_loss 63 = .ok (.invokevirtual 868, 3) := dk_182 3 100 (dk_at dksX1_loss_2 15 rfl rfl)
theorem dX1_loss_66 : decode cX1_loss 66 = .ok (.dsub, 1) := dk_103 (dk_at dksX1_loss_2 18 rfl rfl)
theorem dX1_loss_67 : decode cX1_loss 67 = .ok (.dreturn, 1) := dk_175 (dk_at dksX1_loss_2 19 rfl rfl)
abbrev cX1_what : ByteArray := prog_1_method_144_code
def yX1_what : MethodName := ⟨RX1, "what", "(IIII)I"⟩
def dkwX1_what_7 : List UInt8 := [25, 5, 180, 1, 59, 182, 1, 32, 21, 6, 100, 172]
abbrev dktX1_what_7 : List UInt8 := dkwX1_what_7 ++ []
def dkwX1_what_6 : List UInt8 := [180, 1, 59, 180, 1, 76, 28, 29, 79, 42, 4, 182, 2, 216, 132, 7, 1, 167, 255, 230, 42, 25, 5]
abbrev dktX1_what_6 : List UInt8 := dkwX1_what_6 ++ dktX1_what_7
def dkwX1_what_5 : List UInt8 := [25, 5, 25, 5, 180, 1, 59, 182, 1, 32, 54, 6, 3, 54, 7, 21, 7, 21, 4, 162, 0, 25, 25, 5]
abbrev dktX1_what_5 : List UInt8 := dkwX1_what_5 ++ dktX1_what_6
def dkwX1_what_4 : List UInt8 := [3, 79, 132, 6, 1, 167, 255, 229, 132, 5, 1, 167, 255, 188, 42, 180, 0, 30, 27, 50, 58, 5, 42]
abbrev dktX1_what_4 : List UInt8 := dkwX1_what_4 ++ dktX1_what_5
def dkwX1_what_3 : List UInt8 := [54, 6, 21, 6, 16, 24, 162, 0, 26, 42, 180, 0, 30, 21, 5, 50, 180, 1, 59, 180, 1, 76, 21, 6]
abbrev dktX1_what_3 : List UInt8 := dkwX1_what_3 ++ dktX1_what_4
def dkwX1_what_2 : List UInt8 := [180, 0, 30, 21, 5, 50, 180, 1, 59, 42, 180, 0, 30, 21, 5, 50, 180, 0, 235, 182, 3, 104, 3]
abbrev dktX1_what_2 : List UInt8 := dkwX1_what_2 ++ dktX1_what_3
def dkwX1_what_1 : List UInt8 := [17, 0, 200, 184, 0, 3, 154, 0, 5, 2, 172, 3, 54, 5, 21, 5, 42, 180, 0, 199, 162, 0, 65, 42]
abbrev dktX1_what_1 : List UInt8 := dkwX1_what_1 ++ dktX1_what_2
def dkwX1_what_0 : List UInt8 := [42, 27, 28, 182, 1, 4, 153, 0, 26, 29, 3, 17, 1, 244, 184, 0, 3, 153, 0, 15, 21, 4, 4]
abbrev dktX1_what_0 : List UInt8 := dkwX1_what_0 ++ dktX1_what_1
theorem dksX1_what_0 : cX1_what.data.toList.drop 0 = dktX1_what_0 := by decide +kernel
theorem dksX1_what_1 : cX1_what.data.toList.drop 23 = dktX1_what_1 := dk_seg dksX1_what_0 23 rfl rfl
theorem dksX1_what_2 : cX1_what.data.toList.drop 47 = dktX1_what_2 := dk_seg dksX1_what_1 24 rfl rfl
theorem dksX1_what_3 : cX1_what.data.toList.drop 70 = dktX1_what_3 := dk_seg dksX1_what_2 23 rfl rfl
theorem dksX1_what_4 : cX1_what.data.toList.drop 94 = dktX1_what_4 := dk_seg dksX1_what_3 24 rfl rfl
theorem dksX1_what_5 : cX1_what.data.toList.drop 117 = dktX1_what_5 := dk_seg dksX1_what_4 23 rfl rfl
theorem dksX1_what_6 : cX1_what.data.toList.drop 141 = dktX1_what_6 := dk_seg dksX1_what_5 24 rfl rfl
theorem dksX1_what_7 : cX1_what.data.toList.drop 164 = dktX1_what_7 := dk_seg dksX1_what_6 23 rfl rfl
theorem dX1_what_0 : decode cX1_what 0 = .ok (.aload_n 0, 1) := dk_42 (dk_at dksX1_what_0 0 rfl rfl)
theorem dX1_what_1 : decode cX1_what 1 = .ok (.iload_n 1, 1) := dk_27 (dk_at dksX1_what_0 1 rfl rfl)
theorem dX1_what_2 : decode cX1_what 2 = .ok (.iload_n 2, 1) := dk_28 (dk_at dksX1_what_0 2 rfl rfl)
theorem dX1_what_3 : decode cX1_what 3 = .ok (.invokevirtual 260, 3) := dk_182 1 4 (dk_at dksX1_what_0 3 rfl rfl)
theorem dX1_what_6 : decode cX1_what 6 = .ok (.ifCond .eq 26, 3) := dk_153 0 26 (dk_at dksX1_what_0 6 rfl rfl)
theorem dX1_what_9 : decode cX1_what 9 = .ok (.iload_n 3, 1) := dk_29 (dk_at dksX1_what_0 9 rfl rfl)
theorem dX1_what_10 : decode cX1_what 10 = .ok (.iconst 0, 1) := dk_3 (dk_at dksX1_what_0 10 rfl rfl)
theorem dX1_what_11 : decode cX1_what 11 = .ok (.sipush 500, 3) := dk_17 1 244 (dk_at dksX1_what_0 11 rfl rfl)
theorem dX1_what_14 : decode cX1_what 14 = .ok (.invokestatic 3, 3) := dk_184 0 3 (dk_at dksX1_what_0 14 rfl rfl)
theorem dX1_what_17 : decode cX1_what 17 = .ok (.ifCond .eq 15, 3) := dk_153 0 15 (dk_at dksX1_what_0 17 rfl rfl)
theorem dX1_what_20 : decode cX1_what 20 = .ok (.iload 4, 2) := dk_21 4 (dk_at dksX1_what_0 20 rfl rfl)
theorem dX1_what_22 : decode cX1_what 22 = .ok (.iconst 1, 1) := dk_4 (dk_at dksX1_what_0 22 rfl rfl)
theorem dX1_what_23 : decode cX1_what 23 = .ok (.sipush 200, 3) := dk_17 0 200 (dk_at dksX1_what_1 0 rfl rfl)
theorem dX1_what_26 : decode cX1_what 26 = .ok (.invokestatic 3, 3) := dk_184 0 3 (dk_at dksX1_what_1 3 rfl rfl)
theorem dX1_what_29 : decode cX1_what 29 = .ok (.ifCond .ne 5, 3) := dk_154 0 5 (dk_at dksX1_what_1 6 rfl rfl)
theorem dX1_what_32 : decode cX1_what 32 = .ok (.iconst (-1), 1) := dk_2 (dk_at dksX1_what_1 9 rfl rfl)
theorem dX1_what_33 : decode cX1_what 33 = .ok (.ireturn, 1) := dk_172 (dk_at dksX1_what_1 10 rfl rfl)
theorem dX1_what_34 : decode cX1_what 34 = .ok (.iconst 0, 1) := dk_3 (dk_at dksX1_what_1 11 rfl rfl)
theorem dX1_what_35 : decode cX1_what 35 = .ok (.istore 5, 2) := dk_54 5 (dk_at dksX1_what_1 12 rfl rfl)
theorem dX1_what_37 : decode cX1_what 37 = .ok (.iload 5, 2) := dk_21 5 (dk_at dksX1_what_1 14 rfl rfl)
theorem dX1_what_39 : decode cX1_what 39 = .ok (.aload_n 0, 1) := dk_42 (dk_at dksX1_what_1 16 rfl rfl)
theorem dX1_what_40 : decode cX1_what 40 = .ok (.getfield 199, 3) := dk_180 0 199 (dk_at dksX1_what_1 17 rfl rfl)
theorem dX1_what_43 : decode cX1_what 43 = .ok (.if_icmp .ge 65, 3) := dk_162 0 65 (dk_at dksX1_what_1 20 rfl rfl)
theorem dX1_what_46 : decode cX1_what 46 = .ok (.aload_n 0, 1) := dk_42 (dk_at dksX1_what_1 23 rfl rfl)
theorem dX1_what_47 : decode cX1_what 47 = .ok (.getfield 30, 3) := dk_180 0 30 (dk_at dksX1_what_2 0 rfl rfl)
theorem dX1_what_50 : decode cX1_what 50 = .ok (.iload 5, 2) := dk_21 5 (dk_at dksX1_what_2 3 rfl rfl)
theorem dX1_what_52 : decode cX1_what 52 = .ok (.aaload, 1) := dk_50 (dk_at dksX1_what_2 5 rfl rfl)
theorem dX1_what_53 : decode cX1_what 53 = .ok (.getfield 315, 3) := dk_180 1 59 (dk_at dksX1_what_2 6 rfl rfl)
theorem dX1_what_56 : decode cX1_what 56 = .ok (.aload_n 0, 1) := dk_42 (dk_at dksX1_what_2 9 rfl rfl)
theorem dX1_what_57 : decode cX1_what 57 = .ok (.getfield 30, 3) := dk_180 0 30 (dk_at dksX1_what_2 10 rfl rfl)
theorem dX1_what_60 : decode cX1_what 60 = .ok (.iload 5, 2) := dk_21 5 (dk_at dksX1_what_2 13 rfl rfl)
theorem dX1_what_62 : decode cX1_what 62 = .ok (.aaload, 1) := dk_50 (dk_at dksX1_what_2 15 rfl rfl)
theorem dX1_what_63 : decode cX1_what 63 = .ok (.getfield 235, 3) := dk_180 0 235 (dk_at dksX1_what_2 16 rfl rfl)
theorem dX1_what_66 : decode cX1_what 66 = .ok (.invokevirtual 872, 3) := dk_182 3 104 (dk_at dksX1_what_2 19 rfl rfl)
theorem dX1_what_69 : decode cX1_what 69 = .ok (.iconst 0, 1) := dk_3 (dk_at dksX1_what_2 22 rfl rfl)
theorem dX1_what_70 : decode cX1_what 70 = .ok (.istore 6, 2) := dk_54 6 (dk_at dksX1_what_3 0 rfl rfl)
theorem dX1_what_72 : decode cX1_what 72 = .ok (.iload 6, 2) := dk_21 6 (dk_at dksX1_what_3 2 rfl rfl)
theorem dX1_what_74 : decode cX1_what 74 = .ok (.bipush 24, 2) := dk_16 24 (dk_at dksX1_what_3 4 rfl rfl)
theorem dX1_what_76 : decode cX1_what 76 = .ok (.if_icmp .ge 26, 3) := dk_162 0 26 (dk_at dksX1_what_3 6 rfl rfl)
theorem dX1_what_79 : decode cX1_what 79 = .ok (.aload_n 0, 1) := dk_42 (dk_at dksX1_what_3 9 rfl rfl)
theorem dX1_what_80 : decode cX1_what 80 = .ok (.getfield 30, 3) := dk_180 0 30 (dk_at dksX1_what_3 10 rfl rfl)
theorem dX1_what_83 : decode cX1_what 83 = .ok (.iload 5, 2) := dk_21 5 (dk_at dksX1_what_3 13 rfl rfl)
theorem dX1_what_85 : decode cX1_what 85 = .ok (.aaload, 1) := dk_50 (dk_at dksX1_what_3 15 rfl rfl)
theorem dX1_what_86 : decode cX1_what 86 = .ok (.getfield 315, 3) := dk_180 1 59 (dk_at dksX1_what_3 16 rfl rfl)
theorem dX1_what_89 : decode cX1_what 89 = .ok (.getfield 332, 3) := dk_180 1 76 (dk_at dksX1_what_3 19 rfl rfl)
theorem dX1_what_92 : decode cX1_what 92 = .ok (.iload 6, 2) := dk_21 6 (dk_at dksX1_what_3 22 rfl rfl)
theorem dX1_what_94 : decode cX1_what 94 = .ok (.iconst 0, 1) := dk_3 (dk_at dksX1_what_4 0 rfl rfl)
theorem dX1_what_95 : decode cX1_what 95 = .ok (.iastore, 1) := dk_79 (dk_at dksX1_what_4 1 rfl rfl)
theorem dX1_what_96 : decode cX1_what 96 = .ok (.iinc 6 1, 3) := dk_132 6 1 (dk_at dksX1_what_4 2 rfl rfl)
theorem dX1_what_99 : decode cX1_what 99 = .ok (.goto (-27), 3) := dk_167 255 229 (dk_at dksX1_what_4 5 rfl rfl)
theorem dX1_what_102 : decode cX1_what 102 = .ok (.iinc 5 1, 3) := dk_132 5 1 (dk_at dksX1_what_4 8 rfl rfl)
theorem dX1_what_105 : decode cX1_what 105 = .ok (.goto (-68), 3) := dk_167 255 188 (dk_at dksX1_what_4 11 rfl rfl)
theorem dX1_what_108 : decode cX1_what 108 = .ok (.aload_n 0, 1) := dk_42 (dk_at dksX1_what_4 14 rfl rfl)
theorem dX1_what_109 : decode cX1_what 109 = .ok (.getfield 30, 3) := dk_180 0 30 (dk_at dksX1_what_4 15 rfl rfl)
theorem dX1_what_112 : decode cX1_what 112 = .ok (.iload_n 1, 1) := dk_27 (dk_at dksX1_what_4 18 rfl rfl)
theorem dX1_what_113 : decode cX1_what 113 = .ok (.aaload, 1) := dk_50 (dk_at dksX1_what_4 19 rfl rfl)
theorem dX1_what_114 : decode cX1_what 114 = .ok (.astore 5, 2) := dk_58 5 (dk_at dksX1_what_4 20 rfl rfl)
theorem dX1_what_116 : decode cX1_what 116 = .ok (.aload_n 0, 1) := dk_42 (dk_at dksX1_what_4 22 rfl rfl)
theorem dX1_what_117 : decode cX1_what 117 = .ok (.aload 5, 2) := dk_25 5 (dk_at dksX1_what_5 0 rfl rfl)
theorem dX1_what_119 : decode cX1_what 119 = .ok (.aload 5, 2) := dk_25 5 (dk_at dksX1_what_5 2 rfl rfl)
theorem dX1_what_121 : decode cX1_what 121 = .ok (.getfield 315, 3) := dk_180 1 59 (dk_at dksX1_what_5 4 rfl rfl)
theorem dX1_what_124 : decode cX1_what 124 = .ok (.invokevirtual 288, 3) := dk_182 1 32 (dk_at dksX1_what_5 7 rfl rfl)
theorem dX1_what_127 : decode cX1_what 127 = .ok (.istore 6, 2) := dk_54 6 (dk_at dksX1_what_5 10 rfl rfl)
theorem dX1_what_129 : decode cX1_what 129 = .ok (.iconst 0, 1) := dk_3 (dk_at dksX1_what_5 12 rfl rfl)
theorem dX1_what_130 : decode cX1_what 130 = .ok (.istore 7, 2) := dk_54 7 (dk_at dksX1_what_5 13 rfl rfl)
theorem dX1_what_132 : decode cX1_what 132 = .ok (.iload 7, 2) := dk_21 7 (dk_at dksX1_what_5 15 rfl rfl)
theorem dX1_what_134 : decode cX1_what 134 = .ok (.iload 4, 2) := dk_21 4 (dk_at dksX1_what_5 17 rfl rfl)
theorem dX1_what_136 : decode cX1_what 136 = .ok (.if_icmp .ge 25, 3) := dk_162 0 25 (dk_at dksX1_what_5 19 rfl rfl)
theorem dX1_what_139 : decode cX1_what 139 = .ok (.aload 5, 2) := dk_25 5 (dk_at dksX1_what_5 22 rfl rfl)
theorem dX1_what_141 : decode cX1_what 141 = .ok (.getfield 315, 3) := dk_180 1 59 (dk_at dksX1_what_6 0 rfl rfl)
theorem dX1_what_144 : decode cX1_what 144 = .ok (.getfield 332, 3) := dk_180 1 76 (dk_at dksX1_what_6 3 rfl rfl)
theorem dX1_what_147 : decode cX1_what 147 = .ok (.iload_n 2, 1) := dk_28 (dk_at dksX1_what_6 6 rfl rfl)
theorem dX1_what_148 : decode cX1_what 148 = .ok (.iload_n 3, 1) := dk_29 (dk_at dksX1_what_6 7 rfl rfl)
theorem dX1_what_149 : decode cX1_what 149 = .ok (.iastore, 1) := dk_79 (dk_at dksX1_what_6 8 rfl rfl)
theorem dX1_what_150 : decode cX1_what 150 = .ok (.aload_n 0, 1) := dk_42 (dk_at dksX1_what_6 9 rfl rfl)
theorem dX1_what_151 : decode cX1_what 151 = .ok (.iconst 1, 1) := dk_4 (dk_at dksX1_what_6 10 rfl rfl)
theorem dX1_what_152 : decode cX1_what 152 = .ok (.invokevirtual 728, 3) := dk_182 2 216 (dk_at dksX1_what_6 11 rfl rfl)
theorem dX1_what_155 : decode cX1_what 155 = .ok (.iinc 7 1, 3) := dk_132 7 1 (dk_at dksX1_what_6 14 rfl rfl)
theorem dX1_what_158 : decode cX1_what 158 = .ok (.goto (-26), 3) := dk_167 255 230 (dk_at dksX1_what_6 17 rfl rfl)
theorem dX1_what_161 : decode cX1_what 161 = .ok (.aload_n 0, 1) := dk_42 (dk_at dksX1_what_6 20 rfl rfl)
theorem dX1_what_162 : decode cX1_what 162 = .ok (.aload 5, 2) := dk_25 5 (dk_at dksX1_what_6 21 rfl rfl)
theorem dX1_what_164 : decode cX1_what 164 = .ok (.aload 5, 2) := dk_25 5 (dk_at dksX1_what_7 0 rfl rfl)
theorem dX1_what_166 : decode cX1_what 166 = .ok (.getfield 315, 3) := dk_180 1 59 (dk_at dksX1_what_7 2 rfl rfl)
theorem dX1_what_169 : decode cX1_what 169 = .ok (.invokevirtual 288, 3) := dk_182 1 32 (dk_at dksX1_what_7 5 rfl rfl)
theorem dX1_what_172 : decode cX1_what 172 = .ok (.iload 6, 2) := dk_21 6 (dk_at dksX1_what_7 8 rfl rfl)
theorem dX1_what_174 : decode cX1_what 174 = .ok (.isub, 1) := dk_100 (dk_at dksX1_what_7 10 rfl rfl)
theorem dX1_what_175 : decode cX1_what 175 = .ok (.ireturn, 1) := dk_172 (dk_at dksX1_what_7 11 rfl rfl)
abbrev cX1_count : ByteArray := prog_1_method_145_code
def yX1_count : MethodName := ⟨RX1, "count", "(I)I"⟩
def dkwX1_count_12 : List UInt8 := [2, 172]
abbrev dktX1_count_12 : List UInt8 := dkwX1_count_12 ++ []
def dkwX1_count_11 : List UInt8 := [180, 2, 68, 172, 42, 180, 1, 202, 172, 42, 180, 1, 100, 172, 42, 180, 1, 103, 172, 42, 180, 3, 58, 172]
abbrev dktX1_count_11 : List UInt8 := dkwX1_count_11 ++ dktX1_count_12
def dkwX1_count_10 : List UInt8 := [172, 28, 172, 29, 172, 21, 4, 172, 21, 5, 172, 21, 6, 172, 21, 7, 172, 42, 180, 2, 234, 172, 42]
abbrev dktX1_count_10 : List UInt8 := dkwX1_count_10 ++ dktX1_count_11
def dkwX1_count_9 : List UInt8 := [42, 180, 1, 159, 172, 42, 180, 0, 147, 172, 42, 180, 0, 199, 172, 42, 180, 1, 109, 172, 42, 180, 2, 75]
abbrev dktX1_count_9 : List UInt8 := dkwX1_count_9 ++ dktX1_count_10
def dkwX1_count_8 : List UInt8 := [170, 0, 0, 0, 152, 0, 0, 0, 0, 0, 0, 0, 16, 0, 0, 0, 81, 0, 0, 0, 86, 0, 0, 0, 91, 0, 0, 0, 96, 0, 0, 0, 101, 0, 0, 0, 106, 0, 0, 0, 108, 0, 0, 0, 110, 0, 0, 0, 113, 0, 0, 0, 116, 0, 0, 0, 119, 0, 0, 0, 122, 0, 0, 0, 127, 0, 0, 0, 132, 0, 0, 0, 137, 0, 0, 0, 142, 0, 0, 0, 147]
abbrev dktX1_count_8 : List UInt8 := dkwX1_count_8 ++ dktX1_count_9
def dkwX1_count_7 : List UInt8 := [160, 0, 7, 4, 167, 0, 4, 3, 96, 54, 7, 132, 8, 1, 167, 255, 220, 27]
abbrev dktX1_count_7 : List UInt8 := dkwX1_count_7 ++ dktX1_count_8
def dkwX1_count_6 : List UInt8 := [54, 8, 21, 8, 42, 180, 1, 109, 162, 0, 33, 21, 7, 42, 180, 0, 48, 21, 8, 50, 180, 1, 133, 7]
abbrev dktX1_count_6 : List UInt8 := dkwX1_count_6 ++ dktX1_count_7
def dkwX1_count_5 : List UInt8 := [54, 5, 21, 6, 42, 180, 0, 30, 21, 8, 50, 180, 1, 39, 96, 54, 6, 132, 8, 1, 167, 255, 214, 3]
abbrev dktX1_count_5 : List UInt8 := dkwX1_count_5 ++ dktX1_count_6
def dkwX1_count_4 : List UInt8 := [54, 8, 21, 8, 42, 180, 0, 199, 162, 0, 39, 21, 5, 42, 180, 0, 30, 21, 8, 50, 180, 1, 36, 96]
abbrev dktX1_count_4 : List UInt8 := dkwX1_count_4 ++ dktX1_count_5
def dkwX1_count_3 : List UInt8 := [62, 21, 4, 42, 180, 0, 74, 21, 8, 50, 180, 2, 131, 96, 54, 4, 132, 8, 1, 167, 255, 186, 3]
abbrev dktX1_count_3 : List UInt8 := dkwX1_count_3 ++ dktX1_count_4
def dkwX1_count_2 : List UInt8 := [3, 96, 61, 29, 42, 180, 0, 74, 21, 8, 50, 180, 2, 79, 5, 160, 0, 7, 4, 167, 0, 4, 3, 96]
abbrev dktX1_count_2 : List UInt8 := dkwX1_count_2 ++ dktX1_count_3
def dkwX1_count_1 : List UInt8 := [180, 2, 75, 162, 0, 67, 28, 42, 180, 0, 74, 21, 8, 50, 180, 2, 79, 154, 0, 7, 4, 167, 0, 4]
abbrev dktX1_count_1 : List UInt8 := dkwX1_count_1 ++ dktX1_count_2
def dkwX1_count_0 : List UInt8 := [3, 61, 3, 62, 3, 54, 4, 3, 54, 5, 3, 54, 6, 3, 54, 7, 3, 54, 8, 21, 8, 42]
abbrev dktX1_count_0 : List UInt8 := dkwX1_count_0 ++ dktX1_count_1
theorem dksX1_count_0 : cX1_count.data.toList.drop 0 = dktX1_count_0 := by decide +kernel
theorem dksX1_count_1 : cX1_count.data.toList.drop 22 = dktX1_count_1 := dk_seg dksX1_count_0 22 rfl rfl
theorem dksX1_count_2 : cX1_count.data.toList.drop 46 = dktX1_count_2 := dk_seg dksX1_count_1 24 rfl rfl
theorem dksX1_count_3 : cX1_count.data.toList.drop 70 = dktX1_count_3 := dk_seg dksX1_count_2 24 rfl rfl
theorem dksX1_count_4 : cX1_count.data.toList.drop 93 = dktX1_count_4 := dk_seg dksX1_count_3 23 rfl rfl
theorem dksX1_count_5 : cX1_count.data.toList.drop 117 = dktX1_count_5 := dk_seg dksX1_count_4 24 rfl rfl
theorem dksX1_count_6 : cX1_count.data.toList.drop 141 = dktX1_count_6 := dk_seg dksX1_count_5 24 rfl rfl
theorem dksX1_count_7 : cX1_count.data.toList.drop 165 = dktX1_count_7 := dk_seg dksX1_count_6 24 rfl rfl
theorem dksX1_count_8 : cX1_count.data.toList.drop 183 = dktX1_count_8 := dk_seg dksX1_count_7 18 rfl rfl
theorem dksX1_count_9 : cX1_count.data.toList.drop 264 = dktX1_count_9 := dk_seg dksX1_count_8 81 rfl rfl
theorem dksX1_count_10 : cX1_count.data.toList.drop 288 = dktX1_count_10 := dk_seg dksX1_count_9 24 rfl rfl
theorem dksX1_count_11 : cX1_count.data.toList.drop 311 = dktX1_count_11 := dk_seg dksX1_count_10 23 rfl rfl
theorem dksX1_count_12 : cX1_count.data.toList.drop 335 = dktX1_count_12 := dk_seg dksX1_count_11 24 rfl rfl
theorem dX1_count_0 : decode cX1_count 0 = .ok (.iconst 0, 1) := dk_3 (dk_at dksX1_count_0 0 rfl rfl)
theorem dX1_count_1 : decode cX1_count 1 = .ok (.istore_n 2, 1) := dk_61 (dk_at dksX1_count_0 1 rfl rfl)
theorem dX1_count_2 : decode cX1_count 2 = .ok (.iconst 0, 1) := dk_3 (dk_at dksX1_count_0 2 rfl rfl)
theorem dX1_count_3 : decode cX1_count 3 = .ok (.istore_n 3, 1) := dk_62 (dk_at dksX1_count_0 3 rfl rfl)
theorem dX1_count_4 : decode cX1_count 4 = .ok (.iconst 0, 1) := dk_3 (dk_at dksX1_count_0 4 rfl rfl)
theorem dX1_count_5 : decode cX1_count 5 = .ok (.istore 4, 2) := dk_54 4 (dk_at dksX1_count_0 5 rfl rfl)
theorem dX1_count_7 : decode cX1_count 7 = .ok (.iconst 0, 1) := dk_3 (dk_at dksX1_count_0 7 rfl rfl)
theorem dX1_count_8 : decode cX1_count 8 = .ok (.istore 5, 2) := dk_54 5 (dk_at dksX1_count_0 8 rfl rfl)
theorem dX1_count_10 : decode cX1_count 10 = .ok (.iconst 0, 1) := dk_3 (dk_at dksX1_count_0 10 rfl rfl)
theorem dX1_count_11 : decode cX1_count 11 = .ok (.istore 6, 2) := dk_54 6 (dk_at dksX1_count_0 11 rfl rfl)
theorem dX1_count_13 : decode cX1_count 13 = .ok (.iconst 0, 1) := dk_3 (dk_at dksX1_count_0 13 rfl rfl)
theorem dX1_count_14 : decode cX1_count 14 = .ok (.istore 7, 2) := dk_54 7 (dk_at dksX1_count_0 14 rfl rfl)
theorem dX1_count_16 : decode cX1_count 16 = .ok (.iconst 0, 1) := dk_3 (dk_at dksX1_count_0 16 rfl rfl)
theorem dX1_count_17 : decode cX1_count 17 = .ok (.istore 8, 2) := dk_54 8 (dk_at dksX1_count_0 17 rfl rfl)
theorem dX1_count_19 : decode cX1_count 19 = .ok (.iload 8, 2) := dk_21 8 (dk_at dksX1_count_0 19 rfl rfl)
theorem dX1_count_21 : decode cX1_count 21 = .ok (.aload_n 0, 1) := dk_42 (dk_at dksX1_count_0 21 rfl rfl)
theorem dX1_count_22 : decode cX1_count 22 = .ok (.getfield 587, 3) := dk_180 2 75 (dk_at dksX1_count_1 0 rfl rfl)
theorem dX1_count_25 : decode cX1_count 25 = .ok (.if_icmp .ge 67, 3) := dk_162 0 67 (dk_at dksX1_count_1 3 rfl rfl)
theorem dX1_count_28 : decode cX1_count 28 = .ok (.iload_n 2, 1) := dk_28 (dk_at dksX1_count_1 6 rfl rfl)
theorem dX1_count_29 : decode cX1_count 29 = .ok (.aload_n 0, 1) := dk_42 (dk_at dksX1_count_1 7 rfl rfl)
theorem dX1_count_30 : decode cX1_count 30 = .ok (.getfield 74, 3) := dk_180 0 74 (dk_at dksX1_count_1 8 rfl rfl)
theorem dX1_count_33 : decode cX1_count 33 = .ok (.iload 8, 2) := dk_21 8 (dk_at dksX1_count_1 11 rfl rfl)
theorem dX1_count_35 : decode cX1_count 35 = .ok (.aaload, 1) := dk_50 (dk_at dksX1_count_1 13 rfl rfl)
theorem dX1_count_36 : decode cX1_count 36 = .ok (.getfield 591, 3) := dk_180 2 79 (dk_at dksX1_count_1 14 rfl rfl)
theorem dX1_count_39 : decode cX1_count 39 = .ok (.ifCond .ne 7, 3) := dk_154 0 7 (dk_at dksX1_count_1 17 rfl rfl)
theorem dX1_count_42 : decode cX1_count 42 = .ok (.iconst 1, 1) := dk_4 (dk_at dksX1_count_1 20 rfl rfl)
theorem dX1_count_43 : decode cX1_count 43 = .ok (.goto 4, 3) := dk_167 0 4 (dk_at dksX1_count_1 21 rfl rfl)
theorem dX1_count_46 : decode cX1_count 46 = .ok (.iconst 0, 1) := dk_3 (dk_at dksX1_count_2 0 rfl rfl)
theorem dX1_count_47 : decode cX1_count 47 = .ok (.iadd, 1) := dk_96 (dk_at dksX1_count_2 1 rfl rfl)
theorem dX1_count_48 : decode cX1_count 48 = .ok (.istore_n 2, 1) := dk_61 (dk_at dksX1_count_2 2 rfl rfl)
theorem dX1_count_49 : decode cX1_count 49 = .ok (.iload_n 3, 1) := dk_29 (dk_at dksX1_count_2 3 rfl rfl)
theorem dX1_count_50 : decode cX1_count 50 = .ok (.aload_n 0, 1) := dk_42 (dk_at dksX1_count_2 4 rfl rfl)
theorem dX1_count_51 : decode cX1_count 51 = .ok (.getfield 74, 3) := dk_180 0 74 (dk_at dksX1_count_2 5 rfl rfl)
theorem dX1_count_54 : decode cX1_count 54 = .ok (.iload 8, 2) := dk_21 8 (dk_at dksX1_count_2 8 rfl rfl)
theorem dX1_count_56 : decode cX1_count 56 = .ok (.aaload, 1) := dk_50 (dk_at dksX1_count_2 10 rfl rfl)
theorem dX1_count_57 : decode cX1_count 57 = .ok (.getfield 591, 3) := dk_180 2 79 (dk_at dksX1_count_2 11 rfl rfl)
theorem dX1_count_60 : decode cX1_count 60 = .ok (.iconst 2, 1) := dk_5 (dk_at dksX1_count_2 14 rfl rfl)
theorem dX1_count_61 : decode cX1_count 61 = .ok (.if_icmp .ne 7, 3) := dk_160 0 7 (dk_at dksX1_count_2 15 rfl rfl)
theorem dX1_count_64 : decode cX1_count 64 = .ok (.iconst 1, 1) := dk_4 (dk_at dksX1_count_2 18 rfl rfl)
theorem dX1_count_65 : decode cX1_count 65 = .ok (.goto 4, 3) := dk_167 0 4 (dk_at dksX1_count_2 19 rfl rfl)
theorem dX1_count_68 : decode cX1_count 68 = .ok (.iconst 0, 1) := dk_3 (dk_at dksX1_count_2 22 rfl rfl)
theorem dX1_count_69 : decode cX1_count 69 = .ok (.iadd, 1) := dk_96 (dk_at dksX1_count_2 23 rfl rfl)
theorem dX1_count_70 : decode cX1_count 70 = .ok (.istore_n 3, 1) := dk_62 (dk_at dksX1_count_3 0 rfl rfl)
theorem dX1_count_71 : decode cX1_count 71 = .ok (.iload 4, 2) := dk_21 4 (dk_at dksX1_count_3 1 rfl rfl)
theorem dX1_count_73 : decode cX1_count 73 = .ok (.aload_n 0, 1) := dk_42 (dk_at dksX1_count_3 3 rfl rfl)
theorem dX1_count_74 : decode cX1_count 74 = .ok (.getfield 74, 3) := dk_180 0 74 (dk_at dksX1_count_3 4 rfl rfl)
theorem dX1_count_77 : decode cX1_count 77 = .ok (.iload 8, 2) := dk_21 8 (dk_at dksX1_count_3 7 rfl rfl)
theorem dX1_count_79 : decode cX1_count 79 = .ok (.aaload, 1) := dk_50 (dk_at dksX1_count_3 9 rfl rfl)
theorem dX1_count_80 : decode cX1_count 80 = .ok (.getfield 643, 3) := dk_180 2 131 (dk_at dksX1_count_3 10 rfl rfl)
theorem dX1_count_83 : decode cX1_count 83 = .ok (.iadd, 1) := dk_96 (dk_at dksX1_count_3 13 rfl rfl)
theorem dX1_count_84 : decode cX1_count 84 = .ok (.istore 4, 2) := dk_54 4 (dk_at dksX1_count_3 14 rfl rfl)
theorem dX1_count_86 : decode cX1_count 86 = .ok (.iinc 8 1, 3) := dk_132 8 1 (dk_at dksX1_count_3 16 rfl rfl)
theorem dX1_count_89 : decode cX1_count 89 = .ok (.goto (-70), 3) := dk_167 255 186 (dk_at dksX1_count_3 19 rfl rfl)
theorem dX1_count_92 : decode cX1_count 92 = .ok (.iconst 0, 1) := dk_3 (dk_at dksX1_count_3 22 rfl rfl)
theorem dX1_count_93 : decode cX1_count 93 = .ok (.istore 8, 2) := dk_54 8 (dk_at dksX1_count_4 0 rfl rfl)
theorem dX1_count_95 : decode cX1_count 95 = .ok (.iload 8, 2) := dk_21 8 (dk_at dksX1_count_4 2 rfl rfl)
theorem dX1_count_97 : decode cX1_count 97 = .ok (.aload_n 0, 1) := dk_42 (dk_at dksX1_count_4 4 rfl rfl)
theorem dX1_count_98 : decode cX1_count 98 = .ok (.getfield 199, 3) := dk_180 0 199 (dk_at dksX1_count_4 5 rfl rfl)
theorem dX1_count_101 : decode cX1_count 101 = .ok (.if_icmp .ge 39, 3) := dk_162 0 39 (dk_at dksX1_count_4 8 rfl rfl)
theorem dX1_count_104 : decode cX1_count 104 = .ok (.iload 5, 2) := dk_21 5 (dk_at dksX1_count_4 11 rfl rfl)
theorem dX1_count_106 : decode cX1_count 106 = .ok (.aload_n 0, 1) := dk_42 (dk_at dksX1_count_4 13 rfl rfl)
theorem dX1_count_107 : decode cX1_count 107 = .ok (.getfield 30, 3) := dk_180 0 30 (dk_at dksX1_count_4 14 rfl rfl)
theorem dX1_count_110 : decode cX1_count 110 = .ok (.iload 8, 2) := dk_21 8 (dk_at dksX1_count_4 17 rfl rfl)
theorem dX1_count_112 : decode cX1_count 112 = .ok (.aaload, 1) := dk_50 (dk_at dksX1_count_4 19 rfl rfl)
theorem dX1_count_113 : decode cX1_count 113 = .ok (.getfield 292, 3) := dk_180 1 36 (dk_at dksX1_count_4 20 rfl rfl)
theorem dX1_count_116 : decode cX1_count 116 = .ok (.iadd, 1) := dk_96 (dk_at dksX1_count_4 23 rfl rfl)
theorem dX1_count_117 : decode cX1_count 117 = .ok (.istore 5, 2) := dk_54 5 (dk_at dksX1_count_5 0 rfl rfl)
theorem dX1_count_119 : decode cX1_count 119 = .ok (.iload 6, 2) := dk_21 6 (dk_at dksX1_count_5 2 rfl rfl)
theorem dX1_count_121 : decode cX1_count 121 = .ok (.aload_n 0, 1) := dk_42 (dk_at dksX1_count_5 4 rfl rfl)
theorem dX1_count_122 : decode cX1_count 122 = .ok (.getfield 30, 3) := dk_180 0 30 (dk_at dksX1_count_5 5 rfl rfl)
theorem dX1_count_125 : decode cX1_count 125 = .ok (.iload 8, 2) := dk_21 8 (dk_at dksX1_count_5 8 rfl rfl)
theorem dX1_count_127 : decode cX1_count 127 = .ok (.aaload, 1) := dk_50 (dk_at dksX1_count_5 10 rfl rfl)
theorem dX1_count_128 : decode cX1_count 128 = .ok (.getfield 295, 3) := dk_180 1 39 (dk_at dksX1_count_5 11 rfl rfl)
theorem dX1_count_131 : decode cX1_count 131 = .ok (.iadd, 1) := dk_96 (dk_at dksX1_count_5 14 rfl rfl)
theorem dX1_count_132 : decode cX1_count 132 = .ok (.istore 6, 2) := dk_54 6 (dk_at dksX1_count_5 15 rfl rfl)
theorem dX1_count_134 : decode cX1_count 134 = .ok (.iinc 8 1, 3) := dk_132 8 1 (dk_at dksX1_count_5 17 rfl rfl)
theorem dX1_count_137 : decode cX1_count 137 = .ok (.goto (-42), 3) := dk_167 255 214 (dk_at dksX1_count_5 20 rfl rfl)
theorem dX1_count_140 : decode cX1_count 140 = .ok (.iconst 0, 1) := dk_3 (dk_at dksX1_count_5 23 rfl rfl)
theorem dX1_count_141 : decode cX1_count 141 = .ok (.istore 8, 2) := dk_54 8 (dk_at dksX1_count_6 0 rfl rfl)
theorem dX1_count_143 : decode cX1_count 143 = .ok (.iload 8, 2) := dk_21 8 (dk_at dksX1_count_6 2 rfl rfl)
theorem dX1_count_145 : decode cX1_count 145 = .ok (.aload_n 0, 1) := dk_42 (dk_at dksX1_count_6 4 rfl rfl)
theorem dX1_count_146 : decode cX1_count 146 = .ok (.getfield 365, 3) := dk_180 1 109 (dk_at dksX1_count_6 5 rfl rfl)
theorem dX1_count_149 : decode cX1_count 149 = .ok (.if_icmp .ge 33, 3) := dk_162 0 33 (dk_at dksX1_count_6 8 rfl rfl)
theorem dX1_count_152 : decode cX1_count 152 = .ok (.iload 7, 2) := dk_21 7 (dk_at dksX1_count_6 11 rfl rfl)
theorem dX1_count_154 : decode cX1_count 154 = .ok (.aload_n 0, 1) := dk_42 (dk_at dksX1_count_6 13 rfl rfl)
theorem dX1_count_155 : decode cX1_count 155 = .ok (.getfield 48, 3) := dk_180 0 48 (dk_at dksX1_count_6 14 rfl rfl)
theorem dX1_count_158 : decode cX1_count 158 = .ok (.iload 8, 2) := dk_21 8 (dk_at dksX1_count_6 17 rfl rfl)
theorem dX1_count_160 : decode cX1_count 160 = .ok (.aaload, 1) := dk_50 (dk_at dksX1_count_6 19 rfl rfl)
theorem dX1_count_161 : decode cX1_count 161 = .ok (.getfield 389, 3) := dk_180 1 133 (dk_at dksX1_count_6 20 rfl rfl)
theorem dX1_count_164 : decode cX1_count 164 = .ok (.iconst 4, 1) := dk_7 (dk_at dksX1_count_6 23 rfl rfl)
theorem dX1_count_165 : decode cX1_count 165 = .ok (.if_icmp .ne 7, 3) := dk_160 0 7 (dk_at dksX1_count_7 0 rfl rfl)
theorem dX1_count_168 : decode cX1_count 168 = .ok (.iconst 1, 1) := dk_4 (dk_at dksX1_count_7 3 rfl rfl)
theorem dX1_count_169 : decode cX1_count 169 = .ok (.goto 4, 3) := dk_167 0 4 (dk_at dksX1_count_7 4 rfl rfl)
theorem dX1_count_172 : decode cX1_count 172 = .ok (.iconst 0, 1) := dk_3 (dk_at dksX1_count_7 7 rfl rfl)
theorem dX1_count_173 : decode cX1_count 173 = .ok (.iadd, 1) := dk_96 (dk_at dksX1_count_7 8 rfl rfl)
theorem dX1_count_174 : decode cX1_count 174 = .ok (.istore 7, 2) := dk_54 7 (dk_at dksX1_count_7 9 rfl rfl)
theorem dX1_count_176 : decode cX1_count 176 = .ok (.iinc 8 1, 3) := dk_132 8 1 (dk_at dksX1_count_7 11 rfl rfl)
theorem dX1_count_179 : decode cX1_count 179 = .ok (.goto (-36), 3) := dk_167 255 220 (dk_at dksX1_count_7 14 rfl rfl)
theorem dX1_count_182 : decode cX1_count 182 = .ok (.iload_n 1, 1) := dk_27 (dk_at dksX1_count_7 17 rfl rfl)
theorem dX1_count_183 : decode cX1_count 183 = .ok (.tableswitch 152 0 16 #[81, 86, 91, 96, 101, 106, 108, 110, 113, 116, 119, 122, 127, 132, 137, 142, 147], 81) := by decide +kernel
theorem dX1_count_264 : decode cX1_count 264 = .ok (.aload_n 0, 1) := dk_42 (dk_at dksX1_count_9 0 rfl rfl)
theorem dX1_count_265 : decode cX1_count 265 = .ok (.getfield 415, 3) := dk_180 1 159 (dk_at dksX1_count_9 1 rfl rfl)
theorem dX1_count_268 : decode cX1_count 268 = .ok (.ireturn, 1) := dk_172 (dk_at dksX1_count_9 4 rfl rfl)
theorem dX1_count_269 : decode cX1_count 269 = .ok (.aload_n 0, 1) := dk_42 (dk_at dksX1_count_9 5 rfl rfl)
theorem dX1_count_270 : decode cX1_count 270 = .ok (.getfield 147, 3) := dk_180 0 147 (dk_at dksX1_count_9 6 rfl rfl)
theorem dX1_count_273 : decode cX1_count 273 = .ok (.ireturn, 1) := dk_172 (dk_at dksX1_count_9 9 rfl rfl)
theorem dX1_count_274 : decode cX1_count 274 = .ok (.aload_n 0, 1) := dk_42 (dk_at dksX1_count_9 10 rfl rfl)
theorem dX1_count_275 : decode cX1_count 275 = .ok (.getfield 199, 3) := dk_180 0 199 (dk_at dksX1_count_9 11 rfl rfl)
theorem dX1_count_278 : decode cX1_count 278 = .ok (.ireturn, 1) := dk_172 (dk_at dksX1_count_9 14 rfl rfl)
theorem dX1_count_279 : decode cX1_count 279 = .ok (.aload_n 0, 1) := dk_42 (dk_at dksX1_count_9 15 rfl rfl)
theorem dX1_count_280 : decode cX1_count 280 = .ok (.getfield 365, 3) := dk_180 1 109 (dk_at dksX1_count_9 16 rfl rfl)
theorem dX1_count_283 : decode cX1_count 283 = .ok (.ireturn, 1) := dk_172 (dk_at dksX1_count_9 19 rfl rfl)
theorem dX1_count_284 : decode cX1_count 284 = .ok (.aload_n 0, 1) := dk_42 (dk_at dksX1_count_9 20 rfl rfl)
theorem dX1_count_285 : decode cX1_count 285 = .ok (.getfield 587, 3) := dk_180 2 75 (dk_at dksX1_count_9 21 rfl rfl)
theorem dX1_count_288 : decode cX1_count 288 = .ok (.ireturn, 1) := dk_172 (dk_at dksX1_count_10 0 rfl rfl)
theorem dX1_count_289 : decode cX1_count 289 = .ok (.iload_n 2, 1) := dk_28 (dk_at dksX1_count_10 1 rfl rfl)
theorem dX1_count_290 : decode cX1_count 290 = .ok (.ireturn, 1) := dk_172 (dk_at dksX1_count_10 2 rfl rfl)
theorem dX1_count_291 : decode cX1_count 291 = .ok (.iload_n 3, 1) := dk_29 (dk_at dksX1_count_10 3 rfl rfl)
theorem dX1_count_292 : decode cX1_count 292 = .ok (.ireturn, 1) := dk_172 (dk_at dksX1_count_10 4 rfl rfl)
theorem dX1_count_293 : decode cX1_count 293 = .ok (.iload 4, 2) := dk_21 4 (dk_at dksX1_count_10 5 rfl rfl)
theorem dX1_count_295 : decode cX1_count 295 = .ok (.ireturn, 1) := dk_172 (dk_at dksX1_count_10 7 rfl rfl)
theorem dX1_count_296 : decode cX1_count 296 = .ok (.iload 5, 2) := dk_21 5 (dk_at dksX1_count_10 8 rfl rfl)
theorem dX1_count_298 : decode cX1_count 298 = .ok (.ireturn, 1) := dk_172 (dk_at dksX1_count_10 10 rfl rfl)
theorem dX1_count_299 : decode cX1_count 299 = .ok (.iload 6, 2) := dk_21 6 (dk_at dksX1_count_10 11 rfl rfl)
theorem dX1_count_301 : decode cX1_count 301 = .ok (.ireturn, 1) := dk_172 (dk_at dksX1_count_10 13 rfl rfl)
theorem dX1_count_302 : decode cX1_count 302 = .ok (.iload 7, 2) := dk_21 7 (dk_at dksX1_count_10 14 rfl rfl)
theorem dX1_count_304 : decode cX1_count 304 = .ok (.ireturn, 1) := dk_172 (dk_at dksX1_count_10 16 rfl rfl)
theorem dX1_count_305 : decode cX1_count 305 = .ok (.aload_n 0, 1) := dk_42 (dk_at dksX1_count_10 17 rfl rfl)
theorem dX1_count_306 : decode cX1_count 306 = .ok (.getfield 746, 3) := dk_180 2 234 (dk_at dksX1_count_10 18 rfl rfl)
theorem dX1_count_309 : decode cX1_count 309 = .ok (.ireturn, 1) := dk_172 (dk_at dksX1_count_10 21 rfl rfl)
theorem dX1_count_310 : decode cX1_count 310 = .ok (.aload_n 0, 1) := dk_42 (dk_at dksX1_count_10 22 rfl rfl)
theorem dX1_count_311 : decode cX1_count 311 = .ok (.getfield 580, 3) := dk_180 2 68 (dk_at dksX1_count_11 0 rfl rfl)
theorem dX1_count_314 : decode cX1_count 314 = .ok (.ireturn, 1) := dk_172 (dk_at dksX1_count_11 3 rfl rfl)
theorem dX1_count_315 : decode cX1_count 315 = .ok (.aload_n 0, 1) := dk_42 (dk_at dksX1_count_11 4 rfl rfl)
theorem dX1_count_316 : decode cX1_count 316 = .ok (.getfield 458, 3) := dk_180 1 202 (dk_at dksX1_count_11 5 rfl rfl)
theorem dX1_count_319 : decode cX1_count 319 = .ok (.ireturn, 1) := dk_172 (dk_at dksX1_count_11 8 rfl rfl)
theorem dX1_count_320 : decode cX1_count 320 = .ok (.aload_n 0, 1) := dk_42 (dk_at dksX1_count_11 9 rfl rfl)
theorem dX1_count_321 : decode cX1_count 321 = .ok (.getfield 356, 3) := dk_180 1 100 (dk_at dksX1_count_11 10 rfl rfl)
theorem dX1_count_324 : decode cX1_count 324 = .ok (.ireturn, 1) := dk_172 (dk_at dksX1_count_11 13 rfl rfl)
theorem dX1_count_325 : decode cX1_count 325 = .ok (.aload_n 0, 1) := dk_42 (dk_at dksX1_count_11 14 rfl rfl)
theorem dX1_count_326 : decode cX1_count 326 = .ok (.getfield 359, 3) := dk_180 1 103 (dk_at dksX1_count_11 15 rfl rfl)
theorem dX1_count_329 : decode cX1_count 329 = .ok (.ireturn, 1) := dk_172 (dk_at dksX1_count_11 18 rfl rfl)
theorem dX1_count_330 : decode cX1_count 330 = .ok (.aload_n 0, 1) := dk_42 (dk_at dksX1_count_11 19 rfl rfl)
theorem dX1_count_331 : decode cX1_count 331 = .ok (.getfield 826, 3) := dk_180 3 58 (dk_at dksX1_count_11 20 rfl rfl)
theorem dX1_count_334 : decode cX1_count 334 = .ok (.ireturn, 1) := dk_172 (dk_at dksX1_count_11 23 rfl rfl)
theorem dX1_count_335 : decode cX1_count 335 = .ok (.iconst (-1), 1) := dk_2 (dk_at dksX1_count_12 0 rfl rfl)
theorem dX1_count_336 : decode cX1_count 336 = .ok (.ireturn, 1) := dk_172 (dk_at dksX1_count_12 1 rfl rfl)
abbrev cX1_about : ByteArray := prog_1_method_47_code
def yX1_about : MethodName := ⟨RX1, "about", "(II)I"⟩
def dkwX1_about_4 : List UInt8 := [180, 1, 178, 172, 45, 182, 1, 162, 172, 45, 180, 1, 181, 172, 187, 1, 169, 89, 183, 1, 171, 191]
abbrev dktX1_about_4 : List UInt8 := dkwX1_about_4 ++ []
def dkwX1_about_3 : List UInt8 := [199, 0, 7, 2, 167, 0, 11, 42, 45, 180, 1, 145, 182, 1, 175, 172, 45, 180, 1, 149, 172, 45]
abbrev dktX1_about_3 : List UInt8 := dkwX1_about_3 ++ dktX1_about_4
def dkwX1_about_2 : List UInt8 := [45, 180, 1, 133, 172, 45, 180, 1, 139, 172, 45, 180, 1, 142, 172, 45, 180, 1, 172, 172, 45, 180, 1, 145]
abbrev dktX1_about_2 : List UInt8 := dkwX1_about_2 ++ dktX1_about_3
def dkwX1_about_1 : List UInt8 := [170, 0, 0, 0, 0, 0, 0, 112, 0, 0, 0, 0, 0, 0, 0, 8, 0, 0, 0, 52, 0, 0, 0, 57, 0, 0, 0, 62, 0, 0, 0, 67, 0, 0, 0, 72, 0, 0, 0, 92, 0, 0, 0, 97, 0, 0, 0, 102, 0, 0, 0, 107]
abbrev dktX1_about_1 : List UInt8 := dkwX1_about_1 ++ dktX1_about_2
def dkwX1_about_0 : List UInt8 := [42, 27, 182, 1, 130, 154, 0, 11, 187, 1, 169, 89, 183, 1, 171, 191, 42, 180, 0, 48, 27, 50, 78, 28]
abbrev dktX1_about_0 : List UInt8 := dkwX1_about_0 ++ dktX1_about_1
theorem dksX1_about_0 : cX1_about.data.toList.drop 0 = dktX1_about_0 := by decide +kernel
theorem dksX1_about_1 : cX1_about.data.toList.drop 24 = dktX1_about_1 := dk_seg dksX1_about_0 24 rfl rfl
theorem dksX1_about_2 : cX1_about.data.toList.drop 76 = dktX1_about_2 := dk_seg dksX1_about_1 52 rfl rfl
theorem dksX1_about_3 : cX1_about.data.toList.drop 100 = dktX1_about_3 := dk_seg dksX1_about_2 24 rfl rfl
theorem dksX1_about_4 : cX1_about.data.toList.drop 122 = dktX1_about_4 := dk_seg dksX1_about_3 22 rfl rfl
theorem dX1_about_0 : decode cX1_about 0 = .ok (.aload_n 0, 1) := dk_42 (dk_at dksX1_about_0 0 rfl rfl)
theorem dX1_about_1 : decode cX1_about 1 = .ok (.iload_n 1, 1) := dk_27 (dk_at dksX1_about_0 1 rfl rfl)
theorem dX1_about_2 : decode cX1_about 2 = .ok (.invokevirtual 386, 3) := dk_182 1 130 (dk_at dksX1_about_0 2 rfl rfl)
theorem dX1_about_5 : decode cX1_about 5 = .ok (.ifCond .ne 11, 3) := dk_154 0 11 (dk_at dksX1_about_0 5 rfl rfl)
theorem dX1_about_8 : decode cX1_about 8 = .ok (.new 425, 3) := dk_187 1 169 (dk_at dksX1_about_0 8 rfl rfl)
theorem dX1_about_11 : decode cX1_about 11 = .ok (.dup, 1) := dk_89 (dk_at dksX1_about_0 11 rfl rfl)
theorem dX1_about_12 : decode cX1_about 12 = .ok (.invokespecial 427, 3) := dk_183 1 171 (dk_at dksX1_about_0 12 rfl rfl)
theorem dX1_about_15 : decode cX1_about 15 = .ok (.athrow, 1) := dk_191 (dk_at dksX1_about_0 15 rfl rfl)
theorem dX1_about_16 : decode cX1_about 16 = .ok (.aload_n 0, 1) := dk_42 (dk_at dksX1_about_0 16 rfl rfl)
theorem dX1_about_17 : decode cX1_about 17 = .ok (.getfield 48, 3) := dk_180 0 48 (dk_at dksX1_about_0 17 rfl rfl)
theorem dX1_about_20 : decode cX1_about 20 = .ok (.iload_n 1, 1) := dk_27 (dk_at dksX1_about_0 20 rfl rfl)
theorem dX1_about_21 : decode cX1_about 21 = .ok (.aaload, 1) := dk_50 (dk_at dksX1_about_0 21 rfl rfl)
theorem dX1_about_22 : decode cX1_about 22 = .ok (.astore_n 3, 1) := dk_78 (dk_at dksX1_about_0 22 rfl rfl)
theorem dX1_about_23 : decode cX1_about 23 = .ok (.iload_n 2, 1) := dk_28 (dk_at dksX1_about_0 23 rfl rfl)
theorem dX1_about_24 : decode cX1_about 24 = .ok (.tableswitch 112 0 8 #[52, 57, 62, 67, 72, 92, 97, 102, 107], 52) := by decide +kernel
theorem dX1_about_76 : decode cX1_about 76 = .ok (.aload_n 3, 1) := dk_45 (dk_at dksX1_about_2 0 rfl rfl)
theorem dX1_about_77 : decode cX1_about 77 = .ok (.getfield 389, 3) := dk_180 1 133 (dk_at dksX1_about_2 1 rfl rfl)
theorem dX1_about_80 : decode cX1_about 80 = .ok (.ireturn, 1) := dk_172 (dk_at dksX1_about_2 4 rfl rfl)
theorem dX1_about_81 : decode cX1_about 81 = .ok (.aload_n 3, 1) := dk_45 (dk_at dksX1_about_2 5 rfl rfl)
theorem dX1_about_82 : decode cX1_about 82 = .ok (.getfield 395, 3) := dk_180 1 139 (dk_at dksX1_about_2 6 rfl rfl)
theorem dX1_about_85 : decode cX1_about 85 = .ok (.ireturn, 1) := dk_172 (dk_at dksX1_about_2 9 rfl rfl)
theorem dX1_about_86 : decode cX1_about 86 = .ok (.aload_n 3, 1) := dk_45 (dk_at dksX1_about_2 10 rfl rfl)
theorem dX1_about_87 : decode cX1_about 87 = .ok (.getfield 398, 3) := dk_180 1 142 (dk_at dksX1_about_2 11 rfl rfl)
theorem dX1_about_90 : decode cX1_about 90 = .ok (.ireturn, 1) := dk_172 (dk_at dksX1_about_2 14 rfl rfl)
theorem dX1_about_91 : decode cX1_about 91 = .ok (.aload_n 3, 1) := dk_45 (dk_at dksX1_about_2 15 rfl rfl)
theorem dX1_about_92 : decode cX1_about 92 = .ok (.getfield 428, 3) := dk_180 1 172 (dk_at dksX1_about_2 16 rfl rfl)
theorem dX1_about_95 : decode cX1_about 95 = .ok (.ireturn, 1) := dk_172 (dk_at dksX1_about_2 19 rfl rfl)
theorem dX1_about_96 : decode cX1_about 96 = .ok (.aload_n 3, 1) := dk_45 (dk_at dksX1_about_2 20 rfl rfl)
theorem dX1_about_97 : decode cX1_about 97 = .ok (.getfield 401, 3) := dk_180 1 145 (dk_at dksX1_about_2 21 rfl rfl)
theorem dX1_about_100 : decode cX1_about 100 = .ok (.ifnonnull 7, 3) := dk_199 0 7 (dk_at dksX1_about_3 0 rfl rfl)
theorem dX1_about_103 : decode cX1_about 103 = .ok (.iconst (-1), 1) := dk_2 (dk_at dksX1_about_3 3 rfl rfl)
theorem dX1_about_104 : decode cX1_about 104 = .ok (.goto 11, 3) := dk_167 0 11 (dk_at dksX1_about_3 4 rfl rfl)
theorem dX1_about_107 : decode cX1_about 107 = .ok (.aload_n 0, 1) := dk_42 (dk_at dksX1_about_3 7 rfl rfl)
theorem dX1_about_108 : decode cX1_about 108 = .ok (.aload_n 3, 1) := dk_45 (dk_at dksX1_about_3 8 rfl rfl)
theorem dX1_about_109 : decode cX1_about 109 = .ok (.getfield 401, 3) := dk_180 1 145 (dk_at dksX1_about_3 9 rfl rfl)
theorem dX1_about_112 : decode cX1_about 112 = .ok (.invokevirtual 431, 3) := dk_182 1 175 (dk_at dksX1_about_3 12 rfl rfl)
theorem dX1_about_115 : decode cX1_about 115 = .ok (.ireturn, 1) := dk_172 (dk_at dksX1_about_3 15 rfl rfl)
theorem dX1_about_116 : decode cX1_about 116 = .ok (.aload_n 3, 1) := dk_45 (dk_at dksX1_about_3 16 rfl rfl)
theorem dX1_about_117 : decode cX1_about 117 = .ok (.getfield 405, 3) := dk_180 1 149 (dk_at dksX1_about_3 17 rfl rfl)
theorem dX1_about_120 : decode cX1_about 120 = .ok (.ireturn, 1) := dk_172 (dk_at dksX1_about_3 20 rfl rfl)
theorem dX1_about_121 : decode cX1_about 121 = .ok (.aload_n 3, 1) := dk_45 (dk_at dksX1_about_3 21 rfl rfl)
theorem dX1_about_122 : decode cX1_about 122 = .ok (.getfield 434, 3) := dk_180 1 178 (dk_at dksX1_about_4 0 rfl rfl)
theorem dX1_about_125 : decode cX1_about 125 = .ok (.ireturn, 1) := dk_172 (dk_at dksX1_about_4 3 rfl rfl)
theorem dX1_about_126 : decode cX1_about 126 = .ok (.aload_n 3, 1) := dk_45 (dk_at dksX1_about_4 4 rfl rfl)
theorem dX1_about_127 : decode cX1_about 127 = .ok (.invokevirtual 418, 3) := dk_182 1 162 (dk_at dksX1_about_4 5 rfl rfl)
theorem dX1_about_130 : decode cX1_about 130 = .ok (.ireturn, 1) := dk_172 (dk_at dksX1_about_4 8 rfl rfl)
theorem dX1_about_131 : decode cX1_about 131 = .ok (.aload_n 3, 1) := dk_45 (dk_at dksX1_about_4 9 rfl rfl)
theorem dX1_about_132 : decode cX1_about 132 = .ok (.getfield 437, 3) := dk_180 1 181 (dk_at dksX1_about_4 10 rfl rfl)
theorem dX1_about_135 : decode cX1_about 135 = .ok (.ireturn, 1) := dk_172 (dk_at dksX1_about_4 13 rfl rfl)
theorem dX1_about_136 : decode cX1_about 136 = .ok (.new 425, 3) := dk_187 1 169 (dk_at dksX1_about_4 14 rfl rfl)
theorem dX1_about_139 : decode cX1_about 139 = .ok (.dup, 1) := dk_89 (dk_at dksX1_about_4 17 rfl rfl)
theorem dX1_about_140 : decode cX1_about 140 = .ok (.invokespecial 427, 3) := dk_183 1 171 (dk_at dksX1_about_4 18 rfl rfl)
theorem dX1_about_143 : decode cX1_about 143 = .ok (.athrow, 1) := dk_191 (dk_at dksX1_about_4 21 rfl rfl)
abbrev cX1_numberOf : ByteArray := prog_1_method_48_code
def yX1_numberOf : MethodName := ⟨RX1, "numberOf", "(LCityBrigade$House;)I"⟩
def dkwX1_numberOf_1 : List UInt8 := [132, 2, 1, 167, 255, 233, 2, 172]
abbrev dktX1_numberOf_1 : List UInt8 := dkwX1_numberOf_1 ++ []
def dkwX1_numberOf_0 : List UInt8 := [3, 61, 28, 42, 180, 0, 199, 162, 0, 21, 42, 180, 0, 30, 28, 50, 43, 166, 0, 5, 28, 172]
abbrev dktX1_numberOf_0 : List UInt8 := dkwX1_numberOf_0 ++ dktX1_numberOf_1
theorem dksX1_numberOf_0 : cX1_numberOf.data.toList.drop 0 = dktX1_numberOf_0 := by decide +kernel
theorem dksX1_numberOf_1 : cX1_numberOf.data.toList.drop 22 = dktX1_numberOf_1 := dk_seg dksX1_numberOf_0 22 rfl rfl
theorem dX1_numberOf_0 : decode cX1_numberOf 0 = .ok (.iconst 0, 1) := dk_3 (dk_at dksX1_numberOf_0 0 rfl rfl)
theorem dX1_numberOf_1 : decode cX1_numberOf 1 = .ok (.istore_n 2, 1) := dk_61 (dk_at dksX1_numberOf_0 1 rfl rfl)
theorem dX1_numberOf_2 : decode cX1_numberOf 2 = .ok (.iload_n 2, 1) := dk_28 (dk_at dksX1_numberOf_0 2 rfl rfl)
theorem dX1_numberOf_3 : decode cX1_numberOf 3 = .ok (.aload_n 0, 1) := dk_42 (dk_at dksX1_numberOf_0 3 rfl rfl)
theorem dX1_numberOf_4 : decode cX1_numberOf 4 = .ok (.getfield 199, 3) := dk_180 0 199 (dk_at dksX1_numberOf_0 4 rfl rfl)
theorem dX1_numberOf_7 : decode cX1_numberOf 7 = .ok (.if_icmp .ge 21, 3) := dk_162 0 21 (dk_at dksX1_numberOf_0 7 rfl rfl)
theorem dX1_numberOf_10 : decode cX1_numberOf 10 = .ok (.aload_n 0, 1) := dk_42 (dk_at dksX1_numberOf_0 10 rfl rfl)
theorem dX1_numberOf_11 : decode cX1_numberOf 11 = .ok (.getfield 30, 3) := dk_180 0 30 (dk_at dksX1_numberOf_0 11 rfl rfl)
theorem dX1_numberOf_14 : decode cX1_numberOf 14 = .ok (.iload_n 2, 1) := dk_28 (dk_at dksX1_numberOf_0 14 rfl rfl)
theorem dX1_numberOf_15 : decode cX1_numberOf 15 = .ok (.aaload, 1) := dk_50 (dk_at dksX1_numberOf_0 15 rfl rfl)
theorem dX1_numberOf_16 : decode cX1_numberOf 16 = .ok (.aload_n 1, 1) := dk_43 (dk_at dksX1_numberOf_0 16 rfl rfl)
theorem dX1_numberOf_17 : decode cX1_numberOf 17 = .ok (.if_acmp .ne 5, 3) := dk_166 0 5 (dk_at dksX1_numberOf_0 17 rfl rfl)
theorem dX1_numberOf_20 : decode cX1_numberOf 20 = .ok (.iload_n 2, 1) := dk_28 (dk_at dksX1_numberOf_0 20 rfl rfl)
theorem dX1_numberOf_21 : decode cX1_numberOf 21 = .ok (.ireturn, 1) := dk_172 (dk_at dksX1_numberOf_0 21 rfl rfl)
theorem dX1_numberOf_22 : decode cX1_numberOf 22 = .ok (.iinc 2 1, 3) := dk_132 2 1 (dk_at dksX1_numberOf_1 0 rfl rfl)
theorem dX1_numberOf_25 : decode cX1_numberOf 25 = .ok (.goto (-23), 3) := dk_167 255 233 (dk_at dksX1_numberOf_1 3 rfl rfl)
theorem dX1_numberOf_28 : decode cX1_numberOf 28 = .ok (.iconst (-1), 1) := dk_2 (dk_at dksX1_numberOf_1 6 rfl rfl)
theorem dX1_numberOf_29 : decode cX1_numberOf 29 = .ok (.ireturn, 1) := dk_172 (dk_at dksX1_numberOf_1 7 rfl rfl)
theorem q159 : (Jvm.Cond.initialized "CityBrigade") ∈ lw_all := lw_g (lw_at lw_m1 1 rfl) rfl
theorem q202 : (Jvm.Cond.instantiable "CityBrigade" (58 : Nat)) ∈ lw_all := lw_g (lw_at lw_m1 44 rfl) rfl
theorem q204 : (Jvm.Cond.instanceMethod ({ cls := "CityBrigade", name := "<init>", desc := "()V" } : Jvm.MethodName)) ∈ lw_all := lw_g (lw_at lw_m1 46 rfl) rfl
theorem q205 : (Jvm.Cond.code ({ cls := "CityBrigade", name := "<init>", desc := "()V" } : Jvm.MethodName) prog_1_method_4_code (1 : Nat) (Option.none : Option Jvm.ClassFile.FieldType)) ∈ lw_all := lw_g (lw_at lw_m1 47 rfl) rfl
theorem q206 : (Jvm.Cond.methodLink "CityBrigade" (7 : Nat) ({ cls := "java/lang/Object", name := "<init>", desc := "()V" } : Jvm.MethodName)) ∈ lw_all := lw_g (lw_at lw_m1 48 rfl) rfl
theorem q209 : (Jvm.Cond.classLink "CityBrigade" (13 : Nat) "CityBrigade$Street") ∈ lw_all := lw_g (lw_at lw_m1 51 rfl) rfl
theorem q211 : (Jvm.Cond.classLink "CityBrigade" (19 : Nat) "[[Z") ∈ lw_all := lw_g (lw_at lw_m1 53 rfl) rfl
theorem q213 : (Jvm.Cond.classLink "CityBrigade" (28 : Nat) "CityBrigade$House") ∈ lw_all := lw_g (lw_at lw_m1 55 rfl) rfl
theorem q215 : (Jvm.Cond.classLink "CityBrigade" (40 : Nat) "CityBrigade$Head") ∈ lw_all := lw_g (lw_at lw_m1 57 rfl) rfl
theorem q217 : (Jvm.Cond.classLink "CityBrigade" (46 : Nat) "CityBrigade$Crew") ∈ lw_all := lw_g (lw_at lw_m1 59 rfl) rfl
theorem q219 : (Jvm.Cond.classLink "CityBrigade" (55 : Nat) "CityBrigade$Fault") ∈ lw_all := lw_g (lw_at lw_m1 61 rfl) rfl
theorem q258 : (Jvm.Cond.methodLinkNest "CityBrigade" (57 : Nat) ({ cls := "CityBrigade$Fault", name := "<init>", desc := "()V" } : Jvm.MethodName) "CityBrigade") ∈ lw_tbl := lw_at lw_m1 100 rfl
theorem q280 : (Jvm.Cond.classLink "CityBrigade" (66 : Nat) "CityBrigade$Clause") ∈ lw_all := lw_g (lw_at lw_m1 122 rfl) rfl
theorem q282 : (Jvm.Cond.classLink "CityBrigade" (72 : Nat) "CityBrigade$Call") ∈ lw_all := lw_g (lw_at lw_m1 124 rfl) rfl
theorem q284 : (Jvm.Cond.classLink "CityBrigade" (117 : Nat) "[[I") ∈ lw_all := lw_g (lw_at lw_m1 126 rfl) rfl
theorem q286 : (Jvm.Cond.classLink "CityBrigade" (134 : Nat) "CityBrigade$Row") ∈ lw_all := lw_g (lw_at lw_m1 128 rfl) rfl
theorem q288 : (Jvm.Cond.fieldLink "CityBrigade" (415 : Nat) "CityBrigade" "now" "I") ∈ lw_all := lw_g (lw_at lw_m1 130 rfl) rfl
theorem q289 : (Jvm.Cond.fieldLink "CityBrigade" (15 : Nat) "CityBrigade" "streets" "[LCityBrigade$Street;") ∈ lw_all := lw_g (lw_at lw_m1 131 rfl) rfl
theorem q290 : (Jvm.Cond.fieldLink "CityBrigade" (147 : Nat) "CityBrigade" "streetMany" "I") ∈ lw_all := lw_g (lw_at lw_m1 132 rfl) rfl
theorem q291 : (Jvm.Cond.fieldLink "CityBrigade" (21 : Nat) "CityBrigade" "there" "[[Z") ∈ lw_all := lw_g (lw_at lw_m1 133 rfl) rfl
theorem q292 : (Jvm.Cond.fieldLink "CityBrigade" (24 : Nat) "CityBrigade" "walk" "[I") ∈ lw_all := lw_g (lw_at lw_m1 134 rfl) rfl
theorem q293 : (Jvm.Cond.fieldLink "CityBrigade" (30 : Nat) "CityBrigade" "houses" "[LCityBrigade$House;") ∈ lw_all := lw_g (lw_at lw_m1 135 rfl) rfl
theorem q294 : (Jvm.Cond.fieldLink "CityBrigade" (199 : Nat) "CityBrigade" "houseMany" "I") ∈ lw_all := lw_g (lw_at lw_m1 136 rfl) rfl
theorem q295 : (Jvm.Cond.fieldLink "CityBrigade" (34 : Nat) "CityBrigade" "gives" "[I") ∈ lw_all := lw_g (lw_at lw_m1 137 rfl) rfl
theorem q296 : (Jvm.Cond.fieldLink "CityBrigade" (37 : Nat) "CityBrigade" "asked" "[I") ∈ lw_all := lw_g (lw_at lw_m1 138 rfl) rfl
theorem q297 : (Jvm.Cond.fieldLink "CityBrigade" (42 : Nat) "CityBrigade" "heads" "[LCityBrigade$Head;") ∈ lw_all := lw_g (lw_at lw_m1 139 rfl) rfl
theorem q298 : (Jvm.Cond.fieldLink "CityBrigade" (356 : Nat) "CityBrigade" "mainMany" "I") ∈ lw_all := lw_g (lw_at lw_m1 140 rfl) rfl
theorem q299 : (Jvm.Cond.fieldLink "CityBrigade" (359 : Nat) "CityBrigade" "headMany" "I") ∈ lw_all := lw_g (lw_at lw_m1 141 rfl) rfl
theorem q300 : (Jvm.Cond.fieldLink "CityBrigade" (48 : Nat) "CityBrigade" "crews" "[LCityBrigade$Crew;") ∈ lw_all := lw_g (lw_at lw_m1 142 rfl) rfl
theorem q301 : (Jvm.Cond.fieldLink "CityBrigade" (365 : Nat) "CityBrigade" "crewMany" "I") ∈ lw_all := lw_g (lw_at lw_m1 143 rfl) rfl
theorem q302 : (Jvm.Cond.fieldLink "CityBrigade" (52 : Nat) "CityBrigade" "letters" "[I") ∈ lw_all := lw_g (lw_at lw_m1 144 rfl) rfl
theorem q303 : (Jvm.Cond.fieldLink "CityBrigade" (58 : Nat) "CityBrigade" "fault" "LCityBrigade$Fault;") ∈ lw_all := lw_g (lw_at lw_m1 145 rfl) rfl
theorem q304 : (Jvm.Cond.fieldLink "CityBrigade" (62 : Nat) "CityBrigade" "tape" "[B") ∈ lw_all := lw_g (lw_at lw_m1 146 rfl) rfl
theorem q305 : (Jvm.Cond.fieldLink "CityBrigade" (458 : Nat) "CityBrigade" "taped" "I") ∈ lw_all := lw_g (lw_at lw_m1 147 rfl) rfl
theorem q306 : (Jvm.Cond.fieldLink "CityBrigade" (461 : Nat) "CityBrigade" "at" "I") ∈ lw_all := lw_g (lw_at lw_m1 148 rfl) rfl
theorem q307 : (Jvm.Cond.fieldLink "CityBrigade" (480 : Nat) "CityBrigade" "deep" "I") ∈ lw_all := lw_g (lw_at lw_m1 149 rfl) rfl
theorem q308 : (Jvm.Cond.fieldLink "CityBrigade" (493 : Nat) "CityBrigade" "kind" "I") ∈ lw_all := lw_g (lw_at lw_m1 150 rfl) rfl
theorem q309 : (Jvm.Cond.fieldLink "CityBrigade" (68 : Nat) "CityBrigade" "orders" "[LCityBrigade$Clause;") ∈ lw_all := lw_g (lw_at lw_m1 151 rfl) rfl
theorem q310 : (Jvm.Cond.fieldLink "CityBrigade" (583 : Nat) "CityBrigade" "leaving" "LCityBrigade$Test;") ∈ lw_all := lw_g (lw_at lw_m1 152 rfl) rfl
theorem q311 : (Jvm.Cond.fieldLink "CityBrigade" (580 : Nat) "CityBrigade" "orderMany" "I") ∈ lw_all := lw_g (lw_at lw_m1 153 rfl) rfl
theorem q312 : (Jvm.Cond.fieldLink "CityBrigade" (74 : Nat) "CityBrigade" "calls" "[LCityBrigade$Call;") ∈ lw_all := lw_g (lw_at lw_m1 154 rfl) rfl
theorem q313 : (Jvm.Cond.fieldLink "CityBrigade" (587 : Nat) "CityBrigade" "callMany" "I") ∈ lw_all := lw_g (lw_at lw_m1 155 rfl) rfl
theorem q314 : (Jvm.Cond.fieldLink "CityBrigade" (78 : Nat) "CityBrigade" "wanted" "[I") ∈ lw_all := lw_g (lw_at lw_m1 156 rfl) rfl
theorem q315 : (Jvm.Cond.fieldLink "CityBrigade" (618 : Nat) "CityBrigade" "whyBits" "I") ∈ lw_all := lw_g (lw_at lw_m1 157 rfl) rfl
theorem q316 : (Jvm.Cond.fieldLink "CityBrigade" (633 : Nat) "CityBrigade" "soonest" "I") ∈ lw_all := lw_g (lw_at lw_m1 158 rfl) rfl
theorem q317 : (Jvm.Cond.fieldLink "CityBrigade" (81 : Nat) "CityBrigade" "mainFor" "[I") ∈ lw_all := lw_g (lw_at lw_m1 159 rfl) rfl
theorem q318 : (Jvm.Cond.fieldLink "CityBrigade" (84 : Nat) "CityBrigade" "acts" "[LCityBrigade$Clause;") ∈ lw_all := lw_g (lw_at lw_m1 160 rfl) rfl
theorem q319 : (Jvm.Cond.fieldLink "CityBrigade" (87 : Nat) "CityBrigade" "actFrom" "[I") ∈ lw_all := lw_g (lw_at lw_m1 161 rfl) rfl
theorem q320 : (Jvm.Cond.fieldLink "CityBrigade" (90 : Nat) "CityBrigade" "actTold" "[I") ∈ lw_all := lw_g (lw_at lw_m1 162 rfl) rfl
theorem q321 : (Jvm.Cond.fieldLink "CityBrigade" (93 : Nat) "CityBrigade" "noteHouse" "[I") ∈ lw_all := lw_g (lw_at lw_m1 163 rfl) rfl
theorem q322 : (Jvm.Cond.fieldLink "CityBrigade" (96 : Nat) "CityBrigade" "noteUse" "[I") ∈ lw_all := lw_g (lw_at lw_m1 164 rfl) rfl
theorem q323 : (Jvm.Cond.fieldLink "CityBrigade" (99 : Nat) "CityBrigade" "noteFrom" "[I") ∈ lw_all := lw_g (lw_at lw_m1 165 rfl) rfl
theorem q324 : (Jvm.Cond.fieldLink "CityBrigade" (102 : Nat) "CityBrigade" "noteTold" "[I") ∈ lw_all := lw_g (lw_at lw_m1 166 rfl) rfl
theorem q325 : (Jvm.Cond.fieldLink "CityBrigade" (746 : Nat) "CityBrigade" "actMany" "I") ∈ lw_all := lw_g (lw_at lw_m1 167 rfl) rfl
theorem q326 : (Jvm.Cond.fieldLink "CityBrigade" (755 : Nat) "CityBrigade" "notes" "I") ∈ lw_all := lw_g (lw_at lw_m1 168 rfl) rfl
theorem q327 : (Jvm.Cond.fieldLink "CityBrigade" (774 : Nat) "CityBrigade" "codeFound" "I") ∈ lw_all := lw_g (lw_at lw_m1 169 rfl) rfl
theorem q328 : (Jvm.Cond.fieldLink "CityBrigade" (105 : Nat) "CityBrigade" "stops" "[I") ∈ lw_all := lw_g (lw_at lw_m1 170 rfl) rfl
theorem q329 : (Jvm.Cond.fieldLink "CityBrigade" (108 : Nat) "CityBrigade" "worths" "[I") ∈ lw_all := lw_g (lw_at lw_m1 171 rfl) rfl
theorem q330 : (Jvm.Cond.fieldLink "CityBrigade" (111 : Nat) "CityBrigade" "way" "[I") ∈ lw_all := lw_g (lw_at lw_m1 172 rfl) rfl
theorem q331 : (Jvm.Cond.fieldLink "CityBrigade" (114 : Nat) "CityBrigade" "bestWay" "[I") ∈ lw_all := lw_g (lw_at lw_m1 173 rfl) rfl
theorem q332 : (Jvm.Cond.fieldLink "CityBrigade" (119 : Nat) "CityBrigade" "walks" "[[I") ∈ lw_all := lw_g (lw_at lw_m1 174 rfl) rfl
theorem q333 : (Jvm.Cond.fieldLink "CityBrigade" (781 : Nat) "CityBrigade" "stopMany" "I") ∈ lw_all := lw_g (lw_at lw_m1 175 rfl) rfl
theorem q334 : (Jvm.Cond.fieldLink "CityBrigade" (790 : Nat) "CityBrigade" "wayMany" "I") ∈ lw_all := lw_g (lw_at lw_m1 176 rfl) rfl
theorem q335 : (Jvm.Cond.fieldLink "CityBrigade" (793 : Nat) "CityBrigade" "bestMany" "I") ∈ lw_all := lw_g (lw_at lw_m1 177 rfl) rfl
theorem q336 : (Jvm.Cond.fieldLink "CityBrigade" (784 : Nat) "CityBrigade" "bestWorth" "I") ∈ lw_all := lw_g (lw_at lw_m1 178 rfl) rfl
theorem q337 : (Jvm.Cond.fieldLink "CityBrigade" (787 : Nat) "CityBrigade" "bestMinutes" "I") ∈ lw_all := lw_g (lw_at lw_m1 179 rfl) rfl
theorem q338 : (Jvm.Cond.fieldLink "CityBrigade" (122 : Nat) "CityBrigade" "allWalks" "[[I") ∈ lw_all := lw_g (lw_at lw_m1 180 rfl) rfl
theorem q339 : (Jvm.Cond.fieldLink "CityBrigade" (125 : Nat) "CityBrigade" "weights" "[I") ∈ lw_all := lw_g (lw_at lw_m1 181 rfl) rfl
theorem q340 : (Jvm.Cond.fieldLink "CityBrigade" (128 : Nat) "CityBrigade" "picks" "[I") ∈ lw_all := lw_g (lw_at lw_m1 182 rfl) rfl
theorem q341 : (Jvm.Cond.fieldLink "CityBrigade" (131 : Nat) "CityBrigade" "bestPicks" "[I") ∈ lw_all := lw_g (lw_at lw_m1 183 rfl) rfl
theorem q342 : (Jvm.Cond.fieldLink "CityBrigade" (814 : Nat) "CityBrigade" "bestPoints" "I") ∈ lw_all := lw_g (lw_at lw_m1 184 rfl) rfl
theorem q343 : (Jvm.Cond.fieldLink "CityBrigade" (136 : Nat) "CityBrigade" "rows" "[LCityBrigade$Row;") ∈ lw_all := lw_g (lw_at lw_m1 185 rfl) rfl
theorem q344 : (Jvm.Cond.fieldLink "CityBrigade" (140 : Nat) "CityBrigade" "rowKinds" "[I") ∈ lw_all := lw_g (lw_at lw_m1 186 rfl) rfl
theorem q345 : (Jvm.Cond.fieldLink "CityBrigade" (826 : Nat) "CityBrigade" "rowMany" "I") ∈ lw_all := lw_g (lw_at lw_m1 187 rfl) rfl
theorem q346 : (Jvm.Cond.lays "CityBrigade" "CityBrigade" "now" "I") ∈ lw_all := lw_g (lw_at lw_m1 188 rfl) rfl
theorem q347 : (Jvm.Cond.soleField "CityBrigade" "now") ∈ lw_all := lw_g (lw_at lw_m1 189 rfl) rfl
theorem q348 : (Jvm.Cond.laysFinal "CityBrigade" "CityBrigade" "streets" "[LCityBrigade$Street;") ∈ lw_all := lw_g (lw_at lw_m1 190 rfl) rfl
theorem q349 : (Jvm.Cond.soleField "CityBrigade" "streets") ∈ lw_all := lw_g (lw_at lw_m1 191 rfl) rfl
theorem q350 : (Jvm.Cond.lays "CityBrigade" "CityBrigade" "streetMany" "I") ∈ lw_all := lw_g (lw_at lw_m1 192 rfl) rfl
theorem q351 : (Jvm.Cond.soleField "CityBrigade" "streetMany") ∈ lw_all := lw_g (lw_at lw_m1 193 rfl) rfl
theorem q352 : (Jvm.Cond.laysFinal "CityBrigade" "CityBrigade" "there" "[[Z") ∈ lw_all := lw_g (lw_at lw_m1 194 rfl) rfl
theorem q353 : (Jvm.Cond.soleField "CityBrigade" "there") ∈ lw_all := lw_g (lw_at lw_m1 195 rfl) rfl
theorem q354 : (Jvm.Cond.laysFinal "CityBrigade" "CityBrigade" "walk" "[I") ∈ lw_all := lw_g (lw_at lw_m1 196 rfl) rfl
theorem q355 : (Jvm.Cond.soleField "CityBrigade" "walk") ∈ lw_all := lw_g (lw_at lw_m1 197 rfl) rfl
theorem q356 : (Jvm.Cond.laysFinal "CityBrigade" "CityBrigade" "houses" "[LCityBrigade$House;") ∈ lw_all := lw_g (lw_at lw_m1 198 rfl) rfl
theorem q357 : (Jvm.Cond.soleField "CityBrigade" "houses") ∈ lw_all := lw_g (lw_at lw_m1 199 rfl) rfl
theorem q358 : (Jvm.Cond.lays "CityBrigade" "CityBrigade" "houseMany" "I") ∈ lw_all := lw_g (lw_at lw_m1 200 rfl) rfl
theorem q359 : (Jvm.Cond.soleField "CityBrigade" "houseMany") ∈ lw_all := lw_g (lw_at lw_m1 201 rfl) rfl
theorem q360 : (Jvm.Cond.laysFinal "CityBrigade" "CityBrigade" "gives" "[I") ∈ lw_all := lw_g (lw_at lw_m1 202 rfl) rfl
theorem q361 : (Jvm.Cond.soleField "CityBrigade" "gives") ∈ lw_all := lw_g (lw_at lw_m1 203 rfl) rfl
theorem q362 : (Jvm.Cond.laysFinal "CityBrigade" "CityBrigade" "asked" "[I") ∈ lw_all := lw_g (lw_at lw_m1 204 rfl) rfl
theorem q363 : (Jvm.Cond.soleField "CityBrigade" "asked") ∈ lw_all := lw_g (lw_at lw_m1 205 rfl) rfl
theorem q364 : (Jvm.Cond.laysFinal "CityBrigade" "CityBrigade" "heads" "[LCityBrigade$Head;") ∈ lw_all := lw_g (lw_at lw_m1 206 rfl) rfl
theorem q365 : (Jvm.Cond.soleField "CityBrigade" "heads") ∈ lw_all := lw_g (lw_at lw_m1 207 rfl) rfl
theorem q366 : (Jvm.Cond.lays "CityBrigade" "CityBrigade" "mainMany" "I") ∈ lw_all := lw_g (lw_at lw_m1 208 rfl) rfl
theorem q367 : (Jvm.Cond.soleField "CityBrigade" "mainMany") ∈ lw_all := lw_g (lw_at lw_m1 209 rfl) rfl
theorem q368 : (Jvm.Cond.lays "CityBrigade" "CityBrigade" "headMany" "I") ∈ lw_all := lw_g (lw_at lw_m1 210 rfl) rfl
theorem q369 : (Jvm.Cond.soleField "CityBrigade" "headMany") ∈ lw_all := lw_g (lw_at lw_m1 211 rfl) rfl
theorem q370 : (Jvm.Cond.laysFinal "CityBrigade" "CityBrigade" "crews" "[LCityBrigade$Crew;") ∈ lw_all := lw_g (lw_at lw_m1 212 rfl) rfl
theorem q371 : (Jvm.Cond.soleField "CityBrigade" "crews") ∈ lw_all := lw_g (lw_at lw_m1 213 rfl) rfl
theorem q372 : (Jvm.Cond.lays "CityBrigade" "CityBrigade" "crewMany" "I") ∈ lw_all := lw_g (lw_at lw_m1 214 rfl) rfl
theorem q373 : (Jvm.Cond.soleField "CityBrigade" "crewMany") ∈ lw_all := lw_g (lw_at lw_m1 215 rfl) rfl
theorem q374 : (Jvm.Cond.laysFinal "CityBrigade" "CityBrigade" "letters" "[I") ∈ lw_all := lw_g (lw_at lw_m1 216 rfl) rfl
theorem q375 : (Jvm.Cond.soleField "CityBrigade" "letters") ∈ lw_all := lw_g (lw_at lw_m1 217 rfl) rfl
theorem q376 : (Jvm.Cond.laysFinal "CityBrigade" "CityBrigade" "fault" "LCityBrigade$Fault;") ∈ lw_all := lw_g (lw_at lw_m1 218 rfl) rfl
theorem q377 : (Jvm.Cond.soleField "CityBrigade" "fault") ∈ lw_all := lw_g (lw_at lw_m1 219 rfl) rfl
theorem q378 : (Jvm.Cond.laysFinal "CityBrigade" "CityBrigade" "tape" "[B") ∈ lw_all := lw_g (lw_at lw_m1 220 rfl) rfl
theorem q379 : (Jvm.Cond.soleField "CityBrigade" "tape") ∈ lw_all := lw_g (lw_at lw_m1 221 rfl) rfl
theorem q380 : (Jvm.Cond.lays "CityBrigade" "CityBrigade" "taped" "I") ∈ lw_all := lw_g (lw_at lw_m1 222 rfl) rfl
theorem q381 : (Jvm.Cond.soleField "CityBrigade" "taped") ∈ lw_all := lw_g (lw_at lw_m1 223 rfl) rfl
theorem q382 : (Jvm.Cond.lays "CityBrigade" "CityBrigade" "at" "I") ∈ lw_all := lw_g (lw_at lw_m1 224 rfl) rfl
theorem q383 : (Jvm.Cond.soleField "CityBrigade" "at") ∈ lw_all := lw_g (lw_at lw_m1 225 rfl) rfl
theorem q384 : (Jvm.Cond.lays "CityBrigade" "CityBrigade" "deep" "I") ∈ lw_all := lw_g (lw_at lw_m1 226 rfl) rfl
theorem q385 : (Jvm.Cond.soleField "CityBrigade" "deep") ∈ lw_all := lw_g (lw_at lw_m1 227 rfl) rfl
theorem q386 : (Jvm.Cond.lays "CityBrigade" "CityBrigade" "kind" "I") ∈ lw_all := lw_g (lw_at lw_m1 228 rfl) rfl
theorem q387 : (Jvm.Cond.soleField "CityBrigade" "kind") ∈ lw_all := lw_g (lw_at lw_m1 229 rfl) rfl
theorem q388 : (Jvm.Cond.laysFinal "CityBrigade" "CityBrigade" "orders" "[LCityBrigade$Clause;") ∈ lw_all := lw_g (lw_at lw_m1 230 rfl) rfl
theorem q389 : (Jvm.Cond.soleField "CityBrigade" "orders") ∈ lw_all := lw_g (lw_at lw_m1 231 rfl) rfl
theorem q390 : (Jvm.Cond.lays "CityBrigade" "CityBrigade" "leaving" "LCityBrigade$Test;") ∈ lw_all := lw_g (lw_at lw_m1 232 rfl) rfl
theorem q391 : (Jvm.Cond.soleField "CityBrigade" "leaving") ∈ lw_all := lw_g (lw_at lw_m1 233 rfl) rfl
theorem q392 : (Jvm.Cond.lays "CityBrigade" "CityBrigade" "orderMany" "I") ∈ lw_all := lw_g (lw_at lw_m1 234 rfl) rfl
theorem q393 : (Jvm.Cond.soleField "CityBrigade" "orderMany") ∈ lw_all := lw_g (lw_at lw_m1 235 rfl) rfl
theorem q394 : (Jvm.Cond.laysFinal "CityBrigade" "CityBrigade" "calls" "[LCityBrigade$Call;") ∈ lw_all := lw_g (lw_at lw_m1 236 rfl) rfl
theorem q395 : (Jvm.Cond.soleField "CityBrigade" "calls") ∈ lw_all := lw_g (lw_at lw_m1 237 rfl) rfl
theorem q396 : (Jvm.Cond.lays "CityBrigade" "CityBrigade" "callMany" "I") ∈ lw_all := lw_g (lw_at lw_m1 238 rfl) rfl
theorem q397 : (Jvm.Cond.soleField "CityBrigade" "callMany") ∈ lw_all := lw_g (lw_at lw_m1 239 rfl) rfl
theorem q398 : (Jvm.Cond.laysFinal "CityBrigade" "CityBrigade" "wanted" "[I") ∈ lw_all := lw_g (lw_at lw_m2 0 rfl) rfl
theorem q399 : (Jvm.Cond.soleField "CityBrigade" "wanted") ∈ lw_all := lw_g (lw_at lw_m2 1 rfl) rfl
theorem q400 : (Jvm.Cond.lays "CityBrigade" "CityBrigade" "whyBits" "I") ∈ lw_all := lw_g (lw_at lw_m2 2 rfl) rfl
theorem q401 : (Jvm.Cond.soleField "CityBrigade" "whyBits") ∈ lw_all := lw_g (lw_at lw_m2 3 rfl) rfl
theorem q402 : (Jvm.Cond.lays "CityBrigade" "CityBrigade" "soonest" "I") ∈ lw_all := lw_g (lw_at lw_m2 4 rfl) rfl
theorem q403 : (Jvm.Cond.soleField "CityBrigade" "soonest") ∈ lw_all := lw_g (lw_at lw_m2 5 rfl) rfl
theorem q404 : (Jvm.Cond.laysFinal "CityBrigade" "CityBrigade" "mainFor" "[I") ∈ lw_all := lw_g (lw_at lw_m2 6 rfl) rfl
theorem q405 : (Jvm.Cond.soleField "CityBrigade" "mainFor") ∈ lw_all := lw_g (lw_at lw_m2 7 rfl) rfl
theorem q406 : (Jvm.Cond.laysFinal "CityBrigade" "CityBrigade" "acts" "[LCityBrigade$Clause;") ∈ lw_all := lw_g (lw_at lw_m2 8 rfl) rfl
theorem q407 : (Jvm.Cond.soleField "CityBrigade" "acts") ∈ lw_all := lw_g (lw_at lw_m2 9 rfl) rfl
theorem q408 : (Jvm.Cond.laysFinal "CityBrigade" "CityBrigade" "actFrom" "[I") ∈ lw_all := lw_g (lw_at lw_m2 10 rfl) rfl
theorem q409 : (Jvm.Cond.soleField "CityBrigade" "actFrom") ∈ lw_all := lw_g (lw_at lw_m2 11 rfl) rfl
theorem q410 : (Jvm.Cond.laysFinal "CityBrigade" "CityBrigade" "actTold" "[I") ∈ lw_all := lw_g (lw_at lw_m2 12 rfl) rfl
theorem q411 : (Jvm.Cond.soleField "CityBrigade" "actTold") ∈ lw_all := lw_g (lw_at lw_m2 13 rfl) rfl
theorem q412 : (Jvm.Cond.laysFinal "CityBrigade" "CityBrigade" "noteHouse" "[I") ∈ lw_all := lw_g (lw_at lw_m2 14 rfl) rfl
theorem q413 : (Jvm.Cond.soleField "CityBrigade" "noteHouse") ∈ lw_all := lw_g (lw_at lw_m2 15 rfl) rfl
theorem q414 : (Jvm.Cond.laysFinal "CityBrigade" "CityBrigade" "noteUse" "[I") ∈ lw_all := lw_g (lw_at lw_m2 16 rfl) rfl
theorem q415 : (Jvm.Cond.soleField "CityBrigade" "noteUse") ∈ lw_all := lw_g (lw_at lw_m2 17 rfl) rfl
theorem q416 : (Jvm.Cond.laysFinal "CityBrigade" "CityBrigade" "noteFrom" "[I") ∈ lw_all := lw_g (lw_at lw_m2 18 rfl) rfl
theorem q417 : (Jvm.Cond.soleField "CityBrigade" "noteFrom") ∈ lw_all := lw_g (lw_at lw_m2 19 rfl) rfl
theorem q418 : (Jvm.Cond.laysFinal "CityBrigade" "CityBrigade" "noteTold" "[I") ∈ lw_all := lw_g (lw_at lw_m2 20 rfl) rfl
theorem q419 : (Jvm.Cond.soleField "CityBrigade" "noteTold") ∈ lw_all := lw_g (lw_at lw_m2 21 rfl) rfl
theorem q420 : (Jvm.Cond.lays "CityBrigade" "CityBrigade" "actMany" "I") ∈ lw_all := lw_g (lw_at lw_m2 22 rfl) rfl
theorem q421 : (Jvm.Cond.soleField "CityBrigade" "actMany") ∈ lw_all := lw_g (lw_at lw_m2 23 rfl) rfl
theorem q422 : (Jvm.Cond.lays "CityBrigade" "CityBrigade" "notes" "I") ∈ lw_all := lw_g (lw_at lw_m2 24 rfl) rfl
theorem q423 : (Jvm.Cond.soleField "CityBrigade" "notes") ∈ lw_all := lw_g (lw_at lw_m2 25 rfl) rfl
theorem q424 : (Jvm.Cond.lays "CityBrigade" "CityBrigade" "codeFound" "I") ∈ lw_all := lw_g (lw_at lw_m2 26 rfl) rfl
theorem q425 : (Jvm.Cond.soleField "CityBrigade" "codeFound") ∈ lw_all := lw_g (lw_at lw_m2 27 rfl) rfl
theorem q426 : (Jvm.Cond.laysFinal "CityBrigade" "CityBrigade" "stops" "[I") ∈ lw_all := lw_g (lw_at lw_m2 28 rfl) rfl
theorem q427 : (Jvm.Cond.soleField "CityBrigade" "stops") ∈ lw_all := lw_g (lw_at lw_m2 29 rfl) rfl
theorem q428 : (Jvm.Cond.laysFinal "CityBrigade" "CityBrigade" "worths" "[I") ∈ lw_all := lw_g (lw_at lw_m2 30 rfl) rfl
theorem q429 : (Jvm.Cond.soleField "CityBrigade" "worths") ∈ lw_all := lw_g (lw_at lw_m2 31 rfl) rfl
theorem q430 : (Jvm.Cond.laysFinal "CityBrigade" "CityBrigade" "way" "[I") ∈ lw_all := lw_g (lw_at lw_m2 32 rfl) rfl
theorem q431 : (Jvm.Cond.soleField "CityBrigade" "way") ∈ lw_all := lw_g (lw_at lw_m2 33 rfl) rfl
theorem q432 : (Jvm.Cond.laysFinal "CityBrigade" "CityBrigade" "bestWay" "[I") ∈ lw_all := lw_g (lw_at lw_m2 34 rfl) rfl
theorem q433 : (Jvm.Cond.soleField "CityBrigade" "bestWay") ∈ lw_all := lw_g (lw_at lw_m2 35 rfl) rfl
theorem q434 : (Jvm.Cond.laysFinal "CityBrigade" "CityBrigade" "walks" "[[I") ∈ lw_all := lw_g (lw_at lw_m2 36 rfl) rfl
theorem q435 : (Jvm.Cond.soleField "CityBrigade" "walks") ∈ lw_all := lw_g (lw_at lw_m2 37 rfl) rfl
theorem q436 : (Jvm.Cond.lays "CityBrigade" "CityBrigade" "stopMany" "I") ∈ lw_all := lw_g (lw_at lw_m2 38 rfl) rfl
theorem q437 : (Jvm.Cond.soleField "CityBrigade" "stopMany") ∈ lw_all := lw_g (lw_at lw_m2 39 rfl) rfl
theorem q438 : (Jvm.Cond.lays "CityBrigade" "CityBrigade" "wayMany" "I") ∈ lw_all := lw_g (lw_at lw_m2 40 rfl) rfl
theorem q439 : (Jvm.Cond.soleField "CityBrigade" "wayMany") ∈ lw_all := lw_g (lw_at lw_m2 41 rfl) rfl
theorem q440 : (Jvm.Cond.lays "CityBrigade" "CityBrigade" "bestMany" "I") ∈ lw_all := lw_g (lw_at lw_m2 42 rfl) rfl
theorem q441 : (Jvm.Cond.soleField "CityBrigade" "bestMany") ∈ lw_all := lw_g (lw_at lw_m2 43 rfl) rfl
theorem q442 : (Jvm.Cond.lays "CityBrigade" "CityBrigade" "bestWorth" "I") ∈ lw_all := lw_g (lw_at lw_m2 44 rfl) rfl
theorem q443 : (Jvm.Cond.soleField "CityBrigade" "bestWorth") ∈ lw_all := lw_g (lw_at lw_m2 45 rfl) rfl
theorem q444 : (Jvm.Cond.lays "CityBrigade" "CityBrigade" "bestMinutes" "I") ∈ lw_all := lw_g (lw_at lw_m2 46 rfl) rfl
theorem q445 : (Jvm.Cond.soleField "CityBrigade" "bestMinutes") ∈ lw_all := lw_g (lw_at lw_m2 47 rfl) rfl
theorem q446 : (Jvm.Cond.laysFinal "CityBrigade" "CityBrigade" "allWalks" "[[I") ∈ lw_all := lw_g (lw_at lw_m2 48 rfl) rfl
theorem q447 : (Jvm.Cond.soleField "CityBrigade" "allWalks") ∈ lw_all := lw_g (lw_at lw_m2 49 rfl) rfl
theorem q448 : (Jvm.Cond.laysFinal "CityBrigade" "CityBrigade" "weights" "[I") ∈ lw_all := lw_g (lw_at lw_m2 50 rfl) rfl
theorem q449 : (Jvm.Cond.soleField "CityBrigade" "weights") ∈ lw_all := lw_g (lw_at lw_m2 51 rfl) rfl
theorem q450 : (Jvm.Cond.laysFinal "CityBrigade" "CityBrigade" "picks" "[I") ∈ lw_all := lw_g (lw_at lw_m2 52 rfl) rfl
theorem q451 : (Jvm.Cond.soleField "CityBrigade" "picks") ∈ lw_all := lw_g (lw_at lw_m2 53 rfl) rfl
theorem q452 : (Jvm.Cond.laysFinal "CityBrigade" "CityBrigade" "bestPicks" "[I") ∈ lw_all := lw_g (lw_at lw_m2 54 rfl) rfl
theorem q453 : (Jvm.Cond.soleField "CityBrigade" "bestPicks") ∈ lw_all := lw_g (lw_at lw_m2 55 rfl) rfl
theorem q454 : (Jvm.Cond.lays "CityBrigade" "CityBrigade" "bestPoints" "I") ∈ lw_all := lw_g (lw_at lw_m2 56 rfl) rfl
theorem q455 : (Jvm.Cond.soleField "CityBrigade" "bestPoints") ∈ lw_all := lw_g (lw_at lw_m2 57 rfl) rfl
theorem q456 : (Jvm.Cond.laysFinal "CityBrigade" "CityBrigade" "rows" "[LCityBrigade$Row;") ∈ lw_all := lw_g (lw_at lw_m2 58 rfl) rfl
theorem q457 : (Jvm.Cond.soleField "CityBrigade" "rows") ∈ lw_all := lw_g (lw_at lw_m2 59 rfl) rfl
theorem q458 : (Jvm.Cond.laysFinal "CityBrigade" "CityBrigade" "rowKinds" "[I") ∈ lw_all := lw_g (lw_at lw_m2 60 rfl) rfl
theorem q459 : (Jvm.Cond.soleField "CityBrigade" "rowKinds") ∈ lw_all := lw_g (lw_at lw_m2 61 rfl) rfl
theorem q460 : (Jvm.Cond.lays "CityBrigade" "CityBrigade" "rowMany" "I") ∈ lw_all := lw_g (lw_at lw_m2 62 rfl) rfl
theorem q461 : (Jvm.Cond.soleField "CityBrigade" "rowMany") ∈ lw_all := lw_g (lw_at lw_m2 63 rfl) rfl
theorem q462 : (Jvm.Cond.superclass "CityBrigade" "java/lang/Object") ∈ lw_all := lw_g (lw_at lw_m2 64 rfl) rfl
theorem q465 : (Jvm.Cond.instanceMethod ({ cls := "CityBrigade", name := "street", desc := "(III)I" } : Jvm.MethodName)) ∈ lw_all := lw_g (lw_at lw_m2 67 rfl) rfl
theorem q466 : (Jvm.Cond.selects "CityBrigade" ({ cls := "CityBrigade", name := "street", desc := "(III)I" } : Jvm.MethodName) ({ cls := "CityBrigade", name := "street", desc := "(III)I" } : Jvm.MethodName)) ∈ lw_all := lw_g (lw_at lw_m2 68 rfl) rfl
theorem q467 : (Jvm.Cond.code ({ cls := "CityBrigade", name := "street", desc := "(III)I" } : Jvm.MethodName) prog_1_method_5_code (4 : Nat) (Option.some Jvm.ClassFile.FieldType.int)) ∈ lw_all := lw_g (lw_at lw_m2 69 rfl) rfl
theorem q468 : (Jvm.Cond.methodLink "CityBrigade" (143 : Nat) ({ cls := "CityBrigade", name := "isCorner", desc := "(I)Z" } : Jvm.MethodName)) ∈ lw_all := lw_g (lw_at lw_m2 70 rfl) rfl
theorem q469 : (Jvm.Cond.static ({ cls := "CityBrigade", name := "isCorner", desc := "(I)Z" } : Jvm.MethodName)) ∈ lw_all := lw_g (lw_at lw_m2 71 rfl) rfl
theorem q470 : (Jvm.Cond.code ({ cls := "CityBrigade", name := "isCorner", desc := "(I)Z" } : Jvm.MethodName) prog_1_method_2_code (1 : Nat) (Option.some Jvm.ClassFile.FieldType.boolean)) ∈ lw_all := lw_g (lw_at lw_m2 72 rfl) rfl
theorem q471 : (Jvm.Cond.methodLink "CityBrigade" (3 : Nat) ({ cls := "CityBrigade", name := "in", desc := "(III)Z" } : Jvm.MethodName)) ∈ lw_all := lw_g (lw_at lw_m2 73 rfl) rfl
theorem q472 : (Jvm.Cond.static ({ cls := "CityBrigade", name := "in", desc := "(III)Z" } : Jvm.MethodName)) ∈ lw_all := lw_g (lw_at lw_m2 74 rfl) rfl
theorem q473 : (Jvm.Cond.code ({ cls := "CityBrigade", name := "in", desc := "(III)Z" } : Jvm.MethodName) prog_1_method_1_code (3 : Nat) (Option.some Jvm.ClassFile.FieldType.boolean)) ∈ lw_all := lw_g (lw_at lw_m2 75 rfl) rfl
theorem q475 : (Jvm.Cond.methodLink "CityBrigade" (151 : Nat) ({ cls := "CityBrigade$Street", name := "<init>", desc := "(III)V" } : Jvm.MethodName)) ∈ lw_all := lw_g (lw_at lw_m2 77 rfl) rfl
theorem q480 : (Jvm.Cond.fieldLinkNest "CityBrigade" (174 : Nat) "CityBrigade$Street" "one" "I" "CityBrigade") ∈ lw_tbl := lw_at lw_m2 82 rfl
theorem q482 : (Jvm.Cond.fieldLinkNest "CityBrigade" (177 : Nat) "CityBrigade$Street" "other" "I" "CityBrigade") ∈ lw_tbl := lw_at lw_m2 84 rfl
theorem q484 : (Jvm.Cond.fieldLinkNest "CityBrigade" (189 : Nat) "CityBrigade$Street" "lasts" "I" "CityBrigade") ∈ lw_tbl := lw_at lw_m2 86 rfl
theorem q486 : (Jvm.Cond.fieldLinkNest "CityBrigade" (157 : Nat) "CityBrigade$Street" "jams" "[I" "CityBrigade") ∈ lw_tbl := lw_at lw_m2 88 rfl
theorem q487 : (Jvm.Cond.fieldLinkNest "CityBrigade" (160 : Nat) "CityBrigade$Street" "isClosed" "Z" "CityBrigade") ∈ lw_tbl := lw_at lw_m2 89 rfl
theorem q500 : (Jvm.Cond.instanceMethod ({ cls := "CityBrigade", name := "jam", desc := "(III)Z" } : Jvm.MethodName)) ∈ lw_all := lw_g (lw_at lw_m2 102 rfl) rfl
theorem q501 : (Jvm.Cond.selects "CityBrigade" ({ cls := "CityBrigade", name := "jam", desc := "(III)Z" } : Jvm.MethodName) ({ cls := "CityBrigade", name := "jam", desc := "(III)Z" } : Jvm.MethodName)) ∈ lw_all := lw_g (lw_at lw_m2 103 rfl) rfl
theorem q502 : (Jvm.Cond.code ({ cls := "CityBrigade", name := "jam", desc := "(III)Z" } : Jvm.MethodName) prog_1_method_7_code (4 : Nat) (Option.some Jvm.ClassFile.FieldType.boolean)) ∈ lw_all := lw_g (lw_at lw_m2 104 rfl) rfl
theorem q503 : (Jvm.Cond.methodLink "CityBrigade" (154 : Nat) ({ cls := "CityBrigade", name := "isStreet", desc := "(I)Z" } : Jvm.MethodName)) ∈ lw_all := lw_g (lw_at lw_m2 105 rfl) rfl
theorem q504 : (Jvm.Cond.privateMethod ({ cls := "CityBrigade", name := "isStreet", desc := "(I)Z" } : Jvm.MethodName)) ∈ lw_tbl := lw_at lw_m2 106 rfl
theorem q505 : (Jvm.Cond.instanceMethod ({ cls := "CityBrigade", name := "isStreet", desc := "(I)Z" } : Jvm.MethodName)) ∈ lw_all := lw_g (lw_at lw_m2 107 rfl) rfl
theorem q506 : (Jvm.Cond.code ({ cls := "CityBrigade", name := "isStreet", desc := "(I)Z" } : Jvm.MethodName) prog_1_method_6_code (2 : Nat) (Option.some Jvm.ClassFile.FieldType.boolean)) ∈ lw_all := lw_g (lw_at lw_m2 108 rfl) rfl
theorem q508 : (Jvm.Cond.instanceMethod ({ cls := "CityBrigade", name := "closed", desc := "(IZ)Z" } : Jvm.MethodName)) ∈ lw_all := lw_g (lw_at lw_m2 110 rfl) rfl
theorem q509 : (Jvm.Cond.selects "CityBrigade" ({ cls := "CityBrigade", name := "closed", desc := "(IZ)Z" } : Jvm.MethodName) ({ cls := "CityBrigade", name := "closed", desc := "(IZ)Z" } : Jvm.MethodName)) ∈ lw_all := lw_g (lw_at lw_m2 111 rfl) rfl
theorem q510 : (Jvm.Cond.code ({ cls := "CityBrigade", name := "closed", desc := "(IZ)Z" } : Jvm.MethodName) prog_1_method_8_code (3 : Nat) (Option.some Jvm.ClassFile.FieldType.boolean)) ∈ lw_all := lw_g (lw_at lw_m2 112 rfl) rfl
theorem q512 : (Jvm.Cond.instanceMethod ({ cls := "CityBrigade", name := "come", desc := "(IIII)I" } : Jvm.MethodName)) ∈ lw_all := lw_g (lw_at lw_m2 114 rfl) rfl
theorem q513 : (Jvm.Cond.selects "CityBrigade" ({ cls := "CityBrigade", name := "come", desc := "(IIII)I" } : Jvm.MethodName) ({ cls := "CityBrigade", name := "come", desc := "(IIII)I" } : Jvm.MethodName)) ∈ lw_all := lw_g (lw_at lw_m2 115 rfl) rfl
theorem q514 : (Jvm.Cond.code ({ cls := "CityBrigade", name := "come", desc := "(IIII)I" } : Jvm.MethodName) prog_1_method_11_code (5 : Nat) (Option.some Jvm.ClassFile.FieldType.int)) ∈ lw_all := lw_g (lw_at lw_m2 116 rfl) rfl
theorem q515 : (Jvm.Cond.methodLink "CityBrigade" (184 : Nat) ({ cls := "CityBrigade", name := "comeOn", desc := "(IIII)I" } : Jvm.MethodName)) ∈ lw_all := lw_g (lw_at lw_m2 117 rfl) rfl
theorem q516 : (Jvm.Cond.privateMethod ({ cls := "CityBrigade", name := "comeOn", desc := "(IIII)I" } : Jvm.MethodName)) ∈ lw_tbl := lw_at lw_m2 118 rfl
theorem q517 : (Jvm.Cond.instanceMethod ({ cls := "CityBrigade", name := "comeOn", desc := "(IIII)I" } : Jvm.MethodName)) ∈ lw_all := lw_g (lw_at lw_m2 119 rfl) rfl
theorem q518 : (Jvm.Cond.code ({ cls := "CityBrigade", name := "comeOn", desc := "(IIII)I" } : Jvm.MethodName) prog_1_method_9_code (9 : Nat) (Option.some Jvm.ClassFile.FieldType.int)) ∈ lw_all := lw_g (lw_at lw_m2 120 rfl) rfl
theorem q519 : (Jvm.Cond.methodLink "CityBrigade" (164 : Nat) ({ cls := "java/util/Arrays", name := "fill", desc := "([ZZ)V" } : Jvm.MethodName)) ∈ lw_all := lw_g (lw_at lw_m2 121 rfl) rfl
theorem q522 : (Jvm.Cond.methodLink "CityBrigade" (170 : Nat) ({ cls := "CityBrigade", name := "pass", desc := "(LCityBrigade$Street;III)V" } : Jvm.MethodName)) ∈ lw_all := lw_g (lw_at lw_m2 124 rfl) rfl
theorem q523 : (Jvm.Cond.privateMethod ({ cls := "CityBrigade", name := "pass", desc := "(LCityBrigade$Street;III)V" } : Jvm.MethodName)) ∈ lw_tbl := lw_at lw_m2 125 rfl
theorem q524 : (Jvm.Cond.instanceMethod ({ cls := "CityBrigade", name := "pass", desc := "(LCityBrigade$Street;III)V" } : Jvm.MethodName)) ∈ lw_all := lw_g (lw_at lw_m2 126 rfl) rfl
theorem q525 : (Jvm.Cond.code ({ cls := "CityBrigade", name := "pass", desc := "(LCityBrigade$Street;III)V" } : Jvm.MethodName) prog_1_method_10_code (6 : Nat) (Option.none : Option Jvm.ClassFile.FieldType)) ∈ lw_all := lw_g (lw_at lw_m2 127 rfl) rfl
theorem q526 : (Jvm.Cond.methodLink "CityBrigade" (180 : Nat) ({ cls := "CityBrigade$Street", name := "minutes", desc := "(II)I" } : Jvm.MethodName)) ∈ lw_all := lw_g (lw_at lw_m2 128 rfl) rfl
theorem q531 : (Jvm.Cond.static ({ cls := "CityBrigade", name := "partOf", desc := "(I)I" } : Jvm.MethodName)) ∈ lw_all := lw_g (lw_at lw_m2 133 rfl) rfl
theorem q532 : (Jvm.Cond.code ({ cls := "CityBrigade", name := "partOf", desc := "(I)I" } : Jvm.MethodName) prog_1_method_3_code (1 : Nat) (Option.some Jvm.ClassFile.FieldType.int)) ∈ lw_all := lw_g (lw_at lw_m2 134 rfl) rfl
theorem q534 : (Jvm.Cond.instanceMethod ({ cls := "CityBrigade", name := "feet", desc := "(II)I" } : Jvm.MethodName)) ∈ lw_all := lw_g (lw_at lw_m2 136 rfl) rfl
theorem q535 : (Jvm.Cond.selects "CityBrigade" ({ cls := "CityBrigade", name := "feet", desc := "(II)I" } : Jvm.MethodName) ({ cls := "CityBrigade", name := "feet", desc := "(II)I" } : Jvm.MethodName)) ∈ lw_all := lw_g (lw_at lw_m2 137 rfl) rfl
theorem q536 : (Jvm.Cond.code ({ cls := "CityBrigade", name := "feet", desc := "(II)I" } : Jvm.MethodName) prog_1_method_14_code (4 : Nat) (Option.some Jvm.ClassFile.FieldType.int)) ∈ lw_all := lw_g (lw_at lw_m2 138 rfl) rfl
theorem q537 : (Jvm.Cond.methodLink "CityBrigade" (196 : Nat) ({ cls := "CityBrigade", name := "walkOf", desc := "(II)I" } : Jvm.MethodName)) ∈ lw_all := lw_g (lw_at lw_m2 139 rfl) rfl
theorem q538 : (Jvm.Cond.privateMethod ({ cls := "CityBrigade", name := "walkOf", desc := "(II)I" } : Jvm.MethodName)) ∈ lw_tbl := lw_at lw_m2 140 rfl
theorem q539 : (Jvm.Cond.instanceMethod ({ cls := "CityBrigade", name := "walkOf", desc := "(II)I" } : Jvm.MethodName)) ∈ lw_all := lw_g (lw_at lw_m2 141 rfl) rfl
theorem q540 : (Jvm.Cond.code ({ cls := "CityBrigade", name := "walkOf", desc := "(II)I" } : Jvm.MethodName) prog_1_method_13_code (3 : Nat) (Option.some Jvm.ClassFile.FieldType.int)) ∈ lw_all := lw_g (lw_at lw_m2 142 rfl) rfl
theorem q541 : (Jvm.Cond.methodLink "CityBrigade" (192 : Nat) ({ cls := "CityBrigade", name := "stroll", desc := "(I)V" } : Jvm.MethodName)) ∈ lw_all := lw_g (lw_at lw_m2 143 rfl) rfl
theorem q542 : (Jvm.Cond.privateMethod ({ cls := "CityBrigade", name := "stroll", desc := "(I)V" } : Jvm.MethodName)) ∈ lw_tbl := lw_at lw_m2 144 rfl
theorem q543 : (Jvm.Cond.instanceMethod ({ cls := "CityBrigade", name := "stroll", desc := "(I)V" } : Jvm.MethodName)) ∈ lw_all := lw_g (lw_at lw_m2 145 rfl) rfl
theorem q544 : (Jvm.Cond.code ({ cls := "CityBrigade", name := "stroll", desc := "(I)V" } : Jvm.MethodName) prog_1_method_12_code (5 : Nat) (Option.none : Option Jvm.ClassFile.FieldType)) ∈ lw_all := lw_g (lw_at lw_m2 146 rfl) rfl
theorem q545 : (Jvm.Cond.constant "CityBrigade" (188 : Nat) (1000000000 : Int32)) ∈ lw_all := lw_g (lw_at lw_m2 147 rfl) rfl
theorem q547 : (Jvm.Cond.instanceMethod ({ cls := "CityBrigade", name := "house", desc := "(IIIII)I" } : Jvm.MethodName)) ∈ lw_all := lw_g (lw_at lw_m2 149 rfl) rfl
theorem q548 : (Jvm.Cond.selects "CityBrigade" ({ cls := "CityBrigade", name := "house", desc := "(IIIII)I" } : Jvm.MethodName) ({ cls := "CityBrigade", name := "house", desc := "(IIIII)I" } : Jvm.MethodName)) ∈ lw_all := lw_g (lw_at lw_m2 150 rfl) rfl
theorem q549 : (Jvm.Cond.code ({ cls := "CityBrigade", name := "house", desc := "(IIIII)I" } : Jvm.MethodName) prog_1_method_18_code (6 : Nat) (Option.some Jvm.ClassFile.FieldType.int)) ∈ lw_all := lw_g (lw_at lw_m2 151 rfl) rfl
theorem q551 : (Jvm.Cond.methodLink "CityBrigade" (212 : Nat) ({ cls := "CityBrigade$House", name := "<init>", desc := "(IIIII)V" } : Jvm.MethodName)) ∈ lw_all := lw_g (lw_at lw_m2 153 rfl) rfl
theorem q563 : (Jvm.Cond.fieldLinkNest "CityBrigade" (266 : Nat) "CityBrigade$Blaze" "heat" "[I" "CityBrigade") ∈ lw_tbl := lw_at lw_m2 165 rfl
theorem q566 : (Jvm.Cond.fieldLinkNest "CityBrigade" (248 : Nat) "CityBrigade$Blaze" "stuff" "[I" "CityBrigade") ∈ lw_tbl := lw_at lw_m2 168 rfl
theorem q568 : (Jvm.Cond.fieldLinkNest "CityBrigade" (332 : Nat) "CityBrigade$Blaze" "water" "[I" "CityBrigade") ∈ lw_tbl := lw_at lw_m2 170 rfl
theorem q571 : (Jvm.Cond.fieldLinkNest "CityBrigade" (278 : Nat) "CityBrigade$Blaze" "burnt" "[I" "CityBrigade") ∈ lw_tbl := lw_at lw_m2 173 rfl
theorem q574 : (Jvm.Cond.fieldLinkNest "CityBrigade" (239 : Nat) "CityBrigade$Blaze" "fallen" "[Z" "CityBrigade") ∈ lw_tbl := lw_at lw_m2 176 rfl
theorem q576 : (Jvm.Cond.fieldLinkNest "CityBrigade" (322 : Nat) "CityBrigade$Blaze" "burned" "[Z" "CityBrigade") ∈ lw_tbl := lw_at lw_m2 178 rfl
theorem q578 : (Jvm.Cond.fieldLinkNest "CityBrigade" (335 : Nat) "CityBrigade$Blaze" "gain" "[I" "CityBrigade") ∈ lw_tbl := lw_at lw_m2 180 rfl
theorem q595 : (Jvm.Cond.fieldLinkNest "CityBrigade" (308 : Nat) "CityBrigade$House" "corner" "I" "CityBrigade") ∈ lw_tbl := lw_at lw_m2 197 rfl
theorem q597 : (Jvm.Cond.fieldLinkNest "CityBrigade" (764 : Nat) "CityBrigade$House" "kind" "I" "CityBrigade") ∈ lw_tbl := lw_at lw_m2 199 rfl
theorem q599 : (Jvm.Cond.fieldLinkNest "CityBrigade" (209 : Nat) "CityBrigade$House" "floors" "I" "CityBrigade") ∈ lw_tbl := lw_at lw_m2 201 rfl
theorem q601 : (Jvm.Cond.fieldLinkNest "CityBrigade" (245 : Nat) "CityBrigade$House" "rooms" "I" "CityBrigade") ∈ lw_tbl := lw_at lw_m2 203 rfl
theorem q603 : (Jvm.Cond.fieldLinkNest "CityBrigade" (325 : Nat) "CityBrigade$House" "shaft" "I" "CityBrigade") ∈ lw_tbl := lw_at lw_m2 205 rfl
theorem q604 : (Jvm.Cond.fieldLinkNest "CityBrigade" (215 : Nat) "CityBrigade$House" "doors" "Z" "CityBrigade") ∈ lw_tbl := lw_at lw_m2 206 rfl
theorem q605 : (Jvm.Cond.fieldLinkNest "CityBrigade" (218 : Nat) "CityBrigade$House" "wall" "I" "CityBrigade") ∈ lw_tbl := lw_at lw_m2 207 rfl
theorem q607 : (Jvm.Cond.fieldLinkNest "CityBrigade" (221 : Nat) "CityBrigade$House" "year" "I" "CityBrigade") ∈ lw_tbl := lw_at lw_m2 209 rfl
theorem q608 : (Jvm.Cond.fieldLinkNest "CityBrigade" (228 : Nat) "CityBrigade$House" "use" "I" "CityBrigade") ∈ lw_tbl := lw_at lw_m2 210 rfl
theorem q609 : (Jvm.Cond.fieldLinkNest "CityBrigade" (292 : Nat) "CityBrigade$House" "saved" "I" "CityBrigade") ∈ lw_tbl := lw_at lw_m2 211 rfl
theorem q610 : (Jvm.Cond.fieldLinkNest "CityBrigade" (295 : Nat) "CityBrigade$House" "lost" "I" "CityBrigade") ∈ lw_tbl := lw_at lw_m2 212 rfl
theorem q611 : (Jvm.Cond.fieldLinkNest "CityBrigade" (305 : Nat) "CityBrigade$House" "gallons" "I" "CityBrigade") ∈ lw_tbl := lw_at lw_m2 213 rfl
theorem q613 : (Jvm.Cond.fieldLinkNest "CityBrigade" (254 : Nat) "CityBrigade$House" "people" "[I" "CityBrigade") ∈ lw_tbl := lw_at lw_m2 215 rfl
theorem q615 : (Jvm.Cond.fieldLinkNest "CityBrigade" (251 : Nat) "CityBrigade$House" "told" "[I" "CityBrigade") ∈ lw_tbl := lw_at lw_m2 217 rfl
theorem q617 : (Jvm.Cond.fieldLinkNest "CityBrigade" (235 : Nat) "CityBrigade$House" "blaze" "LCityBrigade$Blaze;" "CityBrigade") ∈ lw_tbl := lw_at lw_m2 219 rfl
theorem q619 : (Jvm.Cond.fieldLinkNest "CityBrigade" (315 : Nat) "CityBrigade$House" "copy" "LCityBrigade$Blaze;" "CityBrigade") ∈ lw_tbl := lw_at lw_m2 221 rfl
theorem q654 : (Jvm.Cond.instanceMethod ({ cls := "CityBrigade", name := "build", desc := "(IZII)Z" } : Jvm.MethodName)) ∈ lw_all := lw_g (lw_at lw_m3 16 rfl) rfl
theorem q655 : (Jvm.Cond.selects "CityBrigade" ({ cls := "CityBrigade", name := "build", desc := "(IZII)Z" } : Jvm.MethodName) ({ cls := "CityBrigade", name := "build", desc := "(IZII)Z" } : Jvm.MethodName)) ∈ lw_all := lw_g (lw_at lw_m3 17 rfl) rfl
theorem q656 : (Jvm.Cond.code ({ cls := "CityBrigade", name := "build", desc := "(IZII)Z" } : Jvm.MethodName) prog_1_method_19_code (5 : Nat) (Option.some Jvm.ClassFile.FieldType.boolean)) ∈ lw_all := lw_g (lw_at lw_m3 18 rfl) rfl
theorem q657 : (Jvm.Cond.methodLink "CityBrigade" (202 : Nat) ({ cls := "CityBrigade", name := "isHouse", desc := "(I)Z" } : Jvm.MethodName)) ∈ lw_all := lw_g (lw_at lw_m3 19 rfl) rfl
theorem q658 : (Jvm.Cond.privateMethod ({ cls := "CityBrigade", name := "isHouse", desc := "(I)Z" } : Jvm.MethodName)) ∈ lw_tbl := lw_at lw_m3 20 rfl
theorem q659 : (Jvm.Cond.instanceMethod ({ cls := "CityBrigade", name := "isHouse", desc := "(I)Z" } : Jvm.MethodName)) ∈ lw_all := lw_g (lw_at lw_m3 21 rfl) rfl
theorem q660 : (Jvm.Cond.code ({ cls := "CityBrigade", name := "isHouse", desc := "(I)Z" } : Jvm.MethodName) prog_1_method_15_code (2 : Nat) (Option.some Jvm.ClassFile.FieldType.boolean)) ∈ lw_all := lw_g (lw_at lw_m3 22 rfl) rfl
theorem q662 : (Jvm.Cond.instanceMethod ({ cls := "CityBrigade", name := "use", desc := "(II)Z" } : Jvm.MethodName)) ∈ lw_all := lw_g (lw_at lw_m3 24 rfl) rfl
theorem q663 : (Jvm.Cond.selects "CityBrigade" ({ cls := "CityBrigade", name := "use", desc := "(II)Z" } : Jvm.MethodName) ({ cls := "CityBrigade", name := "use", desc := "(II)Z" } : Jvm.MethodName)) ∈ lw_all := lw_g (lw_at lw_m3 25 rfl) rfl
theorem q664 : (Jvm.Cond.code ({ cls := "CityBrigade", name := "use", desc := "(II)Z" } : Jvm.MethodName) prog_1_method_20_code (3 : Nat) (Option.some Jvm.ClassFile.FieldType.boolean)) ∈ lw_all := lw_g (lw_at lw_m3 26 rfl) rfl
theorem q665 : (Jvm.Cond.methodLink "CityBrigade" (224 : Nat) ({ cls := "CityBrigade", name := "changesOf", desc := "(I)I" } : Jvm.MethodName)) ∈ lw_all := lw_g (lw_at lw_m3 27 rfl) rfl
theorem q666 : (Jvm.Cond.privateMethod ({ cls := "CityBrigade", name := "changesOf", desc := "(I)I" } : Jvm.MethodName)) ∈ lw_tbl := lw_at lw_m3 28 rfl
theorem q667 : (Jvm.Cond.instanceMethod ({ cls := "CityBrigade", name := "changesOf", desc := "(I)I" } : Jvm.MethodName)) ∈ lw_all := lw_g (lw_at lw_m3 29 rfl) rfl
theorem q668 : (Jvm.Cond.code ({ cls := "CityBrigade", name := "changesOf", desc := "(I)I" } : Jvm.MethodName) prog_1_method_113_code (4 : Nat) (Option.some Jvm.ClassFile.FieldType.int)) ∈ lw_all := lw_g (lw_at lw_m3 30 rfl) rfl
theorem q670 : (Jvm.Cond.instanceMethod ({ cls := "CityBrigade", name := "floor", desc := "(IIII)Z" } : Jvm.MethodName)) ∈ lw_all := lw_g (lw_at lw_m3 32 rfl) rfl
theorem q671 : (Jvm.Cond.selects "CityBrigade" ({ cls := "CityBrigade", name := "floor", desc := "(IIII)Z" } : Jvm.MethodName) ({ cls := "CityBrigade", name := "floor", desc := "(IIII)Z" } : Jvm.MethodName)) ∈ lw_all := lw_g (lw_at lw_m3 33 rfl) rfl
theorem q672 : (Jvm.Cond.code ({ cls := "CityBrigade", name := "floor", desc := "(IIII)Z" } : Jvm.MethodName) prog_1_method_21_code (7 : Nat) (Option.some Jvm.ClassFile.FieldType.boolean)) ∈ lw_all := lw_g (lw_at lw_m3 34 rfl) rfl
theorem q673 : (Jvm.Cond.methodLink "CityBrigade" (231 : Nat) ({ cls := "CityBrigade", name := "isFloor", desc := "(II)Z" } : Jvm.MethodName)) ∈ lw_all := lw_g (lw_at lw_m3 35 rfl) rfl
theorem q674 : (Jvm.Cond.privateMethod ({ cls := "CityBrigade", name := "isFloor", desc := "(II)Z" } : Jvm.MethodName)) ∈ lw_tbl := lw_at lw_m3 36 rfl
theorem q675 : (Jvm.Cond.instanceMethod ({ cls := "CityBrigade", name := "isFloor", desc := "(II)Z" } : Jvm.MethodName)) ∈ lw_all := lw_g (lw_at lw_m3 37 rfl) rfl
theorem q676 : (Jvm.Cond.code ({ cls := "CityBrigade", name := "isFloor", desc := "(II)Z" } : Jvm.MethodName) prog_1_method_17_code (3 : Nat) (Option.some Jvm.ClassFile.FieldType.boolean)) ∈ lw_all := lw_g (lw_at lw_m3 38 rfl) rfl
theorem q677 : (Jvm.Cond.methodLink "CityBrigade" (257 : Nat) ({ cls := "CityBrigade", name := "notice", desc := "()V" } : Jvm.MethodName)) ∈ lw_all := lw_g (lw_at lw_m3 39 rfl) rfl
theorem q678 : (Jvm.Cond.privateMethod ({ cls := "CityBrigade", name := "notice", desc := "()V" } : Jvm.MethodName)) ∈ lw_tbl := lw_at lw_m3 40 rfl
theorem q679 : (Jvm.Cond.instanceMethod ({ cls := "CityBrigade", name := "notice", desc := "()V" } : Jvm.MethodName)) ∈ lw_all := lw_g (lw_at lw_m3 41 rfl) rfl
theorem q680 : (Jvm.Cond.code ({ cls := "CityBrigade", name := "notice", desc := "()V" } : Jvm.MethodName) prog_1_method_79_code (2 : Nat) (Option.none : Option Jvm.ClassFile.FieldType)) ∈ lw_all := lw_g (lw_at lw_m3 42 rfl) rfl
theorem q681 : (Jvm.Cond.methodLink "CityBrigade" (594 : Nat) ({ cls := "CityBrigade", name := "worst", desc := "(I)LCityBrigade$House;" } : Jvm.MethodName)) ∈ lw_all := lw_g (lw_at lw_m3 43 rfl) rfl
theorem q682 : (Jvm.Cond.privateMethod ({ cls := "CityBrigade", name := "worst", desc := "(I)LCityBrigade$House;" } : Jvm.MethodName)) ∈ lw_tbl := lw_at lw_m3 44 rfl
theorem q683 : (Jvm.Cond.instanceMethod ({ cls := "CityBrigade", name := "worst", desc := "(I)LCityBrigade$House;" } : Jvm.MethodName)) ∈ lw_all := lw_g (lw_at lw_m3 45 rfl) rfl
theorem q684 : (Jvm.Cond.code ({ cls := "CityBrigade", name := "worst", desc := "(I)LCityBrigade$House;" } : Jvm.MethodName) prog_1_method_36_code (5 : Nat) (Option.some (Jvm.ClassFile.FieldType.object "CityBrigade$House"))) ∈ lw_all := lw_g (lw_at lw_m3 46 rfl) rfl
theorem q685 : (Jvm.Cond.methodLink "CityBrigade" (285 : Nat) ({ cls := "CityBrigade$House", name := "burning", desc := "()I" } : Jvm.MethodName)) ∈ lw_all := lw_g (lw_at lw_m3 47 rfl) rfl
theorem q702 : (Jvm.Cond.instanceMethod ({ cls := "CityBrigade", name := "light", desc := "(II)Z" } : Jvm.MethodName)) ∈ lw_all := lw_g (lw_at lw_m3 64 rfl) rfl
theorem q703 : (Jvm.Cond.selects "CityBrigade" ({ cls := "CityBrigade", name := "light", desc := "(II)Z" } : Jvm.MethodName) ({ cls := "CityBrigade", name := "light", desc := "(II)Z" } : Jvm.MethodName)) ∈ lw_all := lw_g (lw_at lw_m3 65 rfl) rfl
theorem q704 : (Jvm.Cond.code ({ cls := "CityBrigade", name := "light", desc := "(II)Z" } : Jvm.MethodName) prog_1_method_22_code (3 : Nat) (Option.some Jvm.ClassFile.FieldType.boolean)) ∈ lw_all := lw_g (lw_at lw_m3 66 rfl) rfl
theorem q705 : (Jvm.Cond.methodLink "CityBrigade" (260 : Nat) ({ cls := "CityBrigade", name := "isRoom", desc := "(II)Z" } : Jvm.MethodName)) ∈ lw_all := lw_g (lw_at lw_m3 67 rfl) rfl
theorem q706 : (Jvm.Cond.privateMethod ({ cls := "CityBrigade", name := "isRoom", desc := "(II)Z" } : Jvm.MethodName)) ∈ lw_tbl := lw_at lw_m3 68 rfl
theorem q707 : (Jvm.Cond.instanceMethod ({ cls := "CityBrigade", name := "isRoom", desc := "(II)Z" } : Jvm.MethodName)) ∈ lw_all := lw_g (lw_at lw_m3 69 rfl) rfl
theorem q708 : (Jvm.Cond.code ({ cls := "CityBrigade", name := "isRoom", desc := "(II)Z" } : Jvm.MethodName) prog_1_method_16_code (3 : Nat) (Option.some Jvm.ClassFile.FieldType.boolean)) ∈ lw_all := lw_g (lw_at lw_m3 70 rfl) rfl
theorem q709 : (Jvm.Cond.methodLink "CityBrigade" (205 : Nat) ({ cls := "CityBrigade$House", name := "all", desc := "()I" } : Jvm.MethodName)) ∈ lw_all := lw_g (lw_at lw_m3 71 rfl) rfl
theorem q710 : (Jvm.Cond.methodLink "CityBrigade" (263 : Nat) ({ cls := "CityBrigade$House", name := "floorOf", desc := "(I)I" } : Jvm.MethodName)) ∈ lw_all := lw_g (lw_at lw_m3 72 rfl) rfl
theorem q711 : (Jvm.Cond.methodLink "CityBrigade" (269 : Nat) ({ cls := "java/lang/Math", name := "max", desc := "(II)I" } : Jvm.MethodName)) ∈ lw_all := lw_g (lw_at lw_m3 73 rfl) rfl
theorem q715 : (Jvm.Cond.instanceMethod ({ cls := "CityBrigade", name := "room", desc := "(III)I" } : Jvm.MethodName)) ∈ lw_all := lw_g (lw_at lw_m3 77 rfl) rfl
theorem q716 : (Jvm.Cond.selects "CityBrigade" ({ cls := "CityBrigade", name := "room", desc := "(III)I" } : Jvm.MethodName) ({ cls := "CityBrigade", name := "room", desc := "(III)I" } : Jvm.MethodName)) ∈ lw_all := lw_g (lw_at lw_m3 78 rfl) rfl
theorem q717 : (Jvm.Cond.code ({ cls := "CityBrigade", name := "room", desc := "(III)I" } : Jvm.MethodName) prog_1_method_23_code (5 : Nat) (Option.some Jvm.ClassFile.FieldType.int)) ∈ lw_all := lw_g (lw_at lw_m3 79 rfl) rfl
theorem q718 : (Jvm.Cond.methodLink "CityBrigade" (274 : Nat) ({ cls := "CityBrigade$House", name := "burns", desc := "(LCityBrigade$Blaze;I)Z" } : Jvm.MethodName)) ∈ lw_all := lw_g (lw_at lw_m3 80 rfl) rfl
theorem q720 : (Jvm.Cond.instanceMethod ({ cls := "CityBrigade", name := "floored", desc := "(III)I" } : Jvm.MethodName)) ∈ lw_all := lw_g (lw_at lw_m3 82 rfl) rfl
theorem q721 : (Jvm.Cond.selects "CityBrigade" ({ cls := "CityBrigade", name := "floored", desc := "(III)I" } : Jvm.MethodName) ({ cls := "CityBrigade", name := "floored", desc := "(III)I" } : Jvm.MethodName)) ∈ lw_all := lw_g (lw_at lw_m3 83 rfl) rfl
theorem q722 : (Jvm.Cond.code ({ cls := "CityBrigade", name := "floored", desc := "(III)I" } : Jvm.MethodName) prog_1_method_24_code (5 : Nat) (Option.some Jvm.ClassFile.FieldType.int)) ∈ lw_all := lw_g (lw_at lw_m3 84 rfl) rfl
theorem q723 : (Jvm.Cond.methodLink "CityBrigade" (281 : Nat) ({ cls := "CityBrigade$House", name := "load", desc := "(LCityBrigade$Blaze;I)I" } : Jvm.MethodName)) ∈ lw_all := lw_g (lw_at lw_m3 85 rfl) rfl
theorem q728 : (Jvm.Cond.instanceMethod ({ cls := "CityBrigade", name := "housed", desc := "(II)I" } : Jvm.MethodName)) ∈ lw_all := lw_g (lw_at lw_m3 90 rfl) rfl
theorem q729 : (Jvm.Cond.selects "CityBrigade" ({ cls := "CityBrigade", name := "housed", desc := "(II)I" } : Jvm.MethodName) ({ cls := "CityBrigade", name := "housed", desc := "(II)I" } : Jvm.MethodName)) ∈ lw_all := lw_g (lw_at lw_m3 91 rfl) rfl
theorem q730 : (Jvm.Cond.code ({ cls := "CityBrigade", name := "housed", desc := "(II)I" } : Jvm.MethodName) prog_1_method_27_code (4 : Nat) (Option.some Jvm.ClassFile.FieldType.int)) ∈ lw_all := lw_g (lw_at lw_m3 92 rfl) rfl
theorem q731 : (Jvm.Cond.methodLink "CityBrigade" (288 : Nat) ({ cls := "CityBrigade", name := "burntOf", desc := "(LCityBrigade$House;LCityBrigade$Blaze;)I" } : Jvm.MethodName)) ∈ lw_all := lw_g (lw_at lw_m3 93 rfl) rfl
theorem q732 : (Jvm.Cond.privateMethod ({ cls := "CityBrigade", name := "burntOf", desc := "(LCityBrigade$House;LCityBrigade$Blaze;)I" } : Jvm.MethodName)) ∈ lw_tbl := lw_at lw_m3 94 rfl
theorem q733 : (Jvm.Cond.instanceMethod ({ cls := "CityBrigade", name := "burntOf", desc := "(LCityBrigade$House;LCityBrigade$Blaze;)I" } : Jvm.MethodName)) ∈ lw_all := lw_g (lw_at lw_m3 95 rfl) rfl
theorem q734 : (Jvm.Cond.code ({ cls := "CityBrigade", name := "burntOf", desc := "(LCityBrigade$House;LCityBrigade$Blaze;)I" } : Jvm.MethodName) prog_1_method_25_code (5 : Nat) (Option.some Jvm.ClassFile.FieldType.int)) ∈ lw_all := lw_g (lw_at lw_m3 96 rfl) rfl
theorem q735 : (Jvm.Cond.methodLink "CityBrigade" (298 : Nat) ({ cls := "CityBrigade", name := "fallenOf", desc := "(LCityBrigade$House;)I" } : Jvm.MethodName)) ∈ lw_all := lw_g (lw_at lw_m3 97 rfl) rfl
theorem q736 : (Jvm.Cond.privateMethod ({ cls := "CityBrigade", name := "fallenOf", desc := "(LCityBrigade$House;)I" } : Jvm.MethodName)) ∈ lw_tbl := lw_at lw_m3 98 rfl
theorem q737 : (Jvm.Cond.instanceMethod ({ cls := "CityBrigade", name := "fallenOf", desc := "(LCityBrigade$House;)I" } : Jvm.MethodName)) ∈ lw_all := lw_g (lw_at lw_m3 99 rfl) rfl
theorem q738 : (Jvm.Cond.code ({ cls := "CityBrigade", name := "fallenOf", desc := "(LCityBrigade$House;)I" } : Jvm.MethodName) prog_1_method_26_code (4 : Nat) (Option.some Jvm.ClassFile.FieldType.int)) ∈ lw_all := lw_g (lw_at lw_m3 100 rfl) rfl
theorem q739 : (Jvm.Cond.methodLink "CityBrigade" (302 : Nat) ({ cls := "CityBrigade", name := "atWorkIn", desc := "(LCityBrigade$House;)I" } : Jvm.MethodName)) ∈ lw_all := lw_g (lw_at lw_m3 101 rfl) rfl
theorem q740 : (Jvm.Cond.privateMethod ({ cls := "CityBrigade", name := "atWorkIn", desc := "(LCityBrigade$House;)I" } : Jvm.MethodName)) ∈ lw_tbl := lw_at lw_m3 102 rfl
theorem q741 : (Jvm.Cond.instanceMethod ({ cls := "CityBrigade", name := "atWorkIn", desc := "(LCityBrigade$House;)I" } : Jvm.MethodName)) ∈ lw_all := lw_g (lw_at lw_m3 103 rfl) rfl
theorem q742 : (Jvm.Cond.code ({ cls := "CityBrigade", name := "atWorkIn", desc := "(LCityBrigade$House;)I" } : Jvm.MethodName) prog_1_method_49_code (4 : Nat) (Option.some Jvm.ClassFile.FieldType.int)) ∈ lw_all := lw_g (lw_at lw_m3 104 rfl) rfl
theorem q744 : (Jvm.Cond.instanceMethod ({ cls := "CityBrigade", name := "main", desc := "(I)I" } : Jvm.MethodName)) ∈ lw_all := lw_g (lw_at lw_m3 106 rfl) rfl
theorem q745 : (Jvm.Cond.selects "CityBrigade" ({ cls := "CityBrigade", name := "main", desc := "(I)I" } : Jvm.MethodName) ({ cls := "CityBrigade", name := "main", desc := "(I)I" } : Jvm.MethodName)) ∈ lw_all := lw_g (lw_at lw_m3 107 rfl) rfl
theorem q746 : (Jvm.Cond.code ({ cls := "CityBrigade", name := "main", desc := "(I)I" } : Jvm.MethodName) prog_1_method_37_code (2 : Nat) (Option.some Jvm.ClassFile.FieldType.int)) ∈ lw_all := lw_g (lw_at lw_m3 108 rfl) rfl
theorem q748 : (Jvm.Cond.instanceMethod ({ cls := "CityBrigade", name := "head", desc := "(II)I" } : Jvm.MethodName)) ∈ lw_all := lw_g (lw_at lw_m3 110 rfl) rfl
theorem q749 : (Jvm.Cond.selects "CityBrigade" ({ cls := "CityBrigade", name := "head", desc := "(II)I" } : Jvm.MethodName) ({ cls := "CityBrigade", name := "head", desc := "(II)I" } : Jvm.MethodName)) ∈ lw_all := lw_g (lw_at lw_m3 111 rfl) rfl
theorem q750 : (Jvm.Cond.code ({ cls := "CityBrigade", name := "head", desc := "(II)I" } : Jvm.MethodName) prog_1_method_38_code (3 : Nat) (Option.some Jvm.ClassFile.FieldType.int)) ∈ lw_all := lw_g (lw_at lw_m3 112 rfl) rfl
theorem q752 : (Jvm.Cond.methodLink "CityBrigade" (362 : Nat) ({ cls := "CityBrigade$Head", name := "<init>", desc := "(II)V" } : Jvm.MethodName)) ∈ lw_all := lw_g (lw_at lw_m3 114 rfl) rfl
theorem q757 : (Jvm.Cond.fieldLinkNest "CityBrigade" (440 : Nat) "CityBrigade$Head" "corner" "I" "CityBrigade") ∈ lw_tbl := lw_at lw_m3 119 rfl
theorem q759 : (Jvm.Cond.fieldLinkNest "CityBrigade" (713 : Nat) "CityBrigade$Head" "main" "I" "CityBrigade") ∈ lw_tbl := lw_at lw_m3 121 rfl
theorem q766 : (Jvm.Cond.instanceMethod ({ cls := "CityBrigade", name := "crew", desc := "(IIZII)I" } : Jvm.MethodName)) ∈ lw_all := lw_g (lw_at lw_m3 128 rfl) rfl
theorem q767 : (Jvm.Cond.selects "CityBrigade" ({ cls := "CityBrigade", name := "crew", desc := "(IIZII)I" } : Jvm.MethodName) ({ cls := "CityBrigade", name := "crew", desc := "(IIZII)I" } : Jvm.MethodName)) ∈ lw_all := lw_g (lw_at lw_m3 129 rfl) rfl
theorem q768 : (Jvm.Cond.code ({ cls := "CityBrigade", name := "crew", desc := "(IIZII)I" } : Jvm.MethodName) prog_1_method_41_code (6 : Nat) (Option.some Jvm.ClassFile.FieldType.int)) ∈ lw_all := lw_g (lw_at lw_m3 130 rfl) rfl
theorem q769 : (Jvm.Cond.methodLink "CityBrigade" (382 : Nat) ({ cls := "CityBrigade", name := "make", desc := "(IIZII)LCityBrigade$Crew;" } : Jvm.MethodName)) ∈ lw_all := lw_g (lw_at lw_m3 131 rfl) rfl
theorem q770 : (Jvm.Cond.privateMethod ({ cls := "CityBrigade", name := "make", desc := "(IIZII)LCityBrigade$Crew;" } : Jvm.MethodName)) ∈ lw_tbl := lw_at lw_m3 132 rfl
theorem q771 : (Jvm.Cond.instanceMethod ({ cls := "CityBrigade", name := "make", desc := "(IIZII)LCityBrigade$Crew;" } : Jvm.MethodName)) ∈ lw_all := lw_g (lw_at lw_m3 133 rfl) rfl
theorem q772 : (Jvm.Cond.code ({ cls := "CityBrigade", name := "make", desc := "(IIZII)LCityBrigade$Crew;" } : Jvm.MethodName) prog_1_method_40_code (6 : Nat) (Option.some (Jvm.ClassFile.FieldType.object "CityBrigade$Crew"))) ∈ lw_all := lw_g (lw_at lw_m3 134 rfl) rfl
theorem q773 : (Jvm.Cond.classLink "CityBrigade" (368 : Nat) "CityBrigade$Pump") ∈ lw_all := lw_g (lw_at lw_m3 135 rfl) rfl
theorem q775 : (Jvm.Cond.methodLink "CityBrigade" (370 : Nat) ({ cls := "CityBrigade$Pump", name := "<init>", desc := "(IIZII)V" } : Jvm.MethodName)) ∈ lw_all := lw_g (lw_at lw_m3 137 rfl) rfl
theorem q785 : (Jvm.Cond.fieldLink "CityBrigade" (712 : Nat) "CityBrigade$Crew" "number" "I") ∈ lw_all := lw_g (lw_at lw_m3 147 rfl) rfl
theorem q787 : (Jvm.Cond.fieldLink "CityBrigade" (408 : Nat) "CityBrigade$Crew" "home" "I") ∈ lw_all := lw_g (lw_at lw_m3 149 rfl) rfl
theorem q790 : (Jvm.Cond.fieldLink "CityBrigade" (690 : Nat) "CityBrigade$Crew" "men" "I") ∈ lw_all := lw_g (lw_at lw_m3 152 rfl) rfl
theorem q793 : (Jvm.Cond.fieldLink "CityBrigade" (389 : Nat) "CityBrigade$Crew" "state" "I") ∈ lw_all := lw_g (lw_at lw_m3 155 rfl) rfl
theorem q795 : (Jvm.Cond.fieldLink "CityBrigade" (395 : Nat) "CityBrigade$Crew" "post" "I") ∈ lw_all := lw_g (lw_at lw_m3 157 rfl) rfl
theorem q797 : (Jvm.Cond.fieldLink "CityBrigade" (398 : Nat) "CityBrigade$Crew" "till" "I") ∈ lw_all := lw_g (lw_at lw_m3 159 rfl) rfl
theorem q799 : (Jvm.Cond.fieldLink "CityBrigade" (428 : Nat) "CityBrigade$Crew" "sent" "I") ∈ lw_all := lw_g (lw_at lw_m3 161 rfl) rfl
theorem q801 : (Jvm.Cond.fieldLink "CityBrigade" (405 : Nat) "CityBrigade$Crew" "floor" "I") ∈ lw_all := lw_g (lw_at lw_m3 163 rfl) rfl
theorem q803 : (Jvm.Cond.fieldLink "CityBrigade" (434 : Nat) "CityBrigade$Crew" "tired" "I") ∈ lw_all := lw_g (lw_at lw_m3 165 rfl) rfl
theorem q804 : (Jvm.Cond.fieldLink "CityBrigade" (437 : Nat) "CityBrigade$Crew" "got" "I") ∈ lw_all := lw_g (lw_at lw_m3 166 rfl) rfl
theorem q805 : (Jvm.Cond.fieldLink "CityBrigade" (681 : Nat) "CityBrigade$Crew" "began" "I") ∈ lw_all := lw_g (lw_at lw_m3 167 rfl) rfl
theorem q807 : (Jvm.Cond.fieldLink "CityBrigade" (695 : Nat) "CityBrigade$Crew" "room" "I") ∈ lw_all := lw_g (lw_at lw_m3 169 rfl) rfl
theorem q808 : (Jvm.Cond.fieldLink "CityBrigade" (693 : Nat) "CityBrigade$Crew" "asks" "I") ∈ lw_all := lw_g (lw_at lw_m3 170 rfl) rfl
theorem q809 : (Jvm.Cond.fieldLink "CityBrigade" (401 : Nat) "CityBrigade$Crew" "house" "LCityBrigade$House;") ∈ lw_all := lw_g (lw_at lw_m3 171 rfl) rfl
theorem q810 : (Jvm.Cond.fieldLink "CityBrigade" (682 : Nat) "CityBrigade$Ladder" "house" "LCityBrigade$House;") ∈ lw_all := lw_g (lw_at lw_m3 172 rfl) rfl
theorem q849 : (Jvm.Cond.classLink "CityBrigade" (373 : Nat) "CityBrigade$Steamer") ∈ lw_all := lw_g (lw_at lw_m3 211 rfl) rfl
theorem q851 : (Jvm.Cond.methodLink "CityBrigade" (375 : Nat) ({ cls := "CityBrigade$Steamer", name := "<init>", desc := "(IIZII)V" } : Jvm.MethodName)) ∈ lw_all := lw_g (lw_at lw_m3 213 rfl) rfl
theorem q877 : (Jvm.Cond.classLink "CityBrigade" (376 : Nat) "CityBrigade$Ladder") ∈ lw_all := lw_g (lw_at lw_m3 239 rfl) rfl
theorem q879 : (Jvm.Cond.methodLink "CityBrigade" (378 : Nat) ({ cls := "CityBrigade$Ladder", name := "<init>", desc := "(IIZII)V" } : Jvm.MethodName)) ∈ lw_all := lw_g (lw_at lw_m4 1 rfl) rfl
theorem q884 : (Jvm.Cond.fieldLinkNest "CityBrigade" (683 : Nat) "CityBrigade$Ladder" "height" "I" "CityBrigade") ∈ lw_tbl := lw_at lw_m4 6 rfl
theorem q904 : (Jvm.Cond.classLink "CityBrigade" (379 : Nat) "CityBrigade$Chief") ∈ lw_all := lw_g (lw_at lw_m4 26 rfl) rfl
theorem q906 : (Jvm.Cond.methodLink "CityBrigade" (381 : Nat) ({ cls := "CityBrigade$Chief", name := "<init>", desc := "(IIZII)V" } : Jvm.MethodName)) ∈ lw_all := lw_g (lw_at lw_m4 28 rfl) rfl
theorem q928 : (Jvm.Cond.instanceMethod ({ cls := "CityBrigade", name := "gear", desc := "(IIII)Z" } : Jvm.MethodName)) ∈ lw_all := lw_g (lw_at lw_m4 50 rfl) rfl
theorem q929 : (Jvm.Cond.selects "CityBrigade" ({ cls := "CityBrigade", name := "gear", desc := "(IIII)Z" } : Jvm.MethodName) ({ cls := "CityBrigade", name := "gear", desc := "(IIII)Z" } : Jvm.MethodName)) ∈ lw_all := lw_g (lw_at lw_m4 51 rfl) rfl
theorem q930 : (Jvm.Cond.code ({ cls := "CityBrigade", name := "gear", desc := "(IIII)Z" } : Jvm.MethodName) prog_1_method_42_code (5 : Nat) (Option.some Jvm.ClassFile.FieldType.boolean)) ∈ lw_all := lw_g (lw_at lw_m4 52 rfl) rfl
theorem q931 : (Jvm.Cond.methodLink "CityBrigade" (386 : Nat) ({ cls := "CityBrigade", name := "isCrew", desc := "(I)Z" } : Jvm.MethodName)) ∈ lw_all := lw_g (lw_at lw_m4 53 rfl) rfl
theorem q932 : (Jvm.Cond.privateMethod ({ cls := "CityBrigade", name := "isCrew", desc := "(I)Z" } : Jvm.MethodName)) ∈ lw_tbl := lw_at lw_m4 54 rfl
theorem q933 : (Jvm.Cond.instanceMethod ({ cls := "CityBrigade", name := "isCrew", desc := "(I)Z" } : Jvm.MethodName)) ∈ lw_all := lw_g (lw_at lw_m4 55 rfl) rfl
theorem q934 : (Jvm.Cond.code ({ cls := "CityBrigade", name := "isCrew", desc := "(I)Z" } : Jvm.MethodName) prog_1_method_39_code (2 : Nat) (Option.some Jvm.ClassFile.FieldType.boolean)) ∈ lw_all := lw_g (lw_at lw_m4 56 rfl) rfl
theorem q935 : (Jvm.Cond.methodLink "CityBrigade" (392 : Nat) ({ cls := "CityBrigade$Crew", name := "gear", desc := "(III)Z" } : Jvm.MethodName)) ∈ lw_all := lw_g (lw_at lw_m4 57 rfl) rfl
theorem q955 : (Jvm.Cond.instanceMethod ({ cls := "CityBrigade", name := "heal", desc := "(I)Z" } : Jvm.MethodName)) ∈ lw_all := lw_g (lw_at lw_m4 77 rfl) rfl
theorem q956 : (Jvm.Cond.selects "CityBrigade" ({ cls := "CityBrigade", name := "heal", desc := "(I)Z" } : Jvm.MethodName) ({ cls := "CityBrigade", name := "heal", desc := "(I)Z" } : Jvm.MethodName)) ∈ lw_all := lw_g (lw_at lw_m4 78 rfl) rfl
theorem q957 : (Jvm.Cond.code ({ cls := "CityBrigade", name := "heal", desc := "(I)Z" } : Jvm.MethodName) prog_1_method_44_code (2 : Nat) (Option.some Jvm.ClassFile.FieldType.boolean)) ∈ lw_all := lw_g (lw_at lw_m4 79 rfl) rfl
theorem q958 : (Jvm.Cond.methodLink "CityBrigade" (411 : Nat) ({ cls := "CityBrigade", name := "ready", desc := "(LCityBrigade$Crew;I)V" } : Jvm.MethodName)) ∈ lw_all := lw_g (lw_at lw_m4 80 rfl) rfl
theorem q959 : (Jvm.Cond.privateMethod ({ cls := "CityBrigade", name := "ready", desc := "(LCityBrigade$Crew;I)V" } : Jvm.MethodName)) ∈ lw_tbl := lw_at lw_m4 81 rfl
theorem q960 : (Jvm.Cond.instanceMethod ({ cls := "CityBrigade", name := "ready", desc := "(LCityBrigade$Crew;I)V" } : Jvm.MethodName)) ∈ lw_all := lw_g (lw_at lw_m4 82 rfl) rfl
theorem q961 : (Jvm.Cond.code ({ cls := "CityBrigade", name := "ready", desc := "(LCityBrigade$Crew;I)V" } : Jvm.MethodName) prog_1_method_43_code (3 : Nat) (Option.none : Option Jvm.ClassFile.FieldType)) ∈ lw_all := lw_g (lw_at lw_m4 83 rfl) rfl
theorem q963 : (Jvm.Cond.instanceMethod ({ cls := "CityBrigade", name := "recall", desc := "(I)Z" } : Jvm.MethodName)) ∈ lw_all := lw_g (lw_at lw_m4 85 rfl) rfl
theorem q964 : (Jvm.Cond.selects "CityBrigade" ({ cls := "CityBrigade", name := "recall", desc := "(I)Z" } : Jvm.MethodName) ({ cls := "CityBrigade", name := "recall", desc := "(I)Z" } : Jvm.MethodName)) ∈ lw_all := lw_g (lw_at lw_m4 86 rfl) rfl
theorem q965 : (Jvm.Cond.code ({ cls := "CityBrigade", name := "recall", desc := "(I)Z" } : Jvm.MethodName) prog_1_method_46_code (2 : Nat) (Option.some Jvm.ClassFile.FieldType.boolean)) ∈ lw_all := lw_g (lw_at lw_m4 87 rfl) rfl
theorem q966 : (Jvm.Cond.methodLink "CityBrigade" (421 : Nat) ({ cls := "CityBrigade", name := "turnHome", desc := "(LCityBrigade$Crew;)V" } : Jvm.MethodName)) ∈ lw_all := lw_g (lw_at lw_m4 88 rfl) rfl
theorem q967 : (Jvm.Cond.privateMethod ({ cls := "CityBrigade", name := "turnHome", desc := "(LCityBrigade$Crew;)V" } : Jvm.MethodName)) ∈ lw_tbl := lw_at lw_m4 89 rfl
theorem q968 : (Jvm.Cond.instanceMethod ({ cls := "CityBrigade", name := "turnHome", desc := "(LCityBrigade$Crew;)V" } : Jvm.MethodName)) ∈ lw_all := lw_g (lw_at lw_m4 90 rfl) rfl
theorem q969 : (Jvm.Cond.code ({ cls := "CityBrigade", name := "turnHome", desc := "(LCityBrigade$Crew;)V" } : Jvm.MethodName) prog_1_method_45_code (3 : Nat) (Option.none : Option Jvm.ClassFile.FieldType)) ∈ lw_all := lw_g (lw_at lw_m4 91 rfl) rfl
theorem q970 : (Jvm.Cond.methodLink "CityBrigade" (418 : Nat) ({ cls := "CityBrigade$Crew", name := "slowNow", desc := "()I" } : Jvm.MethodName)) ∈ lw_all := lw_g (lw_at lw_m4 92 rfl) rfl
theorem q1012 : (Jvm.Cond.instanceMethod ({ cls := "CityBrigade", name := "reach", desc := "(II)I" } : Jvm.MethodName)) ∈ lw_all := lw_g (lw_at lw_m4 134 rfl) rfl
theorem q1013 : (Jvm.Cond.selects "CityBrigade" ({ cls := "CityBrigade", name := "reach", desc := "(II)I" } : Jvm.MethodName) ({ cls := "CityBrigade", name := "reach", desc := "(II)I" } : Jvm.MethodName)) ∈ lw_all := lw_g (lw_at lw_m4 135 rfl) rfl
theorem q1014 : (Jvm.Cond.code ({ cls := "CityBrigade", name := "reach", desc := "(II)I" } : Jvm.MethodName) prog_1_method_53_code (3 : Nat) (Option.some Jvm.ClassFile.FieldType.int)) ∈ lw_all := lw_g (lw_at lw_m4 136 rfl) rfl
theorem q1015 : (Jvm.Cond.classLink "CityBrigade" (446 : Nat) "CityBrigade$Gives") ∈ lw_all := lw_g (lw_at lw_m4 137 rfl) rfl
theorem q1016 : (Jvm.Cond.methodLink "CityBrigade" (450 : Nat) ({ cls := "CityBrigade", name := "reachOf", desc := "(LCityBrigade$Gives;LCityBrigade$House;)I" } : Jvm.MethodName)) ∈ lw_all := lw_g (lw_at lw_m4 138 rfl) rfl
theorem q1017 : (Jvm.Cond.privateMethod ({ cls := "CityBrigade", name := "reachOf", desc := "(LCityBrigade$Gives;LCityBrigade$House;)I" } : Jvm.MethodName)) ∈ lw_tbl := lw_at lw_m4 139 rfl
theorem q1018 : (Jvm.Cond.instanceMethod ({ cls := "CityBrigade", name := "reachOf", desc := "(LCityBrigade$Gives;LCityBrigade$House;)I" } : Jvm.MethodName)) ∈ lw_all := lw_g (lw_at lw_m4 140 rfl) rfl
theorem q1019 : (Jvm.Cond.code ({ cls := "CityBrigade", name := "reachOf", desc := "(LCityBrigade$Gives;LCityBrigade$House;)I" } : Jvm.MethodName) prog_1_method_52_code (7 : Nat) (Option.some Jvm.ClassFile.FieldType.int)) ∈ lw_all := lw_g (lw_at lw_m4 141 rfl) rfl
theorem q1020 : (Jvm.Cond.methodLink "CityBrigade" (441 : Nat) ({ cls := "CityBrigade", name := "headFor", desc := "(I)LCityBrigade$Head;" } : Jvm.MethodName)) ∈ lw_all := lw_g (lw_at lw_m4 142 rfl) rfl
theorem q1021 : (Jvm.Cond.privateMethod ({ cls := "CityBrigade", name := "headFor", desc := "(I)LCityBrigade$Head;" } : Jvm.MethodName)) ∈ lw_tbl := lw_at lw_m4 143 rfl
theorem q1022 : (Jvm.Cond.instanceMethod ({ cls := "CityBrigade", name := "headFor", desc := "(I)LCityBrigade$Head;" } : Jvm.MethodName)) ∈ lw_all := lw_g (lw_at lw_m4 144 rfl) rfl
theorem q1023 : (Jvm.Cond.code ({ cls := "CityBrigade", name := "headFor", desc := "(I)LCityBrigade$Head;" } : Jvm.MethodName) prog_1_method_51_code (4 : Nat) (Option.some (Jvm.ClassFile.FieldType.object "CityBrigade$Head"))) ∈ lw_all := lw_g (lw_at lw_m4 145 rfl) rfl
theorem q1024 : (Jvm.Cond.interfaceEntry "CityBrigade" (445 : Nat)) ∈ lw_tbl := lw_at lw_m4 146 rfl
theorem q1025 : (Jvm.Cond.methodLink "CityBrigade" (445 : Nat) ({ cls := "CityBrigade$Gives", name := "hose", desc := "()I" } : Jvm.MethodName)) ∈ lw_all := lw_g (lw_at lw_m4 147 rfl) rfl
theorem q1038 : (Jvm.Cond.instanceMethod ({ cls := "CityBrigade", name := "feed", desc := "(IIIII)I" } : Jvm.MethodName)) ∈ lw_all := lw_g (lw_at lw_m4 160 rfl) rfl
theorem q1039 : (Jvm.Cond.selects "CityBrigade" ({ cls := "CityBrigade", name := "feed", desc := "(IIIII)I" } : Jvm.MethodName) ({ cls := "CityBrigade", name := "feed", desc := "(IIIII)I" } : Jvm.MethodName)) ∈ lw_all := lw_g (lw_at lw_m4 161 rfl) rfl
theorem q1040 : (Jvm.Cond.code ({ cls := "CityBrigade", name := "feed", desc := "(IIIII)I" } : Jvm.MethodName) prog_1_method_55_code (9 : Nat) (Option.some Jvm.ClassFile.FieldType.int)) ∈ lw_all := lw_g (lw_at lw_m4 162 rfl) rfl
theorem q1041 : (Jvm.Cond.methodLink "CityBrigade" (454 : Nat) ({ cls := "CityBrigade", name := "byteOf", desc := "(IIIIII)I" } : Jvm.MethodName)) ∈ lw_all := lw_g (lw_at lw_m4 163 rfl) rfl
theorem q1042 : (Jvm.Cond.static ({ cls := "CityBrigade", name := "byteOf", desc := "(IIIIII)I" } : Jvm.MethodName)) ∈ lw_all := lw_g (lw_at lw_m4 164 rfl) rfl
theorem q1043 : (Jvm.Cond.code ({ cls := "CityBrigade", name := "byteOf", desc := "(IIIIII)I" } : Jvm.MethodName) prog_1_method_54_code (7 : Nat) (Option.some Jvm.ClassFile.FieldType.int)) ∈ lw_all := lw_g (lw_at lw_m4 165 rfl) rfl
theorem q1045 : (Jvm.Cond.instanceMethod ({ cls := "CityBrigade", name := "end", desc := "(I)Z" } : Jvm.MethodName)) ∈ lw_all := lw_g (lw_at lw_m4 167 rfl) rfl
theorem q1046 : (Jvm.Cond.selects "CityBrigade" ({ cls := "CityBrigade", name := "end", desc := "(I)Z" } : Jvm.MethodName) ({ cls := "CityBrigade", name := "end", desc := "(I)Z" } : Jvm.MethodName)) ∈ lw_all := lw_g (lw_at lw_m4 168 rfl) rfl
theorem q1047 : (Jvm.Cond.code ({ cls := "CityBrigade", name := "end", desc := "(I)Z" } : Jvm.MethodName) prog_1_method_56_code (2 : Nat) (Option.some Jvm.ClassFile.FieldType.boolean)) ∈ lw_all := lw_g (lw_at lw_m4 169 rfl) rfl
theorem q1049 : (Jvm.Cond.instanceMethod ({ cls := "CityBrigade", name := "fault", desc := "(I)I" } : Jvm.MethodName)) ∈ lw_all := lw_g (lw_at lw_m4 171 rfl) rfl
theorem q1050 : (Jvm.Cond.selects "CityBrigade" ({ cls := "CityBrigade", name := "fault", desc := "(I)I" } : Jvm.MethodName) ({ cls := "CityBrigade", name := "fault", desc := "(I)I" } : Jvm.MethodName)) ∈ lw_all := lw_g (lw_at lw_m4 172 rfl) rfl
theorem q1051 : (Jvm.Cond.codeWith ({ cls := "CityBrigade", name := "fault", desc := "(I)I" } : Jvm.MethodName) prog_1_method_75_code (3 : Nat) (Option.some Jvm.ClassFile.FieldType.int) [((12 : Nat), (32 : Nat), (33 : Nat), (55 : Nat))]) ∈ lw_all := lw_g (lw_at lw_m4 173 rfl) rfl
theorem q1052 : (Jvm.Cond.methodLink "CityBrigade" (573 : Nat) ({ cls := "CityBrigade", name := "alone", desc := "()LCityBrigade$Test;" } : Jvm.MethodName)) ∈ lw_all := lw_g (lw_at lw_m4 174 rfl) rfl
theorem q1053 : (Jvm.Cond.privateMethod ({ cls := "CityBrigade", name := "alone", desc := "()LCityBrigade$Test;" } : Jvm.MethodName)) ∈ lw_tbl := lw_at lw_m4 175 rfl
theorem q1054 : (Jvm.Cond.instanceMethod ({ cls := "CityBrigade", name := "alone", desc := "()LCityBrigade$Test;" } : Jvm.MethodName)) ∈ lw_all := lw_g (lw_at lw_m4 176 rfl) rfl
theorem q1055 : (Jvm.Cond.code ({ cls := "CityBrigade", name := "alone", desc := "()LCityBrigade$Test;" } : Jvm.MethodName) prog_1_method_74_code (2 : Nat) (Option.some (Jvm.ClassFile.FieldType.object "CityBrigade$Test"))) ∈ lw_all := lw_g (lw_at lw_m4 177 rfl) rfl
theorem q1056 : (Jvm.Cond.methodLink "CityBrigade" (562 : Nat) ({ cls := "CityBrigade", name := "begin", desc := "(I)V" } : Jvm.MethodName)) ∈ lw_all := lw_g (lw_at lw_m4 178 rfl) rfl
theorem q1057 : (Jvm.Cond.privateMethod ({ cls := "CityBrigade", name := "begin", desc := "(I)V" } : Jvm.MethodName)) ∈ lw_tbl := lw_at lw_m4 179 rfl
theorem q1058 : (Jvm.Cond.instanceMethod ({ cls := "CityBrigade", name := "begin", desc := "(I)V" } : Jvm.MethodName)) ∈ lw_all := lw_g (lw_at lw_m4 180 rfl) rfl
theorem q1059 : (Jvm.Cond.code ({ cls := "CityBrigade", name := "begin", desc := "(I)V" } : Jvm.MethodName) prog_1_method_72_code (2 : Nat) (Option.none : Option Jvm.ClassFile.FieldType)) ∈ lw_all := lw_g (lw_at lw_m4 181 rfl) rfl
theorem q1060 : (Jvm.Cond.methodLink "CityBrigade" (535 : Nat) ({ cls := "CityBrigade", name := "condition", desc := "()LCityBrigade$Test;" } : Jvm.MethodName)) ∈ lw_all := lw_g (lw_at lw_m4 182 rfl) rfl
theorem q1061 : (Jvm.Cond.privateMethod ({ cls := "CityBrigade", name := "condition", desc := "()LCityBrigade$Test;" } : Jvm.MethodName)) ∈ lw_tbl := lw_at lw_m4 183 rfl
theorem q1062 : (Jvm.Cond.instanceMethod ({ cls := "CityBrigade", name := "condition", desc := "()LCityBrigade$Test;" } : Jvm.MethodName)) ∈ lw_all := lw_g (lw_at lw_m4 184 rfl) rfl
theorem q1063 : (Jvm.Cond.code ({ cls := "CityBrigade", name := "condition", desc := "()LCityBrigade$Test;" } : Jvm.MethodName) prog_1_method_69_code (2 : Nat) (Option.some (Jvm.ClassFile.FieldType.object "CityBrigade$Test"))) ∈ lw_all := lw_g (lw_at lw_m4 185 rfl) rfl
theorem q1064 : (Jvm.Cond.methodLink "CityBrigade" (546 : Nat) ({ cls := "CityBrigade", name := "part", desc := "()LCityBrigade$Test;" } : Jvm.MethodName)) ∈ lw_all := lw_g (lw_at lw_m4 186 rfl) rfl
theorem q1065 : (Jvm.Cond.privateMethod ({ cls := "CityBrigade", name := "part", desc := "()LCityBrigade$Test;" } : Jvm.MethodName)) ∈ lw_tbl := lw_at lw_m4 187 rfl
theorem q1066 : (Jvm.Cond.instanceMethod ({ cls := "CityBrigade", name := "part", desc := "()LCityBrigade$Test;" } : Jvm.MethodName)) ∈ lw_all := lw_g (lw_at lw_m4 188 rfl) rfl
theorem q1067 : (Jvm.Cond.code ({ cls := "CityBrigade", name := "part", desc := "()LCityBrigade$Test;" } : Jvm.MethodName) prog_1_method_68_code (2 : Nat) (Option.some (Jvm.ClassFile.FieldType.object "CityBrigade$Test"))) ∈ lw_all := lw_g (lw_at lw_m4 189 rfl) rfl
theorem q1068 : (Jvm.Cond.methodLink "CityBrigade" (526 : Nat) ({ cls := "CityBrigade", name := "unit", desc := "()LCityBrigade$Test;" } : Jvm.MethodName)) ∈ lw_all := lw_g (lw_at lw_m4 190 rfl) rfl
theorem q1069 : (Jvm.Cond.privateMethod ({ cls := "CityBrigade", name := "unit", desc := "()LCityBrigade$Test;" } : Jvm.MethodName)) ∈ lw_tbl := lw_at lw_m4 191 rfl
theorem q1070 : (Jvm.Cond.instanceMethod ({ cls := "CityBrigade", name := "unit", desc := "()LCityBrigade$Test;" } : Jvm.MethodName)) ∈ lw_all := lw_g (lw_at lw_m4 192 rfl) rfl
theorem q1071 : (Jvm.Cond.code ({ cls := "CityBrigade", name := "unit", desc := "()LCityBrigade$Test;" } : Jvm.MethodName) prog_1_method_67_code (4 : Nat) (Option.some (Jvm.ClassFile.FieldType.object "CityBrigade$Test"))) ∈ lw_all := lw_g (lw_at lw_m4 193 rfl) rfl
theorem q1072 : (Jvm.Cond.methodLink "CityBrigade" (470 : Nat) ({ cls := "CityBrigade", name := "look", desc := "()I" } : Jvm.MethodName)) ∈ lw_all := lw_g (lw_at lw_m4 194 rfl) rfl
theorem q1073 : (Jvm.Cond.privateMethod ({ cls := "CityBrigade", name := "look", desc := "()I" } : Jvm.MethodName)) ∈ lw_tbl := lw_at lw_m4 195 rfl
theorem q1074 : (Jvm.Cond.instanceMethod ({ cls := "CityBrigade", name := "look", desc := "()I" } : Jvm.MethodName)) ∈ lw_all := lw_g (lw_at lw_m4 196 rfl) rfl
theorem q1075 : (Jvm.Cond.code ({ cls := "CityBrigade", name := "look", desc := "()I" } : Jvm.MethodName) prog_1_method_57_code (1 : Nat) (Option.some Jvm.ClassFile.FieldType.int)) ∈ lw_all := lw_g (lw_at lw_m4 197 rfl) rfl
theorem q1076 : (Jvm.Cond.methodLink "CityBrigade" (483 : Nat) ({ cls := "CityBrigade", name := "opens", desc := "()V" } : Jvm.MethodName)) ∈ lw_all := lw_g (lw_at lw_m4 198 rfl) rfl
theorem q1077 : (Jvm.Cond.privateMethod ({ cls := "CityBrigade", name := "opens", desc := "()V" } : Jvm.MethodName)) ∈ lw_tbl := lw_at lw_m4 199 rfl
theorem q1078 : (Jvm.Cond.instanceMethod ({ cls := "CityBrigade", name := "opens", desc := "()V" } : Jvm.MethodName)) ∈ lw_all := lw_g (lw_at lw_m4 200 rfl) rfl
theorem q1079 : (Jvm.Cond.code ({ cls := "CityBrigade", name := "opens", desc := "()V" } : Jvm.MethodName) prog_1_method_62_code (1 : Nat) (Option.none : Option Jvm.ClassFile.FieldType)) ∈ lw_all := lw_g (lw_at lw_m4 201 rfl) rfl
theorem q1080 : (Jvm.Cond.methodLink "CityBrigade" (476 : Nat) ({ cls := "CityBrigade", name := "need", desc := "(Z)V" } : Jvm.MethodName)) ∈ lw_all := lw_g (lw_at lw_m4 202 rfl) rfl
theorem q1081 : (Jvm.Cond.privateMethod ({ cls := "CityBrigade", name := "need", desc := "(Z)V" } : Jvm.MethodName)) ∈ lw_tbl := lw_at lw_m4 203 rfl
theorem q1082 : (Jvm.Cond.instanceMethod ({ cls := "CityBrigade", name := "need", desc := "(Z)V" } : Jvm.MethodName)) ∈ lw_all := lw_g (lw_at lw_m4 204 rfl) rfl
theorem q1083 : (Jvm.Cond.code ({ cls := "CityBrigade", name := "need", desc := "(Z)V" } : Jvm.MethodName) prog_1_method_60_code (2 : Nat) (Option.none : Option Jvm.ClassFile.FieldType)) ∈ lw_all := lw_g (lw_at lw_m4 205 rfl) rfl
theorem q1084 : (Jvm.Cond.classLink "CityBrigade" (530 : Nat) "CityBrigade$Not") ∈ lw_all := lw_g (lw_at lw_m4 206 rfl) rfl
theorem q1086 : (Jvm.Cond.methodLink "CityBrigade" (532 : Nat) ({ cls := "CityBrigade$Not", name := "<init>", desc := "(LCityBrigade$Test;)V" } : Jvm.MethodName)) ∈ lw_all := lw_g (lw_at lw_m4 208 rfl) rfl
theorem q1097 : (Jvm.Cond.methodLink "CityBrigade" (490 : Nat) ({ cls := "CityBrigade", name := "closes", desc := "(I)V" } : Jvm.MethodName)) ∈ lw_all := lw_g (lw_at lw_m4 219 rfl) rfl
theorem q1098 : (Jvm.Cond.privateMethod ({ cls := "CityBrigade", name := "closes", desc := "(I)V" } : Jvm.MethodName)) ∈ lw_tbl := lw_at lw_m4 220 rfl
theorem q1099 : (Jvm.Cond.instanceMethod ({ cls := "CityBrigade", name := "closes", desc := "(I)V" } : Jvm.MethodName)) ∈ lw_all := lw_g (lw_at lw_m4 221 rfl) rfl
theorem q1100 : (Jvm.Cond.code ({ cls := "CityBrigade", name := "closes", desc := "(I)V" } : Jvm.MethodName) prog_1_method_63_code (2 : Nat) (Option.none : Option Jvm.ClassFile.FieldType)) ∈ lw_all := lw_g (lw_at lw_m4 222 rfl) rfl
theorem q1101 : (Jvm.Cond.methodLink "CityBrigade" (486 : Nat) ({ cls := "CityBrigade", name := "sum", desc := "()LCityBrigade$Sum;" } : Jvm.MethodName)) ∈ lw_all := lw_g (lw_at lw_m4 223 rfl) rfl
theorem q1102 : (Jvm.Cond.privateMethod ({ cls := "CityBrigade", name := "sum", desc := "()LCityBrigade$Sum;" } : Jvm.MethodName)) ∈ lw_tbl := lw_at lw_m4 224 rfl
theorem q1103 : (Jvm.Cond.instanceMethod ({ cls := "CityBrigade", name := "sum", desc := "()LCityBrigade$Sum;" } : Jvm.MethodName)) ∈ lw_all := lw_g (lw_at lw_m4 225 rfl) rfl
theorem q1104 : (Jvm.Cond.code ({ cls := "CityBrigade", name := "sum", desc := "()LCityBrigade$Sum;" } : Jvm.MethodName) prog_1_method_66_code (3 : Nat) (Option.some (Jvm.ClassFile.FieldType.object "CityBrigade$Sum"))) ∈ lw_all := lw_g (lw_at lw_m4 226 rfl) rfl
theorem q1105 : (Jvm.Cond.methodLink "CityBrigade" (523 : Nat) ({ cls := "CityBrigade", name := "term", desc := "()LCityBrigade$Sum;" } : Jvm.MethodName)) ∈ lw_all := lw_g (lw_at lw_m4 227 rfl) rfl
theorem q1106 : (Jvm.Cond.privateMethod ({ cls := "CityBrigade", name := "term", desc := "()LCityBrigade$Sum;" } : Jvm.MethodName)) ∈ lw_tbl := lw_at lw_m4 228 rfl
theorem q1107 : (Jvm.Cond.instanceMethod ({ cls := "CityBrigade", name := "term", desc := "()LCityBrigade$Sum;" } : Jvm.MethodName)) ∈ lw_all := lw_g (lw_at lw_m4 229 rfl) rfl
theorem q1108 : (Jvm.Cond.code ({ cls := "CityBrigade", name := "term", desc := "()LCityBrigade$Sum;" } : Jvm.MethodName) prog_1_method_65_code (2 : Nat) (Option.some (Jvm.ClassFile.FieldType.object "CityBrigade$Sum"))) ∈ lw_all := lw_g (lw_at lw_m4 230 rfl) rfl
theorem q1109 : (Jvm.Cond.methodLink "CityBrigade" (515 : Nat) ({ cls := "CityBrigade", name := "atom", desc := "()LCityBrigade$Sum;" } : Jvm.MethodName)) ∈ lw_all := lw_g (lw_at lw_m4 231 rfl) rfl
theorem q1110 : (Jvm.Cond.privateMethod ({ cls := "CityBrigade", name := "atom", desc := "()LCityBrigade$Sum;" } : Jvm.MethodName)) ∈ lw_tbl := lw_at lw_m4 232 rfl
theorem q1111 : (Jvm.Cond.instanceMethod ({ cls := "CityBrigade", name := "atom", desc := "()LCityBrigade$Sum;" } : Jvm.MethodName)) ∈ lw_all := lw_g (lw_at lw_m4 233 rfl) rfl
theorem q1112 : (Jvm.Cond.code ({ cls := "CityBrigade", name := "atom", desc := "()LCityBrigade$Sum;" } : Jvm.MethodName) prog_1_method_64_code (3 : Nat) (Option.some (Jvm.ClassFile.FieldType.object "CityBrigade$Sum"))) ∈ lw_all := lw_g (lw_at lw_m4 234 rfl) rfl
theorem q1113 : (Jvm.Cond.methodLink "CityBrigade" (496 : Nat) ({ cls := "CityBrigade", name := "lettersOf", desc := "(I)Ljava/lang/String;" } : Jvm.MethodName)) ∈ lw_all := lw_g (lw_at lw_m4 235 rfl) rfl
theorem q1114 : (Jvm.Cond.static ({ cls := "CityBrigade", name := "lettersOf", desc := "(I)Ljava/lang/String;" } : Jvm.MethodName)) ∈ lw_all := lw_g (lw_at lw_m4 236 rfl) rfl
theorem q1115 : (Jvm.Cond.code ({ cls := "CityBrigade", name := "lettersOf", desc := "(I)Ljava/lang/String;" } : Jvm.MethodName) prog_1_method_58_code (1 : Nat) (Option.some (Jvm.ClassFile.FieldType.object "java/lang/String"))) ∈ lw_all := lw_g (lw_at lw_m4 237 rfl) rfl
theorem q1116 : (Jvm.Cond.stringRef "CityBrigade" (464 : Nat) "whfkapslco") ∈ lw_tbl := lw_at lw_m4 238 rfl
theorem q1117 : (Jvm.Cond.stringRef "CityBrigade" (466 : Nat) "vbetmg") ∈ lw_tbl := lw_at lw_m4 239 rfl
theorem q1118 : (Jvm.Cond.stringRef "CityBrigade" (468 : Nat) "srukgxwydnl") ∈ lw_tbl := lw_at lw_m5 0 rfl
theorem q1119 : (Jvm.Cond.methodLink "CityBrigade" (500 : Nat) ({ cls := "java/lang/String", name := "indexOf", desc := "(I)I" } : Jvm.MethodName)) ∈ lw_all := lw_g (lw_at lw_m5 1 rfl) rfl
theorem q1203 : (Jvm.Cond.classLink "CityBrigade" (505 : Nat) "CityBrigade$Letter") ∈ lw_all := lw_g (lw_at lw_m5 85 rfl) rfl
theorem q1205 : (Jvm.Cond.methodLink "CityBrigade" (507 : Nat) ({ cls := "CityBrigade$Letter", name := "<init>", desc := "(I)V" } : Jvm.MethodName)) ∈ lw_all := lw_g (lw_at lw_m5 87 rfl) rfl
theorem q1216 : (Jvm.Cond.classLink "CityBrigade" (509 : Nat) "CityBrigade$Number") ∈ lw_all := lw_g (lw_at lw_m5 98 rfl) rfl
theorem q1218 : (Jvm.Cond.methodLink "CityBrigade" (511 : Nat) ({ cls := "CityBrigade", name := "number", desc := "(I)I" } : Jvm.MethodName)) ∈ lw_all := lw_g (lw_at lw_m5 100 rfl) rfl
theorem q1219 : (Jvm.Cond.privateMethod ({ cls := "CityBrigade", name := "number", desc := "(I)I" } : Jvm.MethodName)) ∈ lw_tbl := lw_at lw_m5 101 rfl
theorem q1220 : (Jvm.Cond.instanceMethod ({ cls := "CityBrigade", name := "number", desc := "(I)I" } : Jvm.MethodName)) ∈ lw_all := lw_g (lw_at lw_m5 102 rfl) rfl
theorem q1221 : (Jvm.Cond.code ({ cls := "CityBrigade", name := "number", desc := "(I)I" } : Jvm.MethodName) prog_1_method_61_code (4 : Nat) (Option.some Jvm.ClassFile.FieldType.int)) ∈ lw_all := lw_g (lw_at lw_m5 103 rfl) rfl
theorem q1222 : (Jvm.Cond.methodLink "CityBrigade" (473 : Nat) ({ cls := "CityBrigade", name := "isDigit", desc := "(I)Z" } : Jvm.MethodName)) ∈ lw_all := lw_g (lw_at lw_m5 104 rfl) rfl
theorem q1223 : (Jvm.Cond.static ({ cls := "CityBrigade", name := "isDigit", desc := "(I)Z" } : Jvm.MethodName)) ∈ lw_all := lw_g (lw_at lw_m5 105 rfl) rfl
theorem q1224 : (Jvm.Cond.code ({ cls := "CityBrigade", name := "isDigit", desc := "(I)Z" } : Jvm.MethodName) prog_1_method_59_code (1 : Nat) (Option.some Jvm.ClassFile.FieldType.boolean)) ∈ lw_all := lw_g (lw_at lw_m5 106 rfl) rfl
theorem q1225 : (Jvm.Cond.methodLink "CityBrigade" (514 : Nat) ({ cls := "CityBrigade$Number", name := "<init>", desc := "(I)V" } : Jvm.MethodName)) ∈ lw_all := lw_g (lw_at lw_m5 107 rfl) rfl
theorem q1233 : (Jvm.Cond.classLink "CityBrigade" (518 : Nat) "CityBrigade$Two") ∈ lw_all := lw_g (lw_at lw_m5 115 rfl) rfl
theorem q1235 : (Jvm.Cond.methodLink "CityBrigade" (520 : Nat) ({ cls := "CityBrigade$Two", name := "<init>", desc := "(ILCityBrigade$Sum;LCityBrigade$Sum;)V" } : Jvm.MethodName)) ∈ lw_all := lw_g (lw_at lw_m5 117 rfl) rfl
theorem q1249 : (Jvm.Cond.classLink "CityBrigade" (538 : Nat) "CityBrigade$Compare") ∈ lw_all := lw_g (lw_at lw_m5 131 rfl) rfl
theorem q1251 : (Jvm.Cond.methodLink "CityBrigade" (540 : Nat) ({ cls := "CityBrigade$Compare", name := "<init>", desc := "(ILCityBrigade$Sum;LCityBrigade$Sum;)V" } : Jvm.MethodName)) ∈ lw_all := lw_g (lw_at lw_m5 133 rfl) rfl
theorem q1265 : (Jvm.Cond.classLink "CityBrigade" (541 : Nat) "CityBrigade$Both") ∈ lw_all := lw_g (lw_at lw_m5 147 rfl) rfl
theorem q1267 : (Jvm.Cond.methodLink "CityBrigade" (543 : Nat) ({ cls := "CityBrigade$Both", name := "<init>", desc := "(ZLCityBrigade$Test;LCityBrigade$Test;)V" } : Jvm.MethodName)) ∈ lw_all := lw_g (lw_at lw_m5 149 rfl) rfl
theorem q1281 : (Jvm.Cond.methodLink "CityBrigade" (576 : Nat) ({ cls := "CityBrigade", name := "whole", desc := "(I)LCityBrigade$Clause;" } : Jvm.MethodName)) ∈ lw_all := lw_g (lw_at lw_m5 163 rfl) rfl
theorem q1282 : (Jvm.Cond.privateMethod ({ cls := "CityBrigade", name := "whole", desc := "(I)LCityBrigade$Clause;" } : Jvm.MethodName)) ∈ lw_tbl := lw_at lw_m5 164 rfl
theorem q1283 : (Jvm.Cond.instanceMethod ({ cls := "CityBrigade", name := "whole", desc := "(I)LCityBrigade$Clause;" } : Jvm.MethodName)) ∈ lw_all := lw_g (lw_at lw_m5 165 rfl) rfl
theorem q1284 : (Jvm.Cond.code ({ cls := "CityBrigade", name := "whole", desc := "(I)LCityBrigade$Clause;" } : Jvm.MethodName) prog_1_method_73_code (4 : Nat) (Option.some (Jvm.ClassFile.FieldType.object "CityBrigade$Clause"))) ∈ lw_all := lw_g (lw_at lw_m5 166 rfl) rfl
theorem q1285 : (Jvm.Cond.methodLink "CityBrigade" (565 : Nat) ({ cls := "CityBrigade", name := "clause", desc := "()LCityBrigade$Clause;" } : Jvm.MethodName)) ∈ lw_all := lw_g (lw_at lw_m5 167 rfl) rfl
theorem q1286 : (Jvm.Cond.privateMethod ({ cls := "CityBrigade", name := "clause", desc := "()LCityBrigade$Clause;" } : Jvm.MethodName)) ∈ lw_tbl := lw_at lw_m5 168 rfl
theorem q1287 : (Jvm.Cond.instanceMethod ({ cls := "CityBrigade", name := "clause", desc := "()LCityBrigade$Clause;" } : Jvm.MethodName)) ∈ lw_all := lw_g (lw_at lw_m5 169 rfl) rfl
theorem q1288 : (Jvm.Cond.code ({ cls := "CityBrigade", name := "clause", desc := "()LCityBrigade$Clause;" } : Jvm.MethodName) prog_1_method_71_code (4 : Nat) (Option.some (Jvm.ClassFile.FieldType.object "CityBrigade$Clause"))) ∈ lw_all := lw_g (lw_at lw_m5 170 rfl) rfl
theorem q1290 : (Jvm.Cond.methodLink "CityBrigade" (551 : Nat) ({ cls := "CityBrigade$Clause", name := "<init>", desc := "(LCityBrigade$Test;)V" } : Jvm.MethodName)) ∈ lw_all := lw_g (lw_at lw_m5 172 rfl) rfl
theorem q1295 : (Jvm.Cond.fieldLinkNest "CityBrigade" (621 : Nat) "CityBrigade$Clause" "test" "LCityBrigade$Test;" "CityBrigade") ∈ lw_tbl := lw_at lw_m5 177 rfl
theorem q1297 : (Jvm.Cond.fieldLinkNest "CityBrigade" (559 : Nat) "CityBrigade$Clause" "asks" "[I" "CityBrigade") ∈ lw_tbl := lw_at lw_m5 179 rfl
theorem q1298 : (Jvm.Cond.fieldLinkNest "CityBrigade" (552 : Nat) "CityBrigade$Clause" "code" "I" "CityBrigade") ∈ lw_tbl := lw_at lw_m5 180 rfl
theorem q1299 : (Jvm.Cond.fieldLinkNest "CityBrigade" (569 : Nat) "CityBrigade$Clause" "next" "LCityBrigade$Clause;" "CityBrigade") ∈ lw_tbl := lw_at lw_m5 181 rfl
theorem q1309 : (Jvm.Cond.methodLink "CityBrigade" (555 : Nat) ({ cls := "CityBrigade", name := "isAction", desc := "()Z" } : Jvm.MethodName)) ∈ lw_all := lw_g (lw_at lw_m5 191 rfl) rfl
theorem q1310 : (Jvm.Cond.privateMethod ({ cls := "CityBrigade", name := "isAction", desc := "()Z" } : Jvm.MethodName)) ∈ lw_tbl := lw_at lw_m5 192 rfl
theorem q1311 : (Jvm.Cond.instanceMethod ({ cls := "CityBrigade", name := "isAction", desc := "()Z" } : Jvm.MethodName)) ∈ lw_all := lw_g (lw_at lw_m5 193 rfl) rfl
theorem q1312 : (Jvm.Cond.code ({ cls := "CityBrigade", name := "isAction", desc := "()Z" } : Jvm.MethodName) prog_1_method_70_code (2 : Nat) (Option.some Jvm.ClassFile.FieldType.boolean)) ∈ lw_all := lw_g (lw_at lw_m5 194 rfl) rfl
theorem q1313 : (Jvm.Cond.stringRef "CityBrigade" (549 : Nat) "pslcm") ∈ lw_tbl := lw_at lw_m5 195 rfl
theorem q1314 : (Jvm.Cond.methodLink "CityBrigade" (342 : Nat) ({ cls := "java/lang/Math", name := "min", desc := "(II)I" } : Jvm.MethodName)) ∈ lw_all := lw_g (lw_at lw_m5 196 rfl) rfl
theorem q1316 : (Jvm.Cond.instanceMethod ({ cls := "CityBrigade", name := "orders", desc := "()I" } : Jvm.MethodName)) ∈ lw_all := lw_g (lw_at lw_m5 198 rfl) rfl
theorem q1317 : (Jvm.Cond.selects "CityBrigade" ({ cls := "CityBrigade", name := "orders", desc := "()I" } : Jvm.MethodName) ({ cls := "CityBrigade", name := "orders", desc := "()I" } : Jvm.MethodName)) ∈ lw_all := lw_g (lw_at lw_m5 199 rfl) rfl
theorem q1318 : (Jvm.Cond.codeWith ({ cls := "CityBrigade", name := "orders", desc := "()I" } : Jvm.MethodName) prog_1_method_76_code (2 : Nat) (Option.some Jvm.ClassFile.FieldType.int) [((11 : Nat), (25 : Nat), (28 : Nat), (55 : Nat))]) ∈ lw_all := lw_g (lw_at lw_m5 200 rfl) rfl
theorem q1320 : (Jvm.Cond.instanceMethod ({ cls := "CityBrigade", name := "leaving", desc := "()Z" } : Jvm.MethodName)) ∈ lw_all := lw_g (lw_at lw_m5 202 rfl) rfl
theorem q1321 : (Jvm.Cond.selects "CityBrigade" ({ cls := "CityBrigade", name := "leaving", desc := "()Z" } : Jvm.MethodName) ({ cls := "CityBrigade", name := "leaving", desc := "()Z" } : Jvm.MethodName)) ∈ lw_all := lw_g (lw_at lw_m5 203 rfl) rfl
theorem q1322 : (Jvm.Cond.codeWith ({ cls := "CityBrigade", name := "leaving", desc := "()Z" } : Jvm.MethodName) prog_1_method_77_code (2 : Nat) (Option.some Jvm.ClassFile.FieldType.boolean) [((0 : Nat), (8 : Nat), (11 : Nat), (55 : Nat))]) ∈ lw_all := lw_g (lw_at lw_m5 204 rfl) rfl
theorem q1324 : (Jvm.Cond.instanceMethod ({ cls := "CityBrigade", name := "falses", desc := "(II)I" } : Jvm.MethodName)) ∈ lw_all := lw_g (lw_at lw_m5 206 rfl) rfl
theorem q1325 : (Jvm.Cond.selects "CityBrigade" ({ cls := "CityBrigade", name := "falses", desc := "(II)I" } : Jvm.MethodName) ({ cls := "CityBrigade", name := "falses", desc := "(II)I" } : Jvm.MethodName)) ∈ lw_all := lw_g (lw_at lw_m5 207 rfl) rfl
theorem q1326 : (Jvm.Cond.code ({ cls := "CityBrigade", name := "falses", desc := "(II)I" } : Jvm.MethodName) prog_1_method_81_code (3 : Nat) (Option.some Jvm.ClassFile.FieldType.int)) ∈ lw_all := lw_g (lw_at lw_m5 208 rfl) rfl
theorem q1327 : (Jvm.Cond.methodLink "CityBrigade" (606 : Nat) ({ cls := "CityBrigade", name := "falsely", desc := "(II)I" } : Jvm.MethodName)) ∈ lw_all := lw_g (lw_at lw_m5 209 rfl) rfl
theorem q1328 : (Jvm.Cond.privateMethod ({ cls := "CityBrigade", name := "falsely", desc := "(II)I" } : Jvm.MethodName)) ∈ lw_tbl := lw_at lw_m5 210 rfl
theorem q1329 : (Jvm.Cond.instanceMethod ({ cls := "CityBrigade", name := "falsely", desc := "(II)I" } : Jvm.MethodName)) ∈ lw_all := lw_g (lw_at lw_m5 211 rfl) rfl
theorem q1330 : (Jvm.Cond.code ({ cls := "CityBrigade", name := "falsely", desc := "(II)I" } : Jvm.MethodName) prog_1_method_80_code (7 : Nat) (Option.some Jvm.ClassFile.FieldType.int)) ∈ lw_all := lw_g (lw_at lw_m5 212 rfl) rfl
theorem q1331 : (Jvm.Cond.methodLink "CityBrigade" (603 : Nat) ({ cls := "CityBrigade", name := "partOf", desc := "(I)I" } : Jvm.MethodName)) ∈ lw_all := lw_g (lw_at lw_m5 213 rfl) rfl
theorem q1333 : (Jvm.Cond.instanceMethod ({ cls := "CityBrigade", name := "asks", desc := "(III)I" } : Jvm.MethodName)) ∈ lw_all := lw_g (lw_at lw_m5 215 rfl) rfl
theorem q1334 : (Jvm.Cond.selects "CityBrigade" ({ cls := "CityBrigade", name := "asks", desc := "(III)I" } : Jvm.MethodName) ({ cls := "CityBrigade", name := "asks", desc := "(III)I" } : Jvm.MethodName)) ∈ lw_all := lw_g (lw_at lw_m5 216 rfl) rfl
theorem q1335 : (Jvm.Cond.code ({ cls := "CityBrigade", name := "asks", desc := "(III)I" } : Jvm.MethodName) prog_1_method_85_code (4 : Nat) (Option.some Jvm.ClassFile.FieldType.int)) ∈ lw_all := lw_g (lw_at lw_m5 217 rfl) rfl
theorem q1336 : (Jvm.Cond.methodLink "CityBrigade" (630 : Nat) ({ cls := "CityBrigade", name := "answer", desc := "(II)V" } : Jvm.MethodName)) ∈ lw_all := lw_g (lw_at lw_m5 218 rfl) rfl
theorem q1337 : (Jvm.Cond.privateMethod ({ cls := "CityBrigade", name := "answer", desc := "(II)V" } : Jvm.MethodName)) ∈ lw_tbl := lw_at lw_m5 219 rfl
theorem q1338 : (Jvm.Cond.instanceMethod ({ cls := "CityBrigade", name := "answer", desc := "(II)V" } : Jvm.MethodName)) ∈ lw_all := lw_g (lw_at lw_m5 220 rfl) rfl
theorem q1339 : (Jvm.Cond.code ({ cls := "CityBrigade", name := "answer", desc := "(II)V" } : Jvm.MethodName) prog_1_method_84_code (6 : Nat) (Option.none : Option Jvm.ClassFile.FieldType)) ∈ lw_all := lw_g (lw_at lw_m5 221 rfl) rfl
theorem q1340 : (Jvm.Cond.methodLink "CityBrigade" (615 : Nat) ({ cls := "CityBrigade", name := "hear", desc := "(II)V" } : Jvm.MethodName)) ∈ lw_all := lw_g (lw_at lw_m5 222 rfl) rfl
theorem q1341 : (Jvm.Cond.privateMethod ({ cls := "CityBrigade", name := "hear", desc := "(II)V" } : Jvm.MethodName)) ∈ lw_tbl := lw_at lw_m5 223 rfl
theorem q1342 : (Jvm.Cond.instanceMethod ({ cls := "CityBrigade", name := "hear", desc := "(II)V" } : Jvm.MethodName)) ∈ lw_all := lw_g (lw_at lw_m5 224 rfl) rfl
theorem q1343 : (Jvm.Cond.code ({ cls := "CityBrigade", name := "hear", desc := "(II)V" } : Jvm.MethodName) prog_1_method_83_code (7 : Nat) (Option.none : Option Jvm.ClassFile.FieldType)) ∈ lw_all := lw_g (lw_at lw_m5 225 rfl) rfl
theorem q1344 : (Jvm.Cond.methodLink "CityBrigade" (612 : Nat) ({ cls := "CityBrigade", name := "readyOf", desc := "(I)I" } : Jvm.MethodName)) ∈ lw_all := lw_g (lw_at lw_m5 226 rfl) rfl
theorem q1345 : (Jvm.Cond.privateMethod ({ cls := "CityBrigade", name := "readyOf", desc := "(I)I" } : Jvm.MethodName)) ∈ lw_tbl := lw_at lw_m5 227 rfl
theorem q1346 : (Jvm.Cond.instanceMethod ({ cls := "CityBrigade", name := "readyOf", desc := "(I)I" } : Jvm.MethodName)) ∈ lw_all := lw_g (lw_at lw_m5 228 rfl) rfl
theorem q1347 : (Jvm.Cond.code ({ cls := "CityBrigade", name := "readyOf", desc := "(I)I" } : Jvm.MethodName) prog_1_method_82_code (4 : Nat) (Option.some Jvm.ClassFile.FieldType.int)) ∈ lw_all := lw_g (lw_at lw_m5 229 rfl) rfl
theorem q1348 : (Jvm.Cond.methodLink "CityBrigade" (609 : Nat) ({ cls := "CityBrigade$Crew", name := "sort", desc := "()I" } : Jvm.MethodName)) ∈ lw_all := lw_g (lw_at lw_m5 230 rfl) rfl
theorem q1363 : (Jvm.Cond.methodLink "CityBrigade" (624 : Nat) ({ cls := "CityBrigade$Test", name := "holds", desc := "([I)Z" } : Jvm.MethodName)) ∈ lw_all := lw_g (lw_at lw_m6 5 rfl) rfl
theorem q1399 : (Jvm.Cond.instanceMethod ({ cls := "CityBrigade", name := "why", desc := "(II)I" } : Jvm.MethodName)) ∈ lw_all := lw_g (lw_at lw_m6 41 rfl) rfl
theorem q1400 : (Jvm.Cond.selects "CityBrigade" ({ cls := "CityBrigade", name := "why", desc := "(II)I" } : Jvm.MethodName) ({ cls := "CityBrigade", name := "why", desc := "(II)I" } : Jvm.MethodName)) ∈ lw_all := lw_g (lw_at lw_m6 42 rfl) rfl
theorem q1401 : (Jvm.Cond.code ({ cls := "CityBrigade", name := "why", desc := "(II)I" } : Jvm.MethodName) prog_1_method_86_code (3 : Nat) (Option.some Jvm.ClassFile.FieldType.int)) ∈ lw_all := lw_g (lw_at lw_m6 43 rfl) rfl
theorem q1403 : (Jvm.Cond.instanceMethod ({ cls := "CityBrigade", name := "call", desc := "(I)I" } : Jvm.MethodName)) ∈ lw_all := lw_g (lw_at lw_m6 45 rfl) rfl
theorem q1404 : (Jvm.Cond.selects "CityBrigade" ({ cls := "CityBrigade", name := "call", desc := "(I)I" } : Jvm.MethodName) ({ cls := "CityBrigade", name := "call", desc := "(I)I" } : Jvm.MethodName)) ∈ lw_all := lw_g (lw_at lw_m6 46 rfl) rfl
theorem q1405 : (Jvm.Cond.code ({ cls := "CityBrigade", name := "call", desc := "(I)I" } : Jvm.MethodName) prog_1_method_93_code (3 : Nat) (Option.some Jvm.ClassFile.FieldType.int)) ∈ lw_all := lw_g (lw_at lw_m6 47 rfl) rfl
theorem q1406 : (Jvm.Cond.methodLink "CityBrigade" (662 : Nat) ({ cls := "CityBrigade", name := "openAt", desc := "(I)LCityBrigade$Call;" } : Jvm.MethodName)) ∈ lw_all := lw_g (lw_at lw_m6 48 rfl) rfl
theorem q1407 : (Jvm.Cond.privateMethod ({ cls := "CityBrigade", name := "openAt", desc := "(I)LCityBrigade$Call;" } : Jvm.MethodName)) ∈ lw_tbl := lw_at lw_m6 49 rfl
theorem q1408 : (Jvm.Cond.instanceMethod ({ cls := "CityBrigade", name := "openAt", desc := "(I)LCityBrigade$Call;" } : Jvm.MethodName)) ∈ lw_all := lw_g (lw_at lw_m6 50 rfl) rfl
theorem q1409 : (Jvm.Cond.code ({ cls := "CityBrigade", name := "openAt", desc := "(I)LCityBrigade$Call;" } : Jvm.MethodName) prog_1_method_78_code (3 : Nat) (Option.some (Jvm.ClassFile.FieldType.object "CityBrigade$Call"))) ∈ lw_all := lw_g (lw_at lw_m6 51 rfl) rfl
theorem q1411 : (Jvm.Cond.methodLink "CityBrigade" (666 : Nat) ({ cls := "CityBrigade$Call", name := "<init>", desc := "(III)V" } : Jvm.MethodName)) ∈ lw_all := lw_g (lw_at lw_m6 53 rfl) rfl
theorem q1416 : (Jvm.Cond.fieldLinkNest "CityBrigade" (646 : Nat) "CityBrigade$Call" "number" "I" "CityBrigade") ∈ lw_tbl := lw_at lw_m6 58 rfl
theorem q1418 : (Jvm.Cond.fieldLinkNest "CityBrigade" (590 : Nat) "CityBrigade$Call" "corner" "I" "CityBrigade") ∈ lw_tbl := lw_at lw_m6 60 rfl
theorem q1420 : (Jvm.Cond.fieldLinkNest "CityBrigade" (600 : Nat) "CityBrigade$Call" "began" "I" "CityBrigade") ∈ lw_tbl := lw_at lw_m6 62 rfl
theorem q1422 : (Jvm.Cond.fieldLinkNest "CityBrigade" (636 : Nat) "CityBrigade$Call" "word" "I" "CityBrigade") ∈ lw_tbl := lw_at lw_m6 64 rfl
theorem q1424 : (Jvm.Cond.fieldLinkNest "CityBrigade" (591 : Nat) "CityBrigade$Call" "what" "I" "CityBrigade") ∈ lw_tbl := lw_at lw_m6 66 rfl
theorem q1426 : (Jvm.Cond.fieldLinkNest "CityBrigade" (674 : Nat) "CityBrigade$Call" "ended" "I" "CityBrigade") ∈ lw_tbl := lw_at lw_m6 68 rfl
theorem q1427 : (Jvm.Cond.fieldLinkNest "CityBrigade" (648 : Nat) "CityBrigade$Call" "sent" "I" "CityBrigade") ∈ lw_tbl := lw_at lw_m6 69 rfl
theorem q1428 : (Jvm.Cond.fieldLinkNest "CityBrigade" (643 : Nat) "CityBrigade$Call" "lacks" "I" "CityBrigade") ∈ lw_tbl := lw_at lw_m6 70 rfl
theorem q1430 : (Jvm.Cond.fieldLinkNest "CityBrigade" (671 : Nat) "CityBrigade$Call" "times" "I" "CityBrigade") ∈ lw_tbl := lw_at lw_m6 72 rfl
theorem q1431 : (Jvm.Cond.fieldLinkNest "CityBrigade" (598 : Nat) "CityBrigade$Call" "burned" "Z" "CityBrigade") ∈ lw_tbl := lw_at lw_m6 73 rfl
theorem q1453 : (Jvm.Cond.methodLink "CityBrigade" (667 : Nat) ({ cls := "CityBrigade", name := "send", desc := "(LCityBrigade$Call;)V" } : Jvm.MethodName)) ∈ lw_all := lw_g (lw_at lw_m6 95 rfl) rfl
theorem q1454 : (Jvm.Cond.privateMethod ({ cls := "CityBrigade", name := "send", desc := "(LCityBrigade$Call;)V" } : Jvm.MethodName)) ∈ lw_tbl := lw_at lw_m6 96 rfl
theorem q1455 : (Jvm.Cond.instanceMethod ({ cls := "CityBrigade", name := "send", desc := "(LCityBrigade$Call;)V" } : Jvm.MethodName)) ∈ lw_all := lw_g (lw_at lw_m6 97 rfl) rfl
theorem q1456 : (Jvm.Cond.code ({ cls := "CityBrigade", name := "send", desc := "(LCityBrigade$Call;)V" } : Jvm.MethodName) prog_1_method_88_code (5 : Nat) (Option.none : Option Jvm.ClassFile.FieldType)) ∈ lw_all := lw_g (lw_at lw_m6 98 rfl) rfl
theorem q1457 : (Jvm.Cond.methodLink "CityBrigade" (639 : Nat) ({ cls := "CityBrigade", name := "nearest", desc := "(II)LCityBrigade$Crew;" } : Jvm.MethodName)) ∈ lw_all := lw_g (lw_at lw_m6 99 rfl) rfl
theorem q1458 : (Jvm.Cond.privateMethod ({ cls := "CityBrigade", name := "nearest", desc := "(II)LCityBrigade$Crew;" } : Jvm.MethodName)) ∈ lw_tbl := lw_at lw_m6 100 rfl
theorem q1459 : (Jvm.Cond.instanceMethod ({ cls := "CityBrigade", name := "nearest", desc := "(II)LCityBrigade$Crew;" } : Jvm.MethodName)) ∈ lw_all := lw_g (lw_at lw_m6 101 rfl) rfl
theorem q1460 : (Jvm.Cond.code ({ cls := "CityBrigade", name := "nearest", desc := "(II)LCityBrigade$Crew;" } : Jvm.MethodName) prog_1_method_87_code (7 : Nat) (Option.some (Jvm.ClassFile.FieldType.object "CityBrigade$Crew"))) ∈ lw_all := lw_g (lw_at lw_m6 102 rfl) rfl
theorem q1461 : (Jvm.Cond.methodLink "CityBrigade" (649 : Nat) ({ cls := "CityBrigade", name := "moveUp", desc := "()Z" } : Jvm.MethodName)) ∈ lw_all := lw_g (lw_at lw_m6 103 rfl) rfl
theorem q1462 : (Jvm.Cond.privateMethod ({ cls := "CityBrigade", name := "moveUp", desc := "()Z" } : Jvm.MethodName)) ∈ lw_tbl := lw_at lw_m6 104 rfl
theorem q1463 : (Jvm.Cond.instanceMethod ({ cls := "CityBrigade", name := "moveUp", desc := "()Z" } : Jvm.MethodName)) ∈ lw_all := lw_g (lw_at lw_m6 105 rfl) rfl
theorem q1464 : (Jvm.Cond.code ({ cls := "CityBrigade", name := "moveUp", desc := "()Z" } : Jvm.MethodName) prog_1_method_92_code (7 : Nat) (Option.some Jvm.ClassFile.FieldType.boolean)) ∈ lw_all := lw_g (lw_at lw_m6 106 rfl) rfl
theorem q1465 : (Jvm.Cond.methodLink "CityBrigade" (655 : Nat) ({ cls := "CityBrigade", name := "emptyHome", desc := "()I" } : Jvm.MethodName)) ∈ lw_all := lw_g (lw_at lw_m6 107 rfl) rfl
theorem q1466 : (Jvm.Cond.privateMethod ({ cls := "CityBrigade", name := "emptyHome", desc := "()I" } : Jvm.MethodName)) ∈ lw_tbl := lw_at lw_m6 108 rfl
theorem q1467 : (Jvm.Cond.instanceMethod ({ cls := "CityBrigade", name := "emptyHome", desc := "()I" } : Jvm.MethodName)) ∈ lw_all := lw_g (lw_at lw_m6 109 rfl) rfl
theorem q1468 : (Jvm.Cond.code ({ cls := "CityBrigade", name := "emptyHome", desc := "()I" } : Jvm.MethodName) prog_1_method_90_code (3 : Nat) (Option.some Jvm.ClassFile.FieldType.int)) ∈ lw_all := lw_g (lw_at lw_m6 110 rfl) rfl
theorem q1469 : (Jvm.Cond.methodLink "CityBrigade" (652 : Nat) ({ cls := "CityBrigade", name := "isManned", desc := "(I)Z" } : Jvm.MethodName)) ∈ lw_all := lw_g (lw_at lw_m6 111 rfl) rfl
theorem q1470 : (Jvm.Cond.privateMethod ({ cls := "CityBrigade", name := "isManned", desc := "(I)Z" } : Jvm.MethodName)) ∈ lw_tbl := lw_at lw_m6 112 rfl
theorem q1471 : (Jvm.Cond.instanceMethod ({ cls := "CityBrigade", name := "isManned", desc := "(I)Z" } : Jvm.MethodName)) ∈ lw_all := lw_g (lw_at lw_m6 113 rfl) rfl
theorem q1472 : (Jvm.Cond.code ({ cls := "CityBrigade", name := "isManned", desc := "(I)Z" } : Jvm.MethodName) prog_1_method_89_code (3 : Nat) (Option.some Jvm.ClassFile.FieldType.boolean)) ∈ lw_all := lw_g (lw_at lw_m6 114 rfl) rfl
theorem q1473 : (Jvm.Cond.methodLink "CityBrigade" (658 : Nat) ({ cls := "CityBrigade", name := "hasMate", desc := "(LCityBrigade$Crew;)Z" } : Jvm.MethodName)) ∈ lw_all := lw_g (lw_at lw_m6 115 rfl) rfl
theorem q1474 : (Jvm.Cond.privateMethod ({ cls := "CityBrigade", name := "hasMate", desc := "(LCityBrigade$Crew;)Z" } : Jvm.MethodName)) ∈ lw_tbl := lw_at lw_m6 116 rfl
theorem q1475 : (Jvm.Cond.instanceMethod ({ cls := "CityBrigade", name := "hasMate", desc := "(LCityBrigade$Crew;)Z" } : Jvm.MethodName)) ∈ lw_all := lw_g (lw_at lw_m6 117 rfl) rfl
theorem q1476 : (Jvm.Cond.code ({ cls := "CityBrigade", name := "hasMate", desc := "(LCityBrigade$Crew;)Z" } : Jvm.MethodName) prog_1_method_91_code (3 : Nat) (Option.some Jvm.ClassFile.FieldType.boolean)) ∈ lw_all := lw_g (lw_at lw_m6 118 rfl) rfl
theorem q1478 : (Jvm.Cond.instanceMethod ({ cls := "CityBrigade", name := "called", desc := "(II)I" } : Jvm.MethodName)) ∈ lw_all := lw_g (lw_at lw_m6 120 rfl) rfl
theorem q1479 : (Jvm.Cond.selects "CityBrigade" ({ cls := "CityBrigade", name := "called", desc := "(II)I" } : Jvm.MethodName) ({ cls := "CityBrigade", name := "called", desc := "(II)I" } : Jvm.MethodName)) ∈ lw_all := lw_g (lw_at lw_m6 121 rfl) rfl
theorem q1480 : (Jvm.Cond.code ({ cls := "CityBrigade", name := "called", desc := "(II)I" } : Jvm.MethodName) prog_1_method_94_code (4 : Nat) (Option.some Jvm.ClassFile.FieldType.int)) ∈ lw_all := lw_g (lw_at lw_m6 122 rfl) rfl
theorem q1482 : (Jvm.Cond.instanceMethod ({ cls := "CityBrigade", name := "tick", desc := "(I)I" } : Jvm.MethodName)) ∈ lw_all := lw_g (lw_at lw_m6 124 rfl) rfl
theorem q1483 : (Jvm.Cond.selects "CityBrigade" ({ cls := "CityBrigade", name := "tick", desc := "(I)I" } : Jvm.MethodName) ({ cls := "CityBrigade", name := "tick", desc := "(I)I" } : Jvm.MethodName)) ∈ lw_all := lw_g (lw_at lw_m6 125 rfl) rfl
theorem q1484 : (Jvm.Cond.code ({ cls := "CityBrigade", name := "tick", desc := "(I)I" } : Jvm.MethodName) prog_1_method_107_code (3 : Nat) (Option.some Jvm.ClassFile.FieldType.int)) ∈ lw_all := lw_g (lw_at lw_m6 126 rfl) rfl
theorem q1485 : (Jvm.Cond.methodLink "CityBrigade" (743 : Nat) ({ cls := "CityBrigade", name := "minute", desc := "()V" } : Jvm.MethodName)) ∈ lw_all := lw_g (lw_at lw_m6 127 rfl) rfl
theorem q1486 : (Jvm.Cond.privateMethod ({ cls := "CityBrigade", name := "minute", desc := "()V" } : Jvm.MethodName)) ∈ lw_tbl := lw_at lw_m6 128 rfl
theorem q1487 : (Jvm.Cond.instanceMethod ({ cls := "CityBrigade", name := "minute", desc := "()V" } : Jvm.MethodName)) ∈ lw_all := lw_g (lw_at lw_m6 129 rfl) rfl
theorem q1488 : (Jvm.Cond.code ({ cls := "CityBrigade", name := "minute", desc := "()V" } : Jvm.MethodName) prog_1_method_104_code (2 : Nat) (Option.none : Option Jvm.ClassFile.FieldType)) ∈ lw_all := lw_g (lw_at lw_m6 130 rfl) rfl
theorem q1489 : (Jvm.Cond.methodLink "CityBrigade" (716 : Nat) ({ cls := "CityBrigade", name := "arrive", desc := "(LCityBrigade$Crew;)V" } : Jvm.MethodName)) ∈ lw_all := lw_g (lw_at lw_m6 131 rfl) rfl
theorem q1490 : (Jvm.Cond.privateMethod ({ cls := "CityBrigade", name := "arrive", desc := "(LCityBrigade$Crew;)V" } : Jvm.MethodName)) ∈ lw_tbl := lw_at lw_m6 132 rfl
theorem q1491 : (Jvm.Cond.instanceMethod ({ cls := "CityBrigade", name := "arrive", desc := "(LCityBrigade$Crew;)V" } : Jvm.MethodName)) ∈ lw_all := lw_g (lw_at lw_m6 133 rfl) rfl
theorem q1492 : (Jvm.Cond.code ({ cls := "CityBrigade", name := "arrive", desc := "(LCityBrigade$Crew;)V" } : Jvm.MethodName) prog_1_method_96_code (4 : Nat) (Option.none : Option Jvm.ClassFile.FieldType)) ∈ lw_all := lw_g (lw_at lw_m6 134 rfl) rfl
theorem q1493 : (Jvm.Cond.methodLink "CityBrigade" (677 : Nat) ({ cls := "CityBrigade", name := "close", desc := "(LCityBrigade$Call;I)V" } : Jvm.MethodName)) ∈ lw_all := lw_g (lw_at lw_m6 135 rfl) rfl
theorem q1494 : (Jvm.Cond.privateMethod ({ cls := "CityBrigade", name := "close", desc := "(LCityBrigade$Call;I)V" } : Jvm.MethodName)) ∈ lw_tbl := lw_at lw_m6 136 rfl
theorem q1495 : (Jvm.Cond.instanceMethod ({ cls := "CityBrigade", name := "close", desc := "(LCityBrigade$Call;I)V" } : Jvm.MethodName)) ∈ lw_all := lw_g (lw_at lw_m6 137 rfl) rfl
theorem q1496 : (Jvm.Cond.code ({ cls := "CityBrigade", name := "close", desc := "(LCityBrigade$Call;I)V" } : Jvm.MethodName) prog_1_method_95_code (3 : Nat) (Option.none : Option Jvm.ClassFile.FieldType)) ∈ lw_all := lw_g (lw_at lw_m6 138 rfl) rfl
theorem q1497 : (Jvm.Cond.methodLink "CityBrigade" (719 : Nat) ({ cls := "CityBrigade", name := "goOver", desc := "(LCityBrigade$Crew;)V" } : Jvm.MethodName)) ∈ lw_all := lw_g (lw_at lw_m6 139 rfl) rfl
theorem q1498 : (Jvm.Cond.privateMethod ({ cls := "CityBrigade", name := "goOver", desc := "(LCityBrigade$Crew;)V" } : Jvm.MethodName)) ∈ lw_tbl := lw_at lw_m6 140 rfl
theorem q1499 : (Jvm.Cond.instanceMethod ({ cls := "CityBrigade", name := "goOver", desc := "(LCityBrigade$Crew;)V" } : Jvm.MethodName)) ∈ lw_all := lw_g (lw_at lw_m6 141 rfl) rfl
theorem q1500 : (Jvm.Cond.code ({ cls := "CityBrigade", name := "goOver", desc := "(LCityBrigade$Crew;)V" } : Jvm.MethodName) prog_1_method_97_code (3 : Nat) (Option.none : Option Jvm.ClassFile.FieldType)) ∈ lw_all := lw_g (lw_at lw_m6 142 rfl) rfl
theorem q1501 : (Jvm.Cond.methodLink "CityBrigade" (722 : Nat) ({ cls := "CityBrigade", name := "work", desc := "(LCityBrigade$Crew;)V" } : Jvm.MethodName)) ∈ lw_all := lw_g (lw_at lw_m6 143 rfl) rfl
theorem q1502 : (Jvm.Cond.privateMethod ({ cls := "CityBrigade", name := "work", desc := "(LCityBrigade$Crew;)V" } : Jvm.MethodName)) ∈ lw_tbl := lw_at lw_m6 144 rfl
theorem q1503 : (Jvm.Cond.instanceMethod ({ cls := "CityBrigade", name := "work", desc := "(LCityBrigade$Crew;)V" } : Jvm.MethodName)) ∈ lw_all := lw_g (lw_at lw_m6 145 rfl) rfl
theorem q1504 : (Jvm.Cond.code ({ cls := "CityBrigade", name := "work", desc := "(LCityBrigade$Crew;)V" } : Jvm.MethodName) prog_1_method_102_code (6 : Nat) (Option.none : Option Jvm.ClassFile.FieldType)) ∈ lw_all := lw_g (lw_at lw_m6 146 rfl) rfl
theorem q1505 : (Jvm.Cond.methodLink "CityBrigade" (698 : Nat) ({ cls := "CityBrigade", name := "save", desc := "(LCityBrigade$Ladder;)V" } : Jvm.MethodName)) ∈ lw_all := lw_g (lw_at lw_m6 147 rfl) rfl
theorem q1506 : (Jvm.Cond.privateMethod ({ cls := "CityBrigade", name := "save", desc := "(LCityBrigade$Ladder;)V" } : Jvm.MethodName)) ∈ lw_tbl := lw_at lw_m6 148 rfl
theorem q1507 : (Jvm.Cond.instanceMethod ({ cls := "CityBrigade", name := "save", desc := "(LCityBrigade$Ladder;)V" } : Jvm.MethodName)) ∈ lw_all := lw_g (lw_at lw_m6 149 rfl) rfl
theorem q1508 : (Jvm.Cond.code ({ cls := "CityBrigade", name := "save", desc := "(LCityBrigade$Ladder;)V" } : Jvm.MethodName) prog_1_method_99_code (5 : Nat) (Option.none : Option Jvm.ClassFile.FieldType)) ∈ lw_all := lw_g (lw_at lw_m6 150 rfl) rfl
theorem q1509 : (Jvm.Cond.methodLink "CityBrigade" (702 : Nat) ({ cls := "CityBrigade", name := "roomFor", desc := "(LCityBrigade$House;I)I" } : Jvm.MethodName)) ∈ lw_all := lw_g (lw_at lw_m6 151 rfl) rfl
theorem q1510 : (Jvm.Cond.privateMethod ({ cls := "CityBrigade", name := "roomFor", desc := "(LCityBrigade$House;I)I" } : Jvm.MethodName)) ∈ lw_tbl := lw_at lw_m6 152 rfl
theorem q1511 : (Jvm.Cond.instanceMethod ({ cls := "CityBrigade", name := "roomFor", desc := "(LCityBrigade$House;I)I" } : Jvm.MethodName)) ∈ lw_all := lw_g (lw_at lw_m6 153 rfl) rfl
theorem q1512 : (Jvm.Cond.code ({ cls := "CityBrigade", name := "roomFor", desc := "(LCityBrigade$House;I)I" } : Jvm.MethodName) prog_1_method_100_code (8 : Nat) (Option.some Jvm.ClassFile.FieldType.int)) ∈ lw_all := lw_g (lw_at lw_m6 154 rfl) rfl
theorem q1513 : (Jvm.Cond.methodLink "CityBrigade" (686 : Nat) ({ cls := "CityBrigade", name := "hasChief", desc := "(LCityBrigade$House;)Z" } : Jvm.MethodName)) ∈ lw_all := lw_g (lw_at lw_m6 155 rfl) rfl
theorem q1514 : (Jvm.Cond.privateMethod ({ cls := "CityBrigade", name := "hasChief", desc := "(LCityBrigade$House;)Z" } : Jvm.MethodName)) ∈ lw_tbl := lw_at lw_m6 156 rfl
theorem q1515 : (Jvm.Cond.instanceMethod ({ cls := "CityBrigade", name := "hasChief", desc := "(LCityBrigade$House;)Z" } : Jvm.MethodName)) ∈ lw_all := lw_g (lw_at lw_m6 157 rfl) rfl
theorem q1516 : (Jvm.Cond.code ({ cls := "CityBrigade", name := "hasChief", desc := "(LCityBrigade$House;)Z" } : Jvm.MethodName) prog_1_method_98_code (3 : Nat) (Option.some Jvm.ClassFile.FieldType.boolean)) ∈ lw_all := lw_g (lw_at lw_m6 158 rfl) rfl
theorem q1517 : (Jvm.Cond.interfaceEntry "CityBrigade" (706 : Nat)) ∈ lw_tbl := lw_at lw_m6 159 rfl
theorem q1518 : (Jvm.Cond.methodLink "CityBrigade" (706 : Nat) ({ cls := "CityBrigade$Gives", name := "asks", desc := "(I)I" } : Jvm.MethodName)) ∈ lw_all := lw_g (lw_at lw_m6 160 rfl) rfl
theorem q1532 : (Jvm.Cond.methodLink "CityBrigade" (708 : Nat) ({ cls := "CityBrigade", name := "leaves", desc := "(LCityBrigade$Crew;LCityBrigade$House;I)Z" } : Jvm.MethodName)) ∈ lw_all := lw_g (lw_at lw_m6 174 rfl) rfl
theorem q1533 : (Jvm.Cond.privateMethod ({ cls := "CityBrigade", name := "leaves", desc := "(LCityBrigade$Crew;LCityBrigade$House;I)Z" } : Jvm.MethodName)) ∈ lw_tbl := lw_at lw_m6 175 rfl
theorem q1534 : (Jvm.Cond.instanceMethod ({ cls := "CityBrigade", name := "leaves", desc := "(LCityBrigade$Crew;LCityBrigade$House;I)Z" } : Jvm.MethodName)) ∈ lw_all := lw_g (lw_at lw_m6 176 rfl) rfl
theorem q1535 : (Jvm.Cond.code ({ cls := "CityBrigade", name := "leaves", desc := "(LCityBrigade$Crew;LCityBrigade$House;I)Z" } : Jvm.MethodName) prog_1_method_101_code (5 : Nat) (Option.some Jvm.ClassFile.FieldType.boolean)) ∈ lw_all := lw_g (lw_at lw_m6 177 rfl) rfl
theorem q1536 : (Jvm.Cond.methodLink "CityBrigade" (349 : Nat) ({ cls := "CityBrigade$House", name := "bears", desc := "()I" } : Jvm.MethodName)) ∈ lw_all := lw_g (lw_at lw_m6 178 rfl) rfl
theorem q1540 : (Jvm.Cond.methodLink "CityBrigade" (725 : Nat) ({ cls := "CityBrigade", name := "share", desc := "()V" } : Jvm.MethodName)) ∈ lw_all := lw_g (lw_at lw_m6 182 rfl) rfl
theorem q1541 : (Jvm.Cond.privateMethod ({ cls := "CityBrigade", name := "share", desc := "()V" } : Jvm.MethodName)) ∈ lw_tbl := lw_at lw_m6 183 rfl
theorem q1542 : (Jvm.Cond.instanceMethod ({ cls := "CityBrigade", name := "share", desc := "()V" } : Jvm.MethodName)) ∈ lw_all := lw_g (lw_at lw_m6 184 rfl) rfl
theorem q1543 : (Jvm.Cond.code ({ cls := "CityBrigade", name := "share", desc := "()V" } : Jvm.MethodName) prog_1_method_103_code (4 : Nat) (Option.none : Option Jvm.ClassFile.FieldType)) ∈ lw_all := lw_g (lw_at lw_m6 185 rfl) rfl
theorem q1544 : (Jvm.Cond.methodLink "CityBrigade" (728 : Nat) ({ cls := "CityBrigade", name := "change", desc := "(Z)V" } : Jvm.MethodName)) ∈ lw_all := lw_g (lw_at lw_m6 186 rfl) rfl
theorem q1545 : (Jvm.Cond.privateMethod ({ cls := "CityBrigade", name := "change", desc := "(Z)V" } : Jvm.MethodName)) ∈ lw_tbl := lw_at lw_m6 187 rfl
theorem q1546 : (Jvm.Cond.instanceMethod ({ cls := "CityBrigade", name := "change", desc := "(Z)V" } : Jvm.MethodName)) ∈ lw_all := lw_g (lw_at lw_m6 188 rfl) rfl
theorem q1547 : (Jvm.Cond.code ({ cls := "CityBrigade", name := "change", desc := "(Z)V" } : Jvm.MethodName) prog_1_method_33_code (8 : Nat) (Option.none : Option Jvm.ClassFile.FieldType)) ∈ lw_all := lw_g (lw_at lw_m6 189 rfl) rfl
theorem q1548 : (Jvm.Cond.methodLink "CityBrigade" (318 : Nat) ({ cls := "CityBrigade", name := "blazeOf", desc := "(LCityBrigade$House;Z)LCityBrigade$Blaze;" } : Jvm.MethodName)) ∈ lw_all := lw_g (lw_at lw_m6 190 rfl) rfl
theorem q1549 : (Jvm.Cond.privateMethod ({ cls := "CityBrigade", name := "blazeOf", desc := "(LCityBrigade$House;Z)LCityBrigade$Blaze;" } : Jvm.MethodName)) ∈ lw_tbl := lw_at lw_m6 191 rfl
theorem q1550 : (Jvm.Cond.instanceMethod ({ cls := "CityBrigade", name := "blazeOf", desc := "(LCityBrigade$House;Z)LCityBrigade$Blaze;" } : Jvm.MethodName)) ∈ lw_all := lw_g (lw_at lw_m6 192 rfl) rfl
theorem q1551 : (Jvm.Cond.code ({ cls := "CityBrigade", name := "blazeOf", desc := "(LCityBrigade$House;Z)LCityBrigade$Blaze;" } : Jvm.MethodName) prog_1_method_30_code (3 : Nat) (Option.some (Jvm.ClassFile.FieldType.object "CityBrigade$Blaze"))) ∈ lw_all := lw_g (lw_at lw_m6 193 rfl) rfl
theorem q1552 : (Jvm.Cond.methodLink "CityBrigade" (338 : Nat) ({ cls := "CityBrigade", name := "gainOf", desc := "(IIZ)I" } : Jvm.MethodName)) ∈ lw_all := lw_g (lw_at lw_m6 194 rfl) rfl
theorem q1553 : (Jvm.Cond.privateMethod ({ cls := "CityBrigade", name := "gainOf", desc := "(IIZ)I" } : Jvm.MethodName)) ∈ lw_tbl := lw_at lw_m6 195 rfl
theorem q1554 : (Jvm.Cond.instanceMethod ({ cls := "CityBrigade", name := "gainOf", desc := "(IIZ)I" } : Jvm.MethodName)) ∈ lw_all := lw_g (lw_at lw_m6 196 rfl) rfl
theorem q1555 : (Jvm.Cond.code ({ cls := "CityBrigade", name := "gainOf", desc := "(IIZ)I" } : Jvm.MethodName) prog_1_method_32_code (10 : Nat) (Option.some Jvm.ClassFile.FieldType.int)) ∈ lw_all := lw_g (lw_at lw_m6 197 rfl) rfl
theorem q1556 : (Jvm.Cond.methodLink "CityBrigade" (311 : Nat) ({ cls := "CityBrigade", name := "beside", desc := "(II)LCityBrigade$House;" } : Jvm.MethodName)) ∈ lw_all := lw_g (lw_at lw_m6 198 rfl) rfl
theorem q1557 : (Jvm.Cond.privateMethod ({ cls := "CityBrigade", name := "beside", desc := "(II)LCityBrigade$House;" } : Jvm.MethodName)) ∈ lw_tbl := lw_at lw_m6 199 rfl
theorem q1558 : (Jvm.Cond.instanceMethod ({ cls := "CityBrigade", name := "beside", desc := "(II)LCityBrigade$House;" } : Jvm.MethodName)) ∈ lw_all := lw_g (lw_at lw_m6 200 rfl) rfl
theorem q1559 : (Jvm.Cond.code ({ cls := "CityBrigade", name := "beside", desc := "(II)LCityBrigade$House;" } : Jvm.MethodName) prog_1_method_28_code (4 : Nat) (Option.some (Jvm.ClassFile.FieldType.object "CityBrigade$House"))) ∈ lw_all := lw_g (lw_at lw_m6 201 rfl) rfl
theorem q1560 : (Jvm.Cond.methodLink "CityBrigade" (328 : Nat) ({ cls := "CityBrigade", name := "gainBy", desc := "(LCityBrigade$House;LCityBrigade$House;IZ)I" } : Jvm.MethodName)) ∈ lw_all := lw_g (lw_at lw_m6 202 rfl) rfl
theorem q1561 : (Jvm.Cond.privateMethod ({ cls := "CityBrigade", name := "gainBy", desc := "(LCityBrigade$House;LCityBrigade$House;IZ)I" } : Jvm.MethodName)) ∈ lw_tbl := lw_at lw_m6 203 rfl
theorem q1562 : (Jvm.Cond.instanceMethod ({ cls := "CityBrigade", name := "gainBy", desc := "(LCityBrigade$House;LCityBrigade$House;IZ)I" } : Jvm.MethodName)) ∈ lw_all := lw_g (lw_at lw_m6 204 rfl) rfl
theorem q1563 : (Jvm.Cond.code ({ cls := "CityBrigade", name := "gainBy", desc := "(LCityBrigade$House;LCityBrigade$House;IZ)I" } : Jvm.MethodName) prog_1_method_31_code (7 : Nat) (Option.some Jvm.ClassFile.FieldType.int)) ∈ lw_all := lw_g (lw_at lw_m6 205 rfl) rfl
theorem q1564 : (Jvm.Cond.methodLink "CityBrigade" (345 : Nat) ({ cls := "CityBrigade", name := "fall", desc := "(LCityBrigade$House;LCityBrigade$Blaze;Z)V" } : Jvm.MethodName)) ∈ lw_all := lw_g (lw_at lw_m6 206 rfl) rfl
theorem q1565 : (Jvm.Cond.privateMethod ({ cls := "CityBrigade", name := "fall", desc := "(LCityBrigade$House;LCityBrigade$Blaze;Z)V" } : Jvm.MethodName)) ∈ lw_tbl := lw_at lw_m6 207 rfl
theorem q1566 : (Jvm.Cond.instanceMethod ({ cls := "CityBrigade", name := "fall", desc := "(LCityBrigade$House;LCityBrigade$Blaze;Z)V" } : Jvm.MethodName)) ∈ lw_all := lw_g (lw_at lw_m6 208 rfl) rfl
theorem q1567 : (Jvm.Cond.code ({ cls := "CityBrigade", name := "fall", desc := "(LCityBrigade$House;LCityBrigade$Blaze;Z)V" } : Jvm.MethodName) prog_1_method_34_code (8 : Nat) (Option.none : Option Jvm.ClassFile.FieldType)) ∈ lw_all := lw_g (lw_at lw_m6 209 rfl) rfl
theorem q1568 : (Jvm.Cond.methodLink "CityBrigade" (352 : Nat) ({ cls := "CityBrigade", name := "hurt", desc := "(LCityBrigade$House;I)V" } : Jvm.MethodName)) ∈ lw_all := lw_g (lw_at lw_m6 210 rfl) rfl
theorem q1569 : (Jvm.Cond.privateMethod ({ cls := "CityBrigade", name := "hurt", desc := "(LCityBrigade$House;I)V" } : Jvm.MethodName)) ∈ lw_tbl := lw_at lw_m6 211 rfl
theorem q1570 : (Jvm.Cond.instanceMethod ({ cls := "CityBrigade", name := "hurt", desc := "(LCityBrigade$House;I)V" } : Jvm.MethodName)) ∈ lw_all := lw_g (lw_at lw_m6 212 rfl) rfl
theorem q1571 : (Jvm.Cond.code ({ cls := "CityBrigade", name := "hurt", desc := "(LCityBrigade$House;I)V" } : Jvm.MethodName) prog_1_method_50_code (5 : Nat) (Option.none : Option Jvm.ClassFile.FieldType)) ∈ lw_all := lw_g (lw_at lw_m6 213 rfl) rfl
theorem q1572 : (Jvm.Cond.methodLink "CityBrigade" (731 : Nat) ({ cls := "CityBrigade", name := "smother", desc := "()V" } : Jvm.MethodName)) ∈ lw_all := lw_g (lw_at lw_m6 214 rfl) rfl
theorem q1573 : (Jvm.Cond.privateMethod ({ cls := "CityBrigade", name := "smother", desc := "()V" } : Jvm.MethodName)) ∈ lw_tbl := lw_at lw_m6 215 rfl
theorem q1574 : (Jvm.Cond.instanceMethod ({ cls := "CityBrigade", name := "smother", desc := "()V" } : Jvm.MethodName)) ∈ lw_all := lw_g (lw_at lw_m6 216 rfl) rfl
theorem q1575 : (Jvm.Cond.code ({ cls := "CityBrigade", name := "smother", desc := "()V" } : Jvm.MethodName) prog_1_method_35_code (5 : Nat) (Option.none : Option Jvm.ClassFile.FieldType)) ∈ lw_all := lw_g (lw_at lw_m6 217 rfl) rfl
theorem q1576 : (Jvm.Cond.methodLink "CityBrigade" (734 : Nat) ({ cls := "CityBrigade", name := "finish", desc := "()V" } : Jvm.MethodName)) ∈ lw_all := lw_g (lw_at lw_m6 218 rfl) rfl
theorem q1577 : (Jvm.Cond.privateMethod ({ cls := "CityBrigade", name := "finish", desc := "()V" } : Jvm.MethodName)) ∈ lw_tbl := lw_at lw_m6 219 rfl
theorem q1578 : (Jvm.Cond.instanceMethod ({ cls := "CityBrigade", name := "finish", desc := "()V" } : Jvm.MethodName)) ∈ lw_all := lw_g (lw_at lw_m6 220 rfl) rfl
theorem q1579 : (Jvm.Cond.code ({ cls := "CityBrigade", name := "finish", desc := "()V" } : Jvm.MethodName) prog_1_method_106_code (2 : Nat) (Option.none : Option Jvm.ClassFile.FieldType)) ∈ lw_all := lw_g (lw_at lw_m6 221 rfl) rfl
theorem q1580 : (Jvm.Cond.methodLink "CityBrigade" (740 : Nat) ({ cls := "CityBrigade", name := "isWorked", desc := "(I)Z" } : Jvm.MethodName)) ∈ lw_all := lw_g (lw_at lw_m6 222 rfl) rfl
theorem q1581 : (Jvm.Cond.privateMethod ({ cls := "CityBrigade", name := "isWorked", desc := "(I)Z" } : Jvm.MethodName)) ∈ lw_tbl := lw_at lw_m6 223 rfl
theorem q1582 : (Jvm.Cond.instanceMethod ({ cls := "CityBrigade", name := "isWorked", desc := "(I)Z" } : Jvm.MethodName)) ∈ lw_all := lw_g (lw_at lw_m6 224 rfl) rfl
theorem q1583 : (Jvm.Cond.code ({ cls := "CityBrigade", name := "isWorked", desc := "(I)Z" } : Jvm.MethodName) prog_1_method_105_code (3 : Nat) (Option.some Jvm.ClassFile.FieldType.boolean)) ∈ lw_all := lw_g (lw_at lw_m6 225 rfl) rfl
theorem q1584 : (Jvm.Cond.methodLink "CityBrigade" (737 : Nat) ({ cls := "CityBrigade$Crew", name := "tire", desc := "()V" } : Jvm.MethodName)) ∈ lw_all := lw_g (lw_at lw_m6 226 rfl) rfl
theorem q1603 : (Jvm.Cond.instanceMethod ({ cls := "CityBrigade", name := "act", desc := "(I)I" } : Jvm.MethodName)) ∈ lw_all := lw_g (lw_at lw_m7 5 rfl) rfl
theorem q1604 : (Jvm.Cond.selects "CityBrigade" ({ cls := "CityBrigade", name := "act", desc := "(I)I" } : Jvm.MethodName) ({ cls := "CityBrigade", name := "act", desc := "(I)I" } : Jvm.MethodName)) ∈ lw_all := lw_g (lw_at lw_m7 6 rfl) rfl
theorem q1605 : (Jvm.Cond.codeWith ({ cls := "CityBrigade", name := "act", desc := "(I)I" } : Jvm.MethodName) prog_1_method_108_code (3 : Nat) (Option.some Jvm.ClassFile.FieldType.int) [((22 : Nat), (36 : Nat), (39 : Nat), (55 : Nat))]) ∈ lw_all := lw_g (lw_at lw_m7 7 rfl) rfl
theorem q1607 : (Jvm.Cond.instanceMethod ({ cls := "CityBrigade", name := "force", desc := "(II)I" } : Jvm.MethodName)) ∈ lw_all := lw_g (lw_at lw_m7 9 rfl) rfl
theorem q1608 : (Jvm.Cond.selects "CityBrigade" ({ cls := "CityBrigade", name := "force", desc := "(II)I" } : Jvm.MethodName) ({ cls := "CityBrigade", name := "force", desc := "(II)I" } : Jvm.MethodName)) ∈ lw_all := lw_g (lw_at lw_m7 10 rfl) rfl
theorem q1609 : (Jvm.Cond.code ({ cls := "CityBrigade", name := "force", desc := "(II)I" } : Jvm.MethodName) prog_1_method_111_code (3 : Nat) (Option.some Jvm.ClassFile.FieldType.int)) ∈ lw_all := lw_g (lw_at lw_m7 11 rfl) rfl
theorem q1610 : (Jvm.Cond.methodLink "CityBrigade" (749 : Nat) ({ cls := "CityBrigade", name := "isAsked", desc := "(II)Z" } : Jvm.MethodName)) ∈ lw_all := lw_g (lw_at lw_m7 12 rfl) rfl
theorem q1611 : (Jvm.Cond.privateMethod ({ cls := "CityBrigade", name := "isAsked", desc := "(II)Z" } : Jvm.MethodName)) ∈ lw_tbl := lw_at lw_m7 13 rfl
theorem q1612 : (Jvm.Cond.instanceMethod ({ cls := "CityBrigade", name := "isAsked", desc := "(II)Z" } : Jvm.MethodName)) ∈ lw_all := lw_g (lw_at lw_m7 14 rfl) rfl
theorem q1613 : (Jvm.Cond.code ({ cls := "CityBrigade", name := "isAsked", desc := "(II)Z" } : Jvm.MethodName) prog_1_method_110_code (3 : Nat) (Option.some Jvm.ClassFile.FieldType.boolean)) ∈ lw_all := lw_g (lw_at lw_m7 15 rfl) rfl
theorem q1614 : (Jvm.Cond.methodLink "CityBrigade" (752 : Nat) ({ cls := "CityBrigade", name := "forceOf", desc := "(LCityBrigade$House;I)I" } : Jvm.MethodName)) ∈ lw_all := lw_g (lw_at lw_m7 16 rfl) rfl
theorem q1615 : (Jvm.Cond.privateMethod ({ cls := "CityBrigade", name := "forceOf", desc := "(LCityBrigade$House;I)I" } : Jvm.MethodName)) ∈ lw_tbl := lw_at lw_m7 17 rfl
theorem q1616 : (Jvm.Cond.instanceMethod ({ cls := "CityBrigade", name := "forceOf", desc := "(LCityBrigade$House;I)I" } : Jvm.MethodName)) ∈ lw_all := lw_g (lw_at lw_m7 18 rfl) rfl
theorem q1617 : (Jvm.Cond.code ({ cls := "CityBrigade", name := "forceOf", desc := "(LCityBrigade$House;I)I" } : Jvm.MethodName) prog_1_method_109_code (5 : Nat) (Option.some Jvm.ClassFile.FieldType.int)) ∈ lw_all := lw_g (lw_at lw_m7 19 rfl) rfl
theorem q1619 : (Jvm.Cond.instanceMethod ({ cls := "CityBrigade", name := "change", desc := "(III)Z" } : Jvm.MethodName)) ∈ lw_all := lw_g (lw_at lw_m7 21 rfl) rfl
theorem q1620 : (Jvm.Cond.selects "CityBrigade" ({ cls := "CityBrigade", name := "change", desc := "(III)Z" } : Jvm.MethodName) ({ cls := "CityBrigade", name := "change", desc := "(III)Z" } : Jvm.MethodName)) ∈ lw_all := lw_g (lw_at lw_m7 22 rfl) rfl
theorem q1621 : (Jvm.Cond.code ({ cls := "CityBrigade", name := "change", desc := "(III)Z" } : Jvm.MethodName) prog_1_method_114_code (4 : Nat) (Option.some Jvm.ClassFile.FieldType.boolean)) ∈ lw_all := lw_g (lw_at lw_m7 23 rfl) rfl
theorem q1622 : (Jvm.Cond.methodLink "CityBrigade" (758 : Nat) ({ cls := "CityBrigade", name := "note", desc := "(III)Z" } : Jvm.MethodName)) ∈ lw_all := lw_g (lw_at lw_m7 24 rfl) rfl
theorem q1623 : (Jvm.Cond.privateMethod ({ cls := "CityBrigade", name := "note", desc := "(III)Z" } : Jvm.MethodName)) ∈ lw_tbl := lw_at lw_m7 25 rfl
theorem q1624 : (Jvm.Cond.instanceMethod ({ cls := "CityBrigade", name := "note", desc := "(III)Z" } : Jvm.MethodName)) ∈ lw_all := lw_g (lw_at lw_m7 26 rfl) rfl
theorem q1625 : (Jvm.Cond.code ({ cls := "CityBrigade", name := "note", desc := "(III)Z" } : Jvm.MethodName) prog_1_method_112_code (4 : Nat) (Option.some Jvm.ClassFile.FieldType.boolean)) ∈ lw_all := lw_g (lw_at lw_m7 27 rfl) rfl
theorem q1627 : (Jvm.Cond.instanceMethod ({ cls := "CityBrigade", name := "look", desc := "(I)Z" } : Jvm.MethodName)) ∈ lw_all := lw_g (lw_at lw_m7 29 rfl) rfl
theorem q1628 : (Jvm.Cond.selects "CityBrigade" ({ cls := "CityBrigade", name := "look", desc := "(I)Z" } : Jvm.MethodName) ({ cls := "CityBrigade", name := "look", desc := "(I)Z" } : Jvm.MethodName)) ∈ lw_all := lw_g (lw_at lw_m7 30 rfl) rfl
theorem q1629 : (Jvm.Cond.code ({ cls := "CityBrigade", name := "look", desc := "(I)Z" } : Jvm.MethodName) prog_1_method_115_code (2 : Nat) (Option.some Jvm.ClassFile.FieldType.boolean)) ∈ lw_all := lw_g (lw_at lw_m7 31 rfl) rfl
theorem q1631 : (Jvm.Cond.instanceMethod ({ cls := "CityBrigade", name := "used", desc := "(II)I" } : Jvm.MethodName)) ∈ lw_all := lw_g (lw_at lw_m7 33 rfl) rfl
theorem q1632 : (Jvm.Cond.selects "CityBrigade" ({ cls := "CityBrigade", name := "used", desc := "(II)I" } : Jvm.MethodName) ({ cls := "CityBrigade", name := "used", desc := "(II)I" } : Jvm.MethodName)) ∈ lw_all := lw_g (lw_at lw_m7 34 rfl) rfl
theorem q1633 : (Jvm.Cond.code ({ cls := "CityBrigade", name := "used", desc := "(II)I" } : Jvm.MethodName) prog_1_method_117_code (3 : Nat) (Option.some Jvm.ClassFile.FieldType.int)) ∈ lw_all := lw_g (lw_at lw_m7 35 rfl) rfl
theorem q1634 : (Jvm.Cond.methodLink "CityBrigade" (761 : Nat) ({ cls := "CityBrigade", name := "usedAt", desc := "(II)I" } : Jvm.MethodName)) ∈ lw_all := lw_g (lw_at lw_m7 36 rfl) rfl
theorem q1635 : (Jvm.Cond.privateMethod ({ cls := "CityBrigade", name := "usedAt", desc := "(II)I" } : Jvm.MethodName)) ∈ lw_tbl := lw_at lw_m7 37 rfl
theorem q1636 : (Jvm.Cond.instanceMethod ({ cls := "CityBrigade", name := "usedAt", desc := "(II)I" } : Jvm.MethodName)) ∈ lw_all := lw_g (lw_at lw_m7 38 rfl) rfl
theorem q1637 : (Jvm.Cond.code ({ cls := "CityBrigade", name := "usedAt", desc := "(II)I" } : Jvm.MethodName) prog_1_method_116_code (5 : Nat) (Option.some Jvm.ClassFile.FieldType.int)) ∈ lw_all := lw_g (lw_at lw_m7 39 rfl) rfl
theorem q1639 : (Jvm.Cond.instanceMethod ({ cls := "CityBrigade", name := "fails", desc := "(II)I" } : Jvm.MethodName)) ∈ lw_all := lw_g (lw_at lw_m7 41 rfl) rfl
theorem q1640 : (Jvm.Cond.selects "CityBrigade" ({ cls := "CityBrigade", name := "fails", desc := "(II)I" } : Jvm.MethodName) ({ cls := "CityBrigade", name := "fails", desc := "(II)I" } : Jvm.MethodName)) ∈ lw_all := lw_g (lw_at lw_m7 42 rfl) rfl
theorem q1641 : (Jvm.Cond.code ({ cls := "CityBrigade", name := "fails", desc := "(II)I" } : Jvm.MethodName) prog_1_method_121_code (3 : Nat) (Option.some Jvm.ClassFile.FieldType.int)) ∈ lw_all := lw_g (lw_at lw_m7 43 rfl) rfl
theorem q1642 : (Jvm.Cond.methodLink "CityBrigade" (777 : Nat) ({ cls := "CityBrigade", name := "failsBy", desc := "(III)I" } : Jvm.MethodName)) ∈ lw_all := lw_g (lw_at lw_m7 44 rfl) rfl
theorem q1643 : (Jvm.Cond.privateMethod ({ cls := "CityBrigade", name := "failsBy", desc := "(III)I" } : Jvm.MethodName)) ∈ lw_tbl := lw_at lw_m7 45 rfl
theorem q1644 : (Jvm.Cond.instanceMethod ({ cls := "CityBrigade", name := "failsBy", desc := "(III)I" } : Jvm.MethodName)) ∈ lw_all := lw_g (lw_at lw_m7 46 rfl) rfl
theorem q1645 : (Jvm.Cond.code ({ cls := "CityBrigade", name := "failsBy", desc := "(III)I" } : Jvm.MethodName) prog_1_method_120_code (7 : Nat) (Option.some Jvm.ClassFile.FieldType.int)) ∈ lw_all := lw_g (lw_at lw_m7 47 rfl) rfl
theorem q1646 : (Jvm.Cond.methodLink "CityBrigade" (771 : Nat) ({ cls := "CityBrigade", name := "regard", desc := "(II)V" } : Jvm.MethodName)) ∈ lw_all := lw_g (lw_at lw_m7 48 rfl) rfl
theorem q1647 : (Jvm.Cond.privateMethod ({ cls := "CityBrigade", name := "regard", desc := "(II)V" } : Jvm.MethodName)) ∈ lw_tbl := lw_at lw_m7 49 rfl
theorem q1648 : (Jvm.Cond.instanceMethod ({ cls := "CityBrigade", name := "regard", desc := "(II)V" } : Jvm.MethodName)) ∈ lw_all := lw_g (lw_at lw_m7 50 rfl) rfl
theorem q1649 : (Jvm.Cond.code ({ cls := "CityBrigade", name := "regard", desc := "(II)V" } : Jvm.MethodName) prog_1_method_119_code (6 : Nat) (Option.none : Option Jvm.ClassFile.FieldType)) ∈ lw_all := lw_g (lw_at lw_m7 51 rfl) rfl
theorem q1650 : (Jvm.Cond.methodLink "CityBrigade" (765 : Nat) ({ cls := "CityBrigade", name := "besides", desc := "(I)I" } : Jvm.MethodName)) ∈ lw_all := lw_g (lw_at lw_m7 52 rfl) rfl
theorem q1651 : (Jvm.Cond.privateMethod ({ cls := "CityBrigade", name := "besides", desc := "(I)I" } : Jvm.MethodName)) ∈ lw_tbl := lw_at lw_m7 53 rfl
theorem q1652 : (Jvm.Cond.instanceMethod ({ cls := "CityBrigade", name := "besides", desc := "(I)I" } : Jvm.MethodName)) ∈ lw_all := lw_g (lw_at lw_m7 54 rfl) rfl
theorem q1653 : (Jvm.Cond.code ({ cls := "CityBrigade", name := "besides", desc := "(I)I" } : Jvm.MethodName) prog_1_method_29_code (2 : Nat) (Option.some Jvm.ClassFile.FieldType.int)) ∈ lw_all := lw_g (lw_at lw_m7 55 rfl) rfl
theorem q1654 : (Jvm.Cond.methodLink "CityBrigade" (768 : Nat) ({ cls := "CityBrigade", name := "unlooked", desc := "(II)I" } : Jvm.MethodName)) ∈ lw_all := lw_g (lw_at lw_m7 56 rfl) rfl
theorem q1655 : (Jvm.Cond.privateMethod ({ cls := "CityBrigade", name := "unlooked", desc := "(II)I" } : Jvm.MethodName)) ∈ lw_tbl := lw_at lw_m7 57 rfl
theorem q1656 : (Jvm.Cond.instanceMethod ({ cls := "CityBrigade", name := "unlooked", desc := "(II)I" } : Jvm.MethodName)) ∈ lw_all := lw_g (lw_at lw_m7 58 rfl) rfl
theorem q1657 : (Jvm.Cond.code ({ cls := "CityBrigade", name := "unlooked", desc := "(II)I" } : Jvm.MethodName) prog_1_method_118_code (5 : Nat) (Option.some Jvm.ClassFile.FieldType.int)) ∈ lw_all := lw_g (lw_at lw_m7 59 rfl) rfl
theorem q1659 : (Jvm.Cond.instanceMethod ({ cls := "CityBrigade", name := "code", desc := "(III)I" } : Jvm.MethodName)) ∈ lw_all := lw_g (lw_at lw_m7 61 rfl) rfl
theorem q1660 : (Jvm.Cond.selects "CityBrigade" ({ cls := "CityBrigade", name := "code", desc := "(III)I" } : Jvm.MethodName) ({ cls := "CityBrigade", name := "code", desc := "(III)I" } : Jvm.MethodName)) ∈ lw_all := lw_g (lw_at lw_m7 62 rfl) rfl
theorem q1661 : (Jvm.Cond.code ({ cls := "CityBrigade", name := "code", desc := "(III)I" } : Jvm.MethodName) prog_1_method_122_code (4 : Nat) (Option.some Jvm.ClassFile.FieldType.int)) ∈ lw_all := lw_g (lw_at lw_m7 63 rfl) rfl
theorem q1663 : (Jvm.Cond.instanceMethod ({ cls := "CityBrigade", name := "failing", desc := "()I" } : Jvm.MethodName)) ∈ lw_all := lw_g (lw_at lw_m7 65 rfl) rfl
theorem q1664 : (Jvm.Cond.selects "CityBrigade" ({ cls := "CityBrigade", name := "failing", desc := "()I" } : Jvm.MethodName) ({ cls := "CityBrigade", name := "failing", desc := "()I" } : Jvm.MethodName)) ∈ lw_all := lw_g (lw_at lw_m7 66 rfl) rfl
theorem q1665 : (Jvm.Cond.code ({ cls := "CityBrigade", name := "failing", desc := "()I" } : Jvm.MethodName) prog_1_method_123_code (3 : Nat) (Option.some Jvm.ClassFile.FieldType.int)) ∈ lw_all := lw_g (lw_at lw_m7 67 rfl) rfl
theorem q1667 : (Jvm.Cond.instanceMethod ({ cls := "CityBrigade", name := "round", desc := "(III)I" } : Jvm.MethodName)) ∈ lw_all := lw_g (lw_at lw_m7 69 rfl) rfl
theorem q1668 : (Jvm.Cond.selects "CityBrigade" ({ cls := "CityBrigade", name := "round", desc := "(III)I" } : Jvm.MethodName) ({ cls := "CityBrigade", name := "round", desc := "(III)I" } : Jvm.MethodName)) ∈ lw_all := lw_g (lw_at lw_m7 70 rfl) rfl
theorem q1669 : (Jvm.Cond.code ({ cls := "CityBrigade", name := "round", desc := "(III)I" } : Jvm.MethodName) prog_1_method_127_code (4 : Nat) (Option.some Jvm.ClassFile.FieldType.int)) ∈ lw_all := lw_g (lw_at lw_m7 71 rfl) rfl
theorem q1670 : (Jvm.Cond.methodLink "CityBrigade" (808 : Nat) ({ cls := "CityBrigade", name := "findRound", desc := "(II)Z" } : Jvm.MethodName)) ∈ lw_all := lw_g (lw_at lw_m7 72 rfl) rfl
theorem q1671 : (Jvm.Cond.privateMethod ({ cls := "CityBrigade", name := "findRound", desc := "(II)Z" } : Jvm.MethodName)) ∈ lw_tbl := lw_at lw_m7 73 rfl
theorem q1672 : (Jvm.Cond.instanceMethod ({ cls := "CityBrigade", name := "findRound", desc := "(II)Z" } : Jvm.MethodName)) ∈ lw_all := lw_g (lw_at lw_m7 74 rfl) rfl
theorem q1673 : (Jvm.Cond.code ({ cls := "CityBrigade", name := "findRound", desc := "(II)Z" } : Jvm.MethodName) prog_1_method_126_code (3 : Nat) (Option.some Jvm.ClassFile.FieldType.boolean)) ∈ lw_all := lw_g (lw_at lw_m7 75 rfl) rfl
theorem q1674 : (Jvm.Cond.methodLink "CityBrigade" (805 : Nat) ({ cls := "CityBrigade", name := "plot", desc := "(I)V" } : Jvm.MethodName)) ∈ lw_all := lw_g (lw_at lw_m7 76 rfl) rfl
theorem q1675 : (Jvm.Cond.privateMethod ({ cls := "CityBrigade", name := "plot", desc := "(I)V" } : Jvm.MethodName)) ∈ lw_tbl := lw_at lw_m7 77 rfl
theorem q1676 : (Jvm.Cond.instanceMethod ({ cls := "CityBrigade", name := "plot", desc := "(I)V" } : Jvm.MethodName)) ∈ lw_all := lw_g (lw_at lw_m7 78 rfl) rfl
theorem q1677 : (Jvm.Cond.code ({ cls := "CityBrigade", name := "plot", desc := "(I)V" } : Jvm.MethodName) prog_1_method_124_code (4 : Nat) (Option.none : Option Jvm.ClassFile.FieldType)) ∈ lw_all := lw_g (lw_at lw_m7 79 rfl) rfl
theorem q1678 : (Jvm.Cond.methodLink "CityBrigade" (802 : Nat) ({ cls := "CityBrigade", name := "go", desc := "(IIIII)V" } : Jvm.MethodName)) ∈ lw_all := lw_g (lw_at lw_m7 80 rfl) rfl
theorem q1679 : (Jvm.Cond.privateMethod ({ cls := "CityBrigade", name := "go", desc := "(IIIII)V" } : Jvm.MethodName)) ∈ lw_tbl := lw_at lw_m7 81 rfl
theorem q1680 : (Jvm.Cond.instanceMethod ({ cls := "CityBrigade", name := "go", desc := "(IIIII)V" } : Jvm.MethodName)) ∈ lw_all := lw_g (lw_at lw_m7 82 rfl) rfl
theorem q1681 : (Jvm.Cond.code ({ cls := "CityBrigade", name := "go", desc := "(IIIII)V" } : Jvm.MethodName) prog_1_method_125_code (9 : Nat) (Option.none : Option Jvm.ClassFile.FieldType)) ∈ lw_all := lw_g (lw_at lw_m7 83 rfl) rfl
theorem q1682 : (Jvm.Cond.methodLink "CityBrigade" (796 : Nat) ({ cls := "java/lang/System", name := "arraycopy", desc := "(Ljava/lang/Object;ILjava/lang/Object;II)V" } : Jvm.MethodName)) ∈ lw_all := lw_g (lw_at lw_m7 84 rfl) rfl
theorem q1686 : (Jvm.Cond.instanceMethod ({ cls := "CityBrigade", name := "rounded", desc := "(III)I" } : Jvm.MethodName)) ∈ lw_all := lw_g (lw_at lw_m7 88 rfl) rfl
theorem q1687 : (Jvm.Cond.selects "CityBrigade" ({ cls := "CityBrigade", name := "rounded", desc := "(III)I" } : Jvm.MethodName) ({ cls := "CityBrigade", name := "rounded", desc := "(III)I" } : Jvm.MethodName)) ∈ lw_all := lw_g (lw_at lw_m7 89 rfl) rfl
theorem q1688 : (Jvm.Cond.code ({ cls := "CityBrigade", name := "rounded", desc := "(III)I" } : Jvm.MethodName) prog_1_method_128_code (4 : Nat) (Option.some Jvm.ClassFile.FieldType.int)) ∈ lw_all := lw_g (lw_at lw_m7 90 rfl) rfl
theorem q1690 : (Jvm.Cond.instanceMethod ({ cls := "CityBrigade", name := "plan", desc := "(II)I" } : Jvm.MethodName)) ∈ lw_all := lw_g (lw_at lw_m7 92 rfl) rfl
theorem q1691 : (Jvm.Cond.selects "CityBrigade" ({ cls := "CityBrigade", name := "plan", desc := "(II)I" } : Jvm.MethodName) ({ cls := "CityBrigade", name := "plan", desc := "(II)I" } : Jvm.MethodName)) ∈ lw_all := lw_g (lw_at lw_m7 93 rfl) rfl
theorem q1692 : (Jvm.Cond.code ({ cls := "CityBrigade", name := "plan", desc := "(II)I" } : Jvm.MethodName) prog_1_method_133_code (3 : Nat) (Option.some Jvm.ClassFile.FieldType.int)) ∈ lw_all := lw_g (lw_at lw_m7 94 rfl) rfl
theorem q1693 : (Jvm.Cond.methodLink "CityBrigade" (823 : Nat) ({ cls := "CityBrigade", name := "findPlan", desc := "(II)Z" } : Jvm.MethodName)) ∈ lw_all := lw_g (lw_at lw_m7 95 rfl) rfl
theorem q1694 : (Jvm.Cond.privateMethod ({ cls := "CityBrigade", name := "findPlan", desc := "(II)Z" } : Jvm.MethodName)) ∈ lw_tbl := lw_at lw_m7 96 rfl
theorem q1695 : (Jvm.Cond.instanceMethod ({ cls := "CityBrigade", name := "findPlan", desc := "(II)Z" } : Jvm.MethodName)) ∈ lw_all := lw_g (lw_at lw_m7 97 rfl) rfl
theorem q1696 : (Jvm.Cond.code ({ cls := "CityBrigade", name := "findPlan", desc := "(II)Z" } : Jvm.MethodName) prog_1_method_132_code (3 : Nat) (Option.some Jvm.ClassFile.FieldType.boolean)) ∈ lw_all := lw_g (lw_at lw_m7 98 rfl) rfl
theorem q1697 : (Jvm.Cond.methodLink "CityBrigade" (820 : Nat) ({ cls := "CityBrigade", name := "survey", desc := "()V" } : Jvm.MethodName)) ∈ lw_all := lw_g (lw_at lw_m7 99 rfl) rfl
theorem q1698 : (Jvm.Cond.privateMethod ({ cls := "CityBrigade", name := "survey", desc := "()V" } : Jvm.MethodName)) ∈ lw_tbl := lw_at lw_m7 100 rfl
theorem q1699 : (Jvm.Cond.instanceMethod ({ cls := "CityBrigade", name := "survey", desc := "()V" } : Jvm.MethodName)) ∈ lw_all := lw_g (lw_at lw_m7 101 rfl) rfl
theorem q1700 : (Jvm.Cond.code ({ cls := "CityBrigade", name := "survey", desc := "()V" } : Jvm.MethodName) prog_1_method_129_code (2 : Nat) (Option.none : Option Jvm.ClassFile.FieldType)) ∈ lw_all := lw_g (lw_at lw_m7 102 rfl) rfl
theorem q1701 : (Jvm.Cond.methodLink "CityBrigade" (817 : Nat) ({ cls := "CityBrigade", name := "pick", desc := "(IIIII)V" } : Jvm.MethodName)) ∈ lw_all := lw_g (lw_at lw_m7 103 rfl) rfl
theorem q1702 : (Jvm.Cond.privateMethod ({ cls := "CityBrigade", name := "pick", desc := "(IIIII)V" } : Jvm.MethodName)) ∈ lw_tbl := lw_at lw_m7 104 rfl
theorem q1703 : (Jvm.Cond.instanceMethod ({ cls := "CityBrigade", name := "pick", desc := "(IIIII)V" } : Jvm.MethodName)) ∈ lw_all := lw_g (lw_at lw_m7 105 rfl) rfl
theorem q1704 : (Jvm.Cond.code ({ cls := "CityBrigade", name := "pick", desc := "(IIIII)V" } : Jvm.MethodName) prog_1_method_131_code (8 : Nat) (Option.none : Option Jvm.ClassFile.FieldType)) ∈ lw_all := lw_g (lw_at lw_m7 106 rfl) rfl
theorem q1705 : (Jvm.Cond.methodLink "CityBrigade" (811 : Nat) ({ cls := "CityBrigade", name := "points", desc := "(III)I" } : Jvm.MethodName)) ∈ lw_all := lw_g (lw_at lw_m7 107 rfl) rfl
theorem q1706 : (Jvm.Cond.privateMethod ({ cls := "CityBrigade", name := "points", desc := "(III)I" } : Jvm.MethodName)) ∈ lw_tbl := lw_at lw_m7 108 rfl
theorem q1707 : (Jvm.Cond.instanceMethod ({ cls := "CityBrigade", name := "points", desc := "(III)I" } : Jvm.MethodName)) ∈ lw_all := lw_g (lw_at lw_m7 109 rfl) rfl
theorem q1708 : (Jvm.Cond.code ({ cls := "CityBrigade", name := "points", desc := "(III)I" } : Jvm.MethodName) prog_1_method_130_code (6 : Nat) (Option.some Jvm.ClassFile.FieldType.int)) ∈ lw_all := lw_g (lw_at lw_m7 110 rfl) rfl
theorem q1710 : (Jvm.Cond.instanceMethod ({ cls := "CityBrigade", name := "planned", desc := "(III)I" } : Jvm.MethodName)) ∈ lw_all := lw_g (lw_at lw_m7 112 rfl) rfl
theorem q1711 : (Jvm.Cond.selects "CityBrigade" ({ cls := "CityBrigade", name := "planned", desc := "(III)I" } : Jvm.MethodName) ({ cls := "CityBrigade", name := "planned", desc := "(III)I" } : Jvm.MethodName)) ∈ lw_all := lw_g (lw_at lw_m7 113 rfl) rfl
theorem q1712 : (Jvm.Cond.code ({ cls := "CityBrigade", name := "planned", desc := "(III)I" } : Jvm.MethodName) prog_1_method_134_code (4 : Nat) (Option.some Jvm.ClassFile.FieldType.int)) ∈ lw_all := lw_g (lw_at lw_m7 114 rfl) rfl
theorem q1714 : (Jvm.Cond.instanceMethod ({ cls := "CityBrigade", name := "row", desc := "(I)I" } : Jvm.MethodName)) ∈ lw_all := lw_g (lw_at lw_m7 116 rfl) rfl
theorem q1715 : (Jvm.Cond.selects "CityBrigade" ({ cls := "CityBrigade", name := "row", desc := "(I)I" } : Jvm.MethodName) ({ cls := "CityBrigade", name := "row", desc := "(I)I" } : Jvm.MethodName)) ∈ lw_all := lw_g (lw_at lw_m7 117 rfl) rfl
theorem q1716 : (Jvm.Cond.code ({ cls := "CityBrigade", name := "row", desc := "(I)I" } : Jvm.MethodName) prog_1_method_136_code (2 : Nat) (Option.some Jvm.ClassFile.FieldType.int)) ∈ lw_all := lw_g (lw_at lw_m7 118 rfl) rfl
theorem q1717 : (Jvm.Cond.classLink "CityBrigade" (829 : Nat) "CityBrigade$Bytes") ∈ lw_all := lw_g (lw_at lw_m7 119 rfl) rfl
theorem q1719 : (Jvm.Cond.methodLinkNest "CityBrigade" (831 : Nat) ({ cls := "CityBrigade$Bytes", name := "<init>", desc := "()V" } : Jvm.MethodName) "CityBrigade") ∈ lw_tbl := lw_at lw_m7 121 rfl
theorem q1730 : (Jvm.Cond.classLink "CityBrigade" (832 : Nat) "CityBrigade$Shorts") ∈ lw_all := lw_g (lw_at lw_m7 132 rfl) rfl
theorem q1732 : (Jvm.Cond.methodLinkNest "CityBrigade" (834 : Nat) ({ cls := "CityBrigade$Shorts", name := "<init>", desc := "()V" } : Jvm.MethodName) "CityBrigade") ∈ lw_tbl := lw_at lw_m7 134 rfl
theorem q1741 : (Jvm.Cond.classLink "CityBrigade" (835 : Nat) "CityBrigade$Ints") ∈ lw_all := lw_g (lw_at lw_m7 143 rfl) rfl
theorem q1743 : (Jvm.Cond.methodLinkNest "CityBrigade" (837 : Nat) ({ cls := "CityBrigade$Ints", name := "<init>", desc := "()V" } : Jvm.MethodName) "CityBrigade") ∈ lw_tbl := lw_at lw_m7 145 rfl
theorem q1751 : (Jvm.Cond.classLink "CityBrigade" (838 : Nat) "CityBrigade$Floats") ∈ lw_all := lw_g (lw_at lw_m7 153 rfl) rfl
theorem q1753 : (Jvm.Cond.methodLinkNest "CityBrigade" (840 : Nat) ({ cls := "CityBrigade$Floats", name := "<init>", desc := "()V" } : Jvm.MethodName) "CityBrigade") ∈ lw_tbl := lw_at lw_m7 155 rfl
theorem q1763 : (Jvm.Cond.instanceMethod ({ cls := "CityBrigade", name := "put", desc := "(III)Z" } : Jvm.MethodName)) ∈ lw_all := lw_g (lw_at lw_m7 165 rfl) rfl
theorem q1764 : (Jvm.Cond.selects "CityBrigade" ({ cls := "CityBrigade", name := "put", desc := "(III)Z" } : Jvm.MethodName) ({ cls := "CityBrigade", name := "put", desc := "(III)Z" } : Jvm.MethodName)) ∈ lw_all := lw_g (lw_at lw_m7 166 rfl) rfl
theorem q1765 : (Jvm.Cond.code ({ cls := "CityBrigade", name := "put", desc := "(III)Z" } : Jvm.MethodName) prog_1_method_137_code (4 : Nat) (Option.some Jvm.ClassFile.FieldType.boolean)) ∈ lw_all := lw_g (lw_at lw_m7 167 rfl) rfl
theorem q1766 : (Jvm.Cond.methodLink "CityBrigade" (841 : Nat) ({ cls := "CityBrigade", name := "isRow", desc := "(I)Z" } : Jvm.MethodName)) ∈ lw_all := lw_g (lw_at lw_m7 168 rfl) rfl
theorem q1767 : (Jvm.Cond.privateMethod ({ cls := "CityBrigade", name := "isRow", desc := "(I)Z" } : Jvm.MethodName)) ∈ lw_tbl := lw_at lw_m7 169 rfl
theorem q1768 : (Jvm.Cond.instanceMethod ({ cls := "CityBrigade", name := "isRow", desc := "(I)Z" } : Jvm.MethodName)) ∈ lw_all := lw_g (lw_at lw_m7 170 rfl) rfl
theorem q1769 : (Jvm.Cond.code ({ cls := "CityBrigade", name := "isRow", desc := "(I)Z" } : Jvm.MethodName) prog_1_method_135_code (2 : Nat) (Option.some Jvm.ClassFile.FieldType.boolean)) ∈ lw_all := lw_g (lw_at lw_m7 171 rfl) rfl
theorem q1770 : (Jvm.Cond.constant "CityBrigade" (844 : Nat) (-1000000 : Int32)) ∈ lw_all := lw_g (lw_at lw_m7 172 rfl) rfl
theorem q1771 : (Jvm.Cond.constant "CityBrigade" (845 : Nat) (1000000 : Int32)) ∈ lw_all := lw_g (lw_at lw_m7 173 rfl) rfl
theorem q1772 : (Jvm.Cond.methodLink "CityBrigade" (846 : Nat) ({ cls := "CityBrigade$Row", name := "put", desc := "(II)V" } : Jvm.MethodName)) ∈ lw_all := lw_g (lw_at lw_m7 174 rfl) rfl
theorem q1791 : (Jvm.Cond.instanceMethod ({ cls := "CityBrigade", name := "lose", desc := "(I)Z" } : Jvm.MethodName)) ∈ lw_all := lw_g (lw_at lw_m7 193 rfl) rfl
theorem q1792 : (Jvm.Cond.selects "CityBrigade" ({ cls := "CityBrigade", name := "lose", desc := "(I)Z" } : Jvm.MethodName) ({ cls := "CityBrigade", name := "lose", desc := "(I)Z" } : Jvm.MethodName)) ∈ lw_all := lw_g (lw_at lw_m7 194 rfl) rfl
theorem q1793 : (Jvm.Cond.code ({ cls := "CityBrigade", name := "lose", desc := "(I)Z" } : Jvm.MethodName) prog_1_method_138_code (2 : Nat) (Option.some Jvm.ClassFile.FieldType.boolean)) ∈ lw_all := lw_g (lw_at lw_m7 195 rfl) rfl
theorem q1795 : (Jvm.Cond.instanceMethod ({ cls := "CityBrigade", name := "copy", desc := "(IIIII)I" } : Jvm.MethodName)) ∈ lw_all := lw_g (lw_at lw_m7 197 rfl) rfl
theorem q1796 : (Jvm.Cond.selects "CityBrigade" ({ cls := "CityBrigade", name := "copy", desc := "(IIIII)I" } : Jvm.MethodName) ({ cls := "CityBrigade", name := "copy", desc := "(IIIII)I" } : Jvm.MethodName)) ∈ lw_all := lw_g (lw_at lw_m7 198 rfl) rfl
theorem q1797 : (Jvm.Cond.codeWith ({ cls := "CityBrigade", name := "copy", desc := "(IIIII)I" } : Jvm.MethodName) prog_1_method_139_code (7 : Nat) (Option.some Jvm.ClassFile.FieldType.int) [((55 : Nat), (76 : Nat), (77 : Nat), (852 : Nat))]) ∈ lw_all := lw_g (lw_at lw_m7 199 rfl) rfl
theorem q1798 : (Jvm.Cond.classLink "CityBrigade" (852 : Nat) "java/lang/IndexOutOfBoundsException") ∈ lw_all := lw_g (lw_at lw_m7 200 rfl) rfl
theorem q1832 : (Jvm.Cond.methodLink "CityBrigade" (849 : Nat) ({ cls := "CityBrigade$Row", name := "copy", desc := "(ILCityBrigade$Row;II)V" } : Jvm.MethodName)) ∈ lw_all := lw_g (lw_at lw_m7 234 rfl) rfl
theorem q1856 : (Jvm.Cond.instanceMethod ({ cls := "CityBrigade", name := "judge", desc := "(III)D" } : Jvm.MethodName)) ∈ lw_all := lw_g (lw_at lw_m8 18 rfl) rfl
theorem q1857 : (Jvm.Cond.selects "CityBrigade" ({ cls := "CityBrigade", name := "judge", desc := "(III)D" } : Jvm.MethodName) ({ cls := "CityBrigade", name := "judge", desc := "(III)D" } : Jvm.MethodName)) ∈ lw_all := lw_g (lw_at lw_m8 19 rfl) rfl
theorem q1858 : (Jvm.Cond.code ({ cls := "CityBrigade", name := "judge", desc := "(III)D" } : Jvm.MethodName) prog_1_method_142_code (4 : Nat) (Option.some Jvm.ClassFile.FieldType.double)) ∈ lw_all := lw_g (lw_at lw_m8 20 rfl) rfl
theorem q1859 : (Jvm.Cond.methodLink "CityBrigade" (861 : Nat) ({ cls := "CityBrigade", name := "isJudged", desc := "(III)Z" } : Jvm.MethodName)) ∈ lw_all := lw_g (lw_at lw_m8 21 rfl) rfl
theorem q1860 : (Jvm.Cond.privateMethod ({ cls := "CityBrigade", name := "isJudged", desc := "(III)Z" } : Jvm.MethodName)) ∈ lw_tbl := lw_at lw_m8 22 rfl
theorem q1861 : (Jvm.Cond.instanceMethod ({ cls := "CityBrigade", name := "isJudged", desc := "(III)Z" } : Jvm.MethodName)) ∈ lw_all := lw_g (lw_at lw_m8 23 rfl) rfl
theorem q1862 : (Jvm.Cond.code ({ cls := "CityBrigade", name := "isJudged", desc := "(III)Z" } : Jvm.MethodName) prog_1_method_141_code (4 : Nat) (Option.some Jvm.ClassFile.FieldType.boolean)) ∈ lw_all := lw_g (lw_at lw_m8 24 rfl) rfl
theorem q1863 : (Jvm.Cond.constant "CityBrigade" (860 : Nat) (1048575 : Int32)) ∈ lw_all := lw_g (lw_at lw_m8 25 rfl) rfl
theorem q1864 : (Jvm.Cond.constantDouble "CityBrigade" (866 : Nat) (9221120237041090560 : UInt64)) ∈ lw_all := lw_g (lw_at lw_m8 26 rfl) rfl
theorem q1865 : (Jvm.Cond.methodLink "CityBrigade" (868 : Nat) ({ cls := "CityBrigade", name := "judged", desc := "(LCityBrigade$Row;II)D" } : Jvm.MethodName)) ∈ lw_all := lw_g (lw_at lw_m8 27 rfl) rfl
theorem q1866 : (Jvm.Cond.privateMethod ({ cls := "CityBrigade", name := "judged", desc := "(LCityBrigade$Row;II)D" } : Jvm.MethodName)) ∈ lw_tbl := lw_at lw_m8 28 rfl
theorem q1867 : (Jvm.Cond.instanceMethod ({ cls := "CityBrigade", name := "judged", desc := "(LCityBrigade$Row;II)D" } : Jvm.MethodName)) ∈ lw_all := lw_g (lw_at lw_m8 29 rfl) rfl
theorem q1868 : (Jvm.Cond.code ({ cls := "CityBrigade", name := "judged", desc := "(LCityBrigade$Row;II)D" } : Jvm.MethodName) prog_1_method_140_code (9 : Nat) (Option.some Jvm.ClassFile.FieldType.double)) ∈ lw_all := lw_g (lw_at lw_m8 30 rfl) rfl
theorem q1869 : (Jvm.Cond.methodLink "CityBrigade" (854 : Nat) ({ cls := "CityBrigade$Row", name := "value", desc := "(I)D" } : Jvm.MethodName)) ∈ lw_all := lw_g (lw_at lw_m8 31 rfl) rfl
theorem q1885 : (Jvm.Cond.constantDouble "CityBrigade" (858 : Nat) (4652007308841189376 : UInt64)) ∈ lw_all := lw_g (lw_at lw_m8 47 rfl) rfl
theorem q1887 : (Jvm.Cond.instanceMethod ({ cls := "CityBrigade", name := "loss", desc := "(IIII)D" } : Jvm.MethodName)) ∈ lw_all := lw_g (lw_at lw_m8 49 rfl) rfl
theorem q1888 : (Jvm.Cond.selects "CityBrigade" ({ cls := "CityBrigade", name := "loss", desc := "(IIII)D" } : Jvm.MethodName) ({ cls := "CityBrigade", name := "loss", desc := "(IIII)D" } : Jvm.MethodName)) ∈ lw_all := lw_g (lw_at lw_m8 50 rfl) rfl
theorem q1889 : (Jvm.Cond.code ({ cls := "CityBrigade", name := "loss", desc := "(IIII)D" } : Jvm.MethodName) prog_1_method_143_code (5 : Nat) (Option.some Jvm.ClassFile.FieldType.double)) ∈ lw_all := lw_g (lw_at lw_m8 51 rfl) rfl
theorem q1891 : (Jvm.Cond.instanceMethod ({ cls := "CityBrigade", name := "what", desc := "(IIII)I" } : Jvm.MethodName)) ∈ lw_all := lw_g (lw_at lw_m8 53 rfl) rfl
theorem q1892 : (Jvm.Cond.selects "CityBrigade" ({ cls := "CityBrigade", name := "what", desc := "(IIII)I" } : Jvm.MethodName) ({ cls := "CityBrigade", name := "what", desc := "(IIII)I" } : Jvm.MethodName)) ∈ lw_all := lw_g (lw_at lw_m8 54 rfl) rfl
theorem q1893 : (Jvm.Cond.code ({ cls := "CityBrigade", name := "what", desc := "(IIII)I" } : Jvm.MethodName) prog_1_method_144_code (8 : Nat) (Option.some Jvm.ClassFile.FieldType.int)) ∈ lw_all := lw_g (lw_at lw_m8 55 rfl) rfl
theorem q1894 : (Jvm.Cond.methodLink "CityBrigade" (872 : Nat) ({ cls := "CityBrigade$Blaze", name := "take", desc := "(LCityBrigade$Blaze;)V" } : Jvm.MethodName)) ∈ lw_all := lw_g (lw_at lw_m8 56 rfl) rfl
theorem q1900 : (Jvm.Cond.instanceMethod ({ cls := "CityBrigade", name := "count", desc := "(I)I" } : Jvm.MethodName)) ∈ lw_all := lw_g (lw_at lw_m8 62 rfl) rfl
theorem q1901 : (Jvm.Cond.selects "CityBrigade" ({ cls := "CityBrigade", name := "count", desc := "(I)I" } : Jvm.MethodName) ({ cls := "CityBrigade", name := "count", desc := "(I)I" } : Jvm.MethodName)) ∈ lw_all := lw_g (lw_at lw_m8 63 rfl) rfl
theorem q1902 : (Jvm.Cond.code ({ cls := "CityBrigade", name := "count", desc := "(I)I" } : Jvm.MethodName) prog_1_method_145_code (9 : Nat) (Option.some Jvm.ClassFile.FieldType.int)) ∈ lw_all := lw_g (lw_at lw_m8 64 rfl) rfl
theorem q1908 : (Jvm.Cond.instanceMethod ({ cls := "CityBrigade", name := "about", desc := "(II)I" } : Jvm.MethodName)) ∈ lw_all := lw_g (lw_at lw_m8 70 rfl) rfl
theorem q1909 : (Jvm.Cond.selects "CityBrigade" ({ cls := "CityBrigade", name := "about", desc := "(II)I" } : Jvm.MethodName) ({ cls := "CityBrigade", name := "about", desc := "(II)I" } : Jvm.MethodName)) ∈ lw_all := lw_g (lw_at lw_m8 71 rfl) rfl
theorem q1910 : (Jvm.Cond.code ({ cls := "CityBrigade", name := "about", desc := "(II)I" } : Jvm.MethodName) prog_1_method_47_code (4 : Nat) (Option.some Jvm.ClassFile.FieldType.int)) ∈ lw_all := lw_g (lw_at lw_m8 72 rfl) rfl
theorem q1911 : (Jvm.Cond.classLink "CityBrigade" (425 : Nat) "java/util/NoSuchElementException") ∈ lw_all := lw_g (lw_at lw_m8 73 rfl) rfl
theorem q1920 : (Jvm.Cond.methodLink "CityBrigade" (427 : Nat) ({ cls := "java/util/NoSuchElementException", name := "<init>", desc := "()V" } : Jvm.MethodName)) ∈ lw_all := lw_g (lw_at lw_m8 82 rfl) rfl
theorem q1929 : (Jvm.Cond.methodLink "CityBrigade" (431 : Nat) ({ cls := "CityBrigade", name := "numberOf", desc := "(LCityBrigade$House;)I" } : Jvm.MethodName)) ∈ lw_all := lw_g (lw_at lw_m8 91 rfl) rfl
theorem q1930 : (Jvm.Cond.privateMethod ({ cls := "CityBrigade", name := "numberOf", desc := "(LCityBrigade$House;)I" } : Jvm.MethodName)) ∈ lw_tbl := lw_at lw_m8 92 rfl
theorem q1931 : (Jvm.Cond.instanceMethod ({ cls := "CityBrigade", name := "numberOf", desc := "(LCityBrigade$House;)I" } : Jvm.MethodName)) ∈ lw_all := lw_g (lw_at lw_m8 93 rfl) rfl
theorem q1932 : (Jvm.Cond.code ({ cls := "CityBrigade", name := "numberOf", desc := "(LCityBrigade$House;)I" } : Jvm.MethodName) prog_1_method_48_code (3 : Nat) (Option.some Jvm.ClassFile.FieldType.int)) ∈ lw_all := lw_g (lw_at lw_m8 94 rfl) rfl
theorem q2848 : (Jvm.Cond.castable "CityBrigade" "java/lang/Object") ∈ lw_tbl := lw_at lw_m12 50 rfl
theorem in_X1 : ∀ w ∈ wsX10, w ∈ lw_all := lw_in wsX10 [346, 348, 350, 352, 354, 356, 358, 360, 362, 364, 366, 368, 370, 372, 374, 376, 378, 380, 382, 384, 386, 388, 390, 392, 394, 396, 398, 400, 402, 404, 406, 408, 410, 412, 414, 416, 418, 420, 422, 424, 426, 428, 430, 432, 434, 436, 438, 440, 442, 444, 446, 448, 450, 452, 454, 456, 458, 460] (by decide +kernel) (by decide +kernel)
