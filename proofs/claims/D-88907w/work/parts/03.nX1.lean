/-! RegularRallyModel -/
set_option maxRecDepth 100000
def RX1 : String := "RegularRallyModel"
def TX1 : u_T := fun k => match k with
  | 0 => ("RegularRallyModel", "fault", "I", false)
  | 1 => ("RegularRallyModel", "roads", "I", false)
  | 2 => ("RegularRallyModel", "from", "[I", true)
  | 3 => ("RegularRallyModel", "to", "[I", true)
  | 4 => ("RegularRallyModel", "length", "[I", true)
  | 5 => ("RegularRallyModel", "kind", "[I", true)
  | 6 => ("RegularRallyModel", "isShut", "[Z", true)
  | 7 => ("RegularRallyModel", "isWet", "[Z", true)
  | 8 => ("RegularRallyModel", "sheetSize", "[I", true)
  | 9 => ("RegularRallyModel", "sheetLane", "[I", true)
  | 10 => ("RegularRallyModel", "sheet", "[I", true)
  | 11 => ("RegularRallyModel", "hands", "[I", true)
  | 12 => ("RegularRallyModel", "spots", "I", false)
  | 13 => ("RegularRallyModel", "book", "[I", true)
  | 14 => ("RegularRallyModel", "trials", "I", false)
  | 15 => ("RegularRallyModel", "bestSum", "I", false)
  | 16 => ("RegularRallyModel", "bestMany", "I", false)
  | 17 => ("RegularRallyModel", "best", "[I", true)
  | 18 => ("RegularRallyModel", "rivals", "I", false)
  | 19 => ("RegularRallyModel", "deep", "I", false)
  | 20 => ("RegularRallyModel", "row", "[I", true)
  | 21 => ("RegularRallyModel", "spot", "[I", true)
  | 22 => ("RegularRallyModel", "found", "[I", true)
  | 23 => ("RegularRallyModel", "sum", "[I", true)
  | 24 => ("RegularRallyModel", "laidMany", "I", false)
  | 25 => ("RegularRallyModel", "metres", "I", false)
  | 26 => ("RegularRallyModel", "laid", "[I", true)
  | 27 => ("RegularRallyModel", "speeds", "I", false)
  | 28 => ("RegularRallyModel", "speedFrom", "[I", true)
  | 29 => ("RegularRallyModel", "speed", "[I", true)
  | 30 => ("RegularRallyModel", "controls", "I", false)
  | 31 => ("RegularRallyModel", "placeOf", "[I", true)
  | 32 => ("RegularRallyModel", "isStruck", "[Z", true)
  | 33 => ("RegularRallyModel", "isChecked", "[Z", true)
  | 34 => ("RegularRallyModel", "checks", "[I", true)
  | 35 => ("RegularRallyModel", "cars", "I", false)
  | 36 => ("RegularRallyModel", "start", "[I", true)
  | 37 => ("RegularRallyModel", "sort", "[I", true)
  | 38 => ("RegularRallyModel", "clocked", "I", false)
  | 39 => ("RegularRallyModel", "clockedAs", "[I", true)
  | 40 => ("RegularRallyModel", "time", "[I", true)
  | 41 => ("RegularRallyModel", "allowance", "[I", true)
  | _ => ("RegularRallyModel", "trace", "I", false)
def tyX1 : Nat → FieldType := fun k => match k with
  | 0 => .int
  | 1 => .int
  | 2 => .array .int
  | 3 => .array .int
  | 4 => .array .int
  | 5 => .array .int
  | 6 => .array .boolean
  | 7 => .array .boolean
  | 8 => .array .int
  | 9 => .array .int
  | 10 => .array .int
  | 11 => .array .int
  | 12 => .int
  | 13 => .array .int
  | 14 => .int
  | 15 => .int
  | 16 => .int
  | 17 => .array .int
  | 18 => .int
  | 19 => .int
  | 20 => .array .int
  | 21 => .array .int
  | 22 => .array .int
  | 23 => .array .int
  | 24 => .int
  | 25 => .int
  | 26 => .array .int
  | 27 => .int
  | 28 => .array .int
  | 29 => .array .int
  | 30 => .int
  | 31 => .array .int
  | 32 => .array .boolean
  | 33 => .array .boolean
  | 34 => .array .int
  | 35 => .int
  | 36 => .array .int
  | 37 => .array .int
  | 38 => .int
  | 39 => .array .int
  | 40 => .array .int
  | 41 => .array .int
  | _ => .int
abbrev wsX10 : List Cond := u_ws RX1 TX1 43
set_option maxRecDepth 100000 in
theorem nmX1 : ∀ a, a < 43 → ∀ b, b < 43 → a ≠ b → (TX1 a).2.1 ≠ (TX1 b).2.1 := by decide +kernel
set_option maxRecDepth 100000 in
theorem tyX1_ok : ∀ k, k < 43 → parseFieldDescriptor (TX1 k).2.2.1 = some (tyX1 k) := by decide +kernel
abbrev cX1_init : ByteArray := prog_12_method_1_code
def yX1_init : MethodName := ⟨RX1, "<init>", "()V"⟩
def dkwX1_init_10 : List UInt8 := [27, 2, 79, 132, 1, 1, 167, 255, 241, 42, 3, 181, 0, 95, 177]
abbrev dktX1_init_10 : List UInt8 := dkwX1_init_10 ++ []
def dkwX1_init_9 : List UInt8 := [188, 10, 181, 0, 89, 42, 16, 64, 188, 10, 181, 0, 92, 3, 60, 27, 7, 162, 0, 16, 42, 180, 0, 29]
abbrev dktX1_init_9 : List UInt8 := dkwX1_init_9 ++ dktX1_init_10
def dkwX1_init_8 : List UInt8 := [188, 10, 181, 0, 80, 42, 16, 8, 188, 10, 181, 0, 83, 42, 16, 64, 188, 10, 181, 0, 86, 42, 16, 64]
abbrev dktX1_init_8 : List UInt8 := dkwX1_init_8 ++ dktX1_init_9
def dkwX1_init_7 : List UInt8 := [188, 4, 181, 0, 71, 42, 16, 8, 188, 4, 181, 0, 74, 42, 16, 32, 188, 10, 181, 0, 77, 42, 16, 8]
abbrev dktX1_init_7 : List UInt8 := dkwX1_init_7 ++ dktX1_init_8
def dkwX1_init_6 : List UInt8 := [188, 10, 181, 0, 62, 42, 16, 8, 188, 10, 181, 0, 65, 42, 16, 8, 188, 10, 181, 0, 68, 42, 16, 8]
abbrev dktX1_init_6 : List UInt8 := dkwX1_init_6 ++ dktX1_init_7
def dkwX1_init_5 : List UInt8 := [188, 10, 181, 0, 53, 42, 16, 11, 188, 10, 181, 0, 56, 42, 16, 10, 188, 10, 181, 0, 59, 42, 16, 8]
abbrev dktX1_init_5 : List UInt8 := dkwX1_init_5 ++ dktX1_init_6
def dkwX1_init_4 : List UInt8 := [188, 10, 181, 0, 44, 42, 16, 11, 188, 10, 181, 0, 47, 42, 16, 11, 188, 10, 181, 0, 50, 42, 16, 11]
abbrev dktX1_init_4 : List UInt8 := dkwX1_init_4 ++ dktX1_init_5
def dkwX1_init_3 : List UInt8 := [188, 10, 181, 0, 35, 42, 16, 32, 188, 10, 181, 0, 38, 42, 16, 8, 188, 10, 181, 0, 41, 42, 16, 10]
abbrev dktX1_init_3 : List UInt8 := dkwX1_init_3 ++ dktX1_init_4
def dkwX1_init_2 : List UInt8 := [188, 4, 181, 0, 26, 42, 7, 188, 10, 181, 0, 29, 42, 7, 188, 10, 181, 0, 32, 42, 17, 0, 128]
abbrev dktX1_init_2 : List UInt8 := dkwX1_init_2 ++ dktX1_init_3
def dkwX1_init_1 : List UInt8 := [188, 10, 181, 0, 16, 42, 16, 16, 188, 10, 181, 0, 19, 42, 16, 16, 188, 4, 181, 0, 22, 42, 16, 16]
abbrev dktX1_init_1 : List UInt8 := dkwX1_init_1 ++ dktX1_init_2
def dkwX1_init_0 : List UInt8 := [42, 183, 0, 1, 42, 16, 16, 188, 10, 181, 0, 7, 42, 16, 16, 188, 10, 181, 0, 13, 42, 16, 16]
abbrev dktX1_init_0 : List UInt8 := dkwX1_init_0 ++ dktX1_init_1
theorem dksX1_init_0 : cX1_init.data.toList.drop 0 = dktX1_init_0 := by decide +kernel
theorem dksX1_init_1 : cX1_init.data.toList.drop 23 = dktX1_init_1 := dk_seg dksX1_init_0 23 rfl rfl
theorem dksX1_init_2 : cX1_init.data.toList.drop 47 = dktX1_init_2 := dk_seg dksX1_init_1 24 rfl rfl
theorem dksX1_init_3 : cX1_init.data.toList.drop 70 = dktX1_init_3 := dk_seg dksX1_init_2 23 rfl rfl
theorem dksX1_init_4 : cX1_init.data.toList.drop 94 = dktX1_init_4 := dk_seg dksX1_init_3 24 rfl rfl
theorem dksX1_init_5 : cX1_init.data.toList.drop 118 = dktX1_init_5 := dk_seg dksX1_init_4 24 rfl rfl
theorem dksX1_init_6 : cX1_init.data.toList.drop 142 = dktX1_init_6 := dk_seg dksX1_init_5 24 rfl rfl
theorem dksX1_init_7 : cX1_init.data.toList.drop 166 = dktX1_init_7 := dk_seg dksX1_init_6 24 rfl rfl
theorem dksX1_init_8 : cX1_init.data.toList.drop 190 = dktX1_init_8 := dk_seg dksX1_init_7 24 rfl rfl
theorem dksX1_init_9 : cX1_init.data.toList.drop 214 = dktX1_init_9 := dk_seg dksX1_init_8 24 rfl rfl
theorem dksX1_init_10 : cX1_init.data.toList.drop 238 = dktX1_init_10 := dk_seg dksX1_init_9 24 rfl rfl
theorem dX1_init_0 : decode cX1_init 0 = .ok (.aload_n 0, 1) := dk_42 (dk_at dksX1_init_0 0 rfl rfl)
theorem dX1_init_1 : decode cX1_init 1 = .ok (.invokespecial 1, 3) := dk_183 0 1 (dk_at dksX1_init_0 1 rfl rfl)
theorem dX1_init_4 : decode cX1_init 4 = .ok (.aload_n 0, 1) := dk_42 (dk_at dksX1_init_0 4 rfl rfl)
theorem dX1_init_5 : decode cX1_init 5 = .ok (.bipush 16, 2) := dk_16 16 (dk_at dksX1_init_0 5 rfl rfl)
theorem dX1_init_7 : decode cX1_init 7 = .ok (.newarray .int, 2) := dk_188_10 (dk_at dksX1_init_0 7 rfl rfl)
theorem dX1_init_9 : decode cX1_init 9 = .ok (.putfield 7, 3) := dk_181 0 7 (dk_at dksX1_init_0 9 rfl rfl)
theorem dX1_init_12 : decode cX1_init 12 = .ok (.aload_n 0, 1) := dk_42 (dk_at dksX1_init_0 12 rfl rfl)
theorem dX1_init_13 : decode cX1_init 13 = .ok (.bipush 16, 2) := dk_16 16 (dk_at dksX1_init_0 13 rfl rfl)
theorem dX1_init_15 : decode cX1_init 15 = .ok (.newarray .int, 2) := dk_188_10 (dk_at dksX1_init_0 15 rfl rfl)
theorem dX1_init_17 : decode cX1_init 17 = .ok (.putfield 13, 3) := dk_181 0 13 (dk_at dksX1_init_0 17 rfl rfl)
theorem dX1_init_20 : decode cX1_init 20 = .ok (.aload_n 0, 1) := dk_42 (dk_at dksX1_init_0 20 rfl rfl)
theorem dX1_init_21 : decode cX1_init 21 = .ok (.bipush 16, 2) := dk_16 16 (dk_at dksX1_init_0 21 rfl rfl)
theorem dX1_init_23 : decode cX1_init 23 = .ok (.newarray .int, 2) := dk_188_10 (dk_at dksX1_init_1 0 rfl rfl)
theorem dX1_init_25 : decode cX1_init 25 = .ok (.putfield 16, 3) := dk_181 0 16 (dk_at dksX1_init_1 2 rfl rfl)
theorem dX1_init_28 : decode cX1_init 28 = .ok (.aload_n 0, 1) := dk_42 (dk_at dksX1_init_1 5 rfl rfl)
theorem dX1_init_29 : decode cX1_init 29 = .ok (.bipush 16, 2) := dk_16 16 (dk_at dksX1_init_1 6 rfl rfl)
theorem dX1_init_31 : decode cX1_init 31 = .ok (.newarray .int, 2) := dk_188_10 (dk_at dksX1_init_1 8 rfl rfl)
theorem dX1_init_33 : decode cX1_init 33 = .ok (.putfield 19, 3) := dk_181 0 19 (dk_at dksX1_init_1 10 rfl rfl)
theorem dX1_init_36 : decode cX1_init 36 = .ok (.aload_n 0, 1) := dk_42 (dk_at dksX1_init_1 13 rfl rfl)
theorem dX1_init_37 : decode cX1_init 37 = .ok (.bipush 16, 2) := dk_16 16 (dk_at dksX1_init_1 14 rfl rfl)
theorem dX1_init_39 : decode cX1_init 39 = .ok (.newarray .boolean, 2) := dk_188_4 (dk_at dksX1_init_1 16 rfl rfl)
theorem dX1_init_41 : decode cX1_init 41 = .ok (.putfield 22, 3) := dk_181 0 22 (dk_at dksX1_init_1 18 rfl rfl)
theorem dX1_init_44 : decode cX1_init 44 = .ok (.aload_n 0, 1) := dk_42 (dk_at dksX1_init_1 21 rfl rfl)
theorem dX1_init_45 : decode cX1_init 45 = .ok (.bipush 16, 2) := dk_16 16 (dk_at dksX1_init_1 22 rfl rfl)
theorem dX1_init_47 : decode cX1_init 47 = .ok (.newarray .boolean, 2) := dk_188_4 (dk_at dksX1_init_2 0 rfl rfl)
theorem dX1_init_49 : decode cX1_init 49 = .ok (.putfield 26, 3) := dk_181 0 26 (dk_at dksX1_init_2 2 rfl rfl)
theorem dX1_init_52 : decode cX1_init 52 = .ok (.aload_n 0, 1) := dk_42 (dk_at dksX1_init_2 5 rfl rfl)
theorem dX1_init_53 : decode cX1_init 53 = .ok (.iconst 4, 1) := dk_7 (dk_at dksX1_init_2 6 rfl rfl)
theorem dX1_init_54 : decode cX1_init 54 = .ok (.newarray .int, 2) := dk_188_10 (dk_at dksX1_init_2 7 rfl rfl)
theorem dX1_init_56 : decode cX1_init 56 = .ok (.putfield 29, 3) := dk_181 0 29 (dk_at dksX1_init_2 9 rfl rfl)
theorem dX1_init_59 : decode cX1_init 59 = .ok (.aload_n 0, 1) := dk_42 (dk_at dksX1_init_2 12 rfl rfl)
theorem dX1_init_60 : decode cX1_init 60 = .ok (.iconst 4, 1) := dk_7 (dk_at dksX1_init_2 13 rfl rfl)
theorem dX1_init_61 : decode cX1_init 61 = .ok (.newarray .int, 2) := dk_188_10 (dk_at dksX1_init_2 14 rfl rfl)
theorem dX1_init_63 : decode cX1_init 63 = .ok (.putfield 32, 3) := dk_181 0 32 (dk_at dksX1_init_2 16 rfl rfl)
theorem dX1_init_66 : decode cX1_init 66 = .ok (.aload_n 0, 1) := dk_42 (dk_at dksX1_init_2 19 rfl rfl)
theorem dX1_init_67 : decode cX1_init 67 = .ok (.sipush 128, 3) := dk_17 0 128 (dk_at dksX1_init_2 20 rfl rfl)
theorem dX1_init_70 : decode cX1_init 70 = .ok (.newarray .int, 2) := dk_188_10 (dk_at dksX1_init_3 0 rfl rfl)
theorem dX1_init_72 : decode cX1_init 72 = .ok (.putfield 35, 3) := dk_181 0 35 (dk_at dksX1_init_3 2 rfl rfl)
theorem dX1_init_75 : decode cX1_init 75 = .ok (.aload_n 0, 1) := dk_42 (dk_at dksX1_init_3 5 rfl rfl)
theorem dX1_init_76 : decode cX1_init 76 = .ok (.bipush 32, 2) := dk_16 32 (dk_at dksX1_init_3 6 rfl rfl)
theorem dX1_init_78 : decode cX1_init 78 = .ok (.newarray .int, 2) := dk_188_10 (dk_at dksX1_init_3 8 rfl rfl)
theorem dX1_init_80 : decode cX1_init 80 = .ok (.putfield 38, 3) := dk_181 0 38 (dk_at dksX1_init_3 10 rfl rfl)
theorem dX1_init_83 : decode cX1_init 83 = .ok (.aload_n 0, 1) := dk_42 (dk_at dksX1_init_3 13 rfl rfl)
theorem dX1_init_84 : decode cX1_init 84 = .ok (.bipush 8, 2) := dk_16 8 (dk_at dksX1_init_3 14 rfl rfl)
theorem dX1_init_86 : decode cX1_init 86 = .ok (.newarray .int, 2) := dk_188_10 (dk_at dksX1_init_3 16 rfl rfl)
theorem dX1_init_88 : decode cX1_init 88 = .ok (.putfield 41, 3) := dk_181 0 41 (dk_at dksX1_init_3 18 rfl rfl)
theorem dX1_init_91 : decode cX1_init 91 = .ok (.aload_n 0, 1) := dk_42 (dk_at dksX1_init_3 21 rfl rfl)
theorem dX1_init_92 : decode cX1_init 92 = .ok (.bipush 10, 2) := dk_16 10 (dk_at dksX1_init_3 22 rfl rfl)
theorem dX1_init_94 : decode cX1_init 94 = .ok (.newarray .int, 2) := dk_188_10 (dk_at dksX1_init_4 0 rfl rfl)
theorem dX1_init_96 : decode cX1_init 96 = .ok (.putfield 44, 3) := dk_181 0 44 (dk_at dksX1_init_4 2 rfl rfl)
theorem dX1_init_99 : decode cX1_init 99 = .ok (.aload_n 0, 1) := dk_42 (dk_at dksX1_init_4 5 rfl rfl)
theorem dX1_init_100 : decode cX1_init 100 = .ok (.bipush 11, 2) := dk_16 11 (dk_at dksX1_init_4 6 rfl rfl)
theorem dX1_init_102 : decode cX1_init 102 = .ok (.newarray .int, 2) := dk_188_10 (dk_at dksX1_init_4 8 rfl rfl)
theorem dX1_init_104 : decode cX1_init 104 = .ok (.putfield 47, 3) := dk_181 0 47 (dk_at dksX1_init_4 10 rfl rfl)
theorem dX1_init_107 : decode cX1_init 107 = .ok (.aload_n 0, 1) := dk_42 (dk_at dksX1_init_4 13 rfl rfl)
theorem dX1_init_108 : decode cX1_init 108 = .ok (.bipush 11, 2) := dk_16 11 (dk_at dksX1_init_4 14 rfl rfl)
theorem dX1_init_110 : decode cX1_init 110 = .ok (.newarray .int, 2) := dk_188_10 (dk_at dksX1_init_4 16 rfl rfl)
theorem dX1_init_112 : decode cX1_init 112 = .ok (.putfield 50, 3) := dk_181 0 50 (dk_at dksX1_init_4 18 rfl rfl)
theorem dX1_init_115 : decode cX1_init 115 = .ok (.aload_n 0, 1) := dk_42 (dk_at dksX1_init_4 21 rfl rfl)
theorem dX1_init_116 : decode cX1_init 116 = .ok (.bipush 11, 2) := dk_16 11 (dk_at dksX1_init_4 22 rfl rfl)
theorem dX1_init_118 : decode cX1_init 118 = .ok (.newarray .int, 2) := dk_188_10 (dk_at dksX1_init_5 0 rfl rfl)
theorem dX1_init_120 : decode cX1_init 120 = .ok (.putfield 53, 3) := dk_181 0 53 (dk_at dksX1_init_5 2 rfl rfl)
theorem dX1_init_123 : decode cX1_init 123 = .ok (.aload_n 0, 1) := dk_42 (dk_at dksX1_init_5 5 rfl rfl)
theorem dX1_init_124 : decode cX1_init 124 = .ok (.bipush 11, 2) := dk_16 11 (dk_at dksX1_init_5 6 rfl rfl)
theorem dX1_init_126 : decode cX1_init 126 = .ok (.newarray .int, 2) := dk_188_10 (dk_at dksX1_init_5 8 rfl rfl)
theorem dX1_init_128 : decode cX1_init 128 = .ok (.putfield 56, 3) := dk_181 0 56 (dk_at dksX1_init_5 10 rfl rfl)
theorem dX1_init_131 : decode cX1_init 131 = .ok (.aload_n 0, 1) := dk_42 (dk_at dksX1_init_5 13 rfl rfl)
theorem dX1_init_132 : decode cX1_init 132 = .ok (.bipush 10, 2) := dk_16 10 (dk_at dksX1_init_5 14 rfl rfl)
theorem dX1_init_134 : decode cX1_init 134 = .ok (.newarray .int, 2) := dk_188_10 (dk_at dksX1_init_5 16 rfl rfl)
theorem dX1_init_136 : decode cX1_init 136 = .ok (.putfield 59, 3) := dk_181 0 59 (dk_at dksX1_init_5 18 rfl rfl)
theorem dX1_init_139 : decode cX1_init 139 = .ok (.aload_n 0, 1) := dk_42 (dk_at dksX1_init_5 21 rfl rfl)
theorem dX1_init_140 : decode cX1_init 140 = .ok (.bipush 8, 2) := dk_16 8 (dk_at dksX1_init_5 22 rfl rfl)
theorem dX1_init_142 : decode cX1_init 142 = .ok (.newarray .int, 2) := dk_188_10 (dk_at dksX1_init_6 0 rfl rfl)
theorem dX1_init_144 : decode cX1_init 144 = .ok (.putfield 62, 3) := dk_181 0 62 (dk_at dksX1_init_6 2 rfl rfl)
theorem dX1_init_147 : decode cX1_init 147 = .ok (.aload_n 0, 1) := dk_42 (dk_at dksX1_init_6 5 rfl rfl)
theorem dX1_init_148 : decode cX1_init 148 = .ok (.bipush 8, 2) := dk_16 8 (dk_at dksX1_init_6 6 rfl rfl)
theorem dX1_init_150 : decode cX1_init 150 = .ok (.newarray .int, 2) := dk_188_10 (dk_at dksX1_init_6 8 rfl rfl)
theorem dX1_init_152 : decode cX1_init 152 = .ok (.putfield 65, 3) := dk_181 0 65 (dk_at dksX1_init_6 10 rfl rfl)
theorem dX1_init_155 : decode cX1_init 155 = .ok (.aload_n 0, 1) := dk_42 (dk_at dksX1_init_6 13 rfl rfl)
theorem dX1_init_156 : decode cX1_init 156 = .ok (.bipush 8, 2) := dk_16 8 (dk_at dksX1_init_6 14 rfl rfl)
theorem dX1_init_158 : decode cX1_init 158 = .ok (.newarray .int, 2) := dk_188_10 (dk_at dksX1_init_6 16 rfl rfl)
theorem dX1_init_160 : decode cX1_init 160 = .ok (.putfield 68, 3) := dk_181 0 68 (dk_at dksX1_init_6 18 rfl rfl)
theorem dX1_init_163 : decode cX1_init 163 = .ok (.aload_n 0, 1) := dk_42 (dk_at dksX1_init_6 21 rfl rfl)
theorem dX1_init_164 : decode cX1_init 164 = .ok (.bipush 8, 2) := dk_16 8 (dk_at dksX1_init_6 22 rfl rfl)
theorem dX1_init_166 : decode cX1_init 166 = .ok (.newarray .boolean, 2) := dk_188_4 (dk_at dksX1_init_7 0 rfl rfl)
theorem dX1_init_168 : decode cX1_init 168 = .ok (.putfield 71, 3) := dk_181 0 71 (dk_at dksX1_init_7 2 rfl rfl)
theorem dX1_init_171 : decode cX1_init 171 = .ok (.aload_n 0, 1) := dk_42 (dk_at dksX1_init_7 5 rfl rfl)
theorem dX1_init_172 : decode cX1_init 172 = .ok (.bipush 8, 2) := dk_16 8 (dk_at dksX1_init_7 6 rfl rfl)
theorem dX1_init_174 : decode cX1_init 174 = .ok (.newarray .boolean, 2) := dk_188_4 (dk_at dksX1_init_7 8 rfl rfl)
theorem dX1_init_176 : decode cX1_init 176 = .ok (.putfield 74, 3) := dk_181 0 74 (dk_at dksX1_init_7 10 rfl rfl)
theorem dX1_init_179 : decode cX1_init 179 = .ok (.aload_n 0, 1) := dk_42 (dk_at dksX1_init_7 13 rfl rfl)
theorem dX1_init_180 : decode cX1_init 180 = .ok (.bipush 32, 2) := dk_16 32 (dk_at dksX1_init_7 14 rfl rfl)
theorem dX1_init_182 : decode cX1_init 182 = .ok (.newarray .int, 2) := dk_188_10 (dk_at dksX1_init_7 16 rfl rfl)
theorem dX1_init_184 : decode cX1_init 184 = .ok (.putfield 77, 3) := dk_181 0 77 (dk_at dksX1_init_7 18 rfl rfl)
theorem dX1_init_187 : decode cX1_init 187 = .ok (.aload_n 0, 1) := dk_42 (dk_at dksX1_init_7 21 rfl rfl)
theorem dX1_init_188 : decode cX1_init 188 = .ok (.bipush 8, 2) := dk_16 8 (dk_at dksX1_init_7 22 rfl rfl)
theorem dX1_init_190 : decode cX1_init 190 = .ok (.newarray .int, 2) := dk_188_10 (dk_at dksX1_init_8 0 rfl rfl)
theorem dX1_init_192 : decode cX1_init 192 = .ok (.putfield 80, 3) := dk_181 0 80 (dk_at dksX1_init_8 2 rfl rfl)
theorem dX1_init_195 : decode cX1_init 195 = .ok (.aload_n 0, 1) := dk_42 (dk_at dksX1_init_8 5 rfl rfl)
theorem dX1_init_196 : decode cX1_init 196 = .ok (.bipush 8, 2) := dk_16 8 (dk_at dksX1_init_8 6 rfl rfl)
theorem dX1_init_198 : decode cX1_init 198 = .ok (.newarray .int, 2) := dk_188_10 (dk_at dksX1_init_8 8 rfl rfl)
theorem dX1_init_200 : decode cX1_init 200 = .ok (.putfield 83, 3) := dk_181 0 83 (dk_at dksX1_init_8 10 rfl rfl)
theorem dX1_init_203 : decode cX1_init 203 = .ok (.aload_n 0, 1) := dk_42 (dk_at dksX1_init_8 13 rfl rfl)
theorem dX1_init_204 : decode cX1_init 204 = .ok (.bipush 64, 2) := dk_16 64 (dk_at dksX1_init_8 14 rfl rfl)
theorem dX1_init_206 : decode cX1_init 206 = .ok (.newarray .int, 2) := dk_188_10 (dk_at dksX1_init_8 16 rfl rfl)
theorem dX1_init_208 : decode cX1_init 208 = .ok (.putfield 86, 3) := dk_181 0 86 (dk_at dksX1_init_8 18 rfl rfl)
theorem dX1_init_211 : decode cX1_init 211 = .ok (.aload_n 0, 1) := dk_42 (dk_at dksX1_init_8 21 rfl rfl)
theorem dX1_init_212 : decode cX1_init 212 = .ok (.bipush 64, 2) := dk_16 64 (dk_at dksX1_init_8 22 rfl rfl)
theorem dX1_init_214 : decode cX1_init 214 = .ok (.newarray .int, 2) := dk_188_10 (dk_at dksX1_init_9 0 rfl rfl)
theorem dX1_init_216 : decode cX1_init 216 = .ok (.putfield 89, 3) := dk_181 0 89 (dk_at dksX1_init_9 2 rfl rfl)
theorem dX1_init_219 : decode cX1_init 219 = .ok (.aload_n 0, 1) := dk_42 (dk_at dksX1_init_9 5 rfl rfl)
theorem dX1_init_220 : decode cX1_init 220 = .ok (.bipush 64, 2) := dk_16 64 (dk_at dksX1_init_9 6 rfl rfl)
theorem dX1_init_222 : decode cX1_init 222 = .ok (.newarray .int, 2) := dk_188_10 (dk_at dksX1_init_9 8 rfl rfl)
theorem dX1_init_224 : decode cX1_init 224 = .ok (.putfield 92, 3) := dk_181 0 92 (dk_at dksX1_init_9 10 rfl rfl)
theorem dX1_init_227 : decode cX1_init 227 = .ok (.iconst 0, 1) := dk_3 (dk_at dksX1_init_9 13 rfl rfl)
theorem dX1_init_228 : decode cX1_init 228 = .ok (.istore_n 1, 1) := dk_60 (dk_at dksX1_init_9 14 rfl rfl)
theorem dX1_init_229 : decode cX1_init 229 = .ok (.iload_n 1, 1) := dk_27 (dk_at dksX1_init_9 15 rfl rfl)
theorem dX1_init_230 : decode cX1_init 230 = .ok (.iconst 4, 1) := dk_7 (dk_at dksX1_init_9 16 rfl rfl)
theorem dX1_init_231 : decode cX1_init 231 = .ok (.if_icmp .ge 16, 3) := dk_162 0 16 (dk_at dksX1_init_9 17 rfl rfl)
theorem dX1_init_234 : decode cX1_init 234 = .ok (.aload_n 0, 1) := dk_42 (dk_at dksX1_init_9 20 rfl rfl)
theorem dX1_init_235 : decode cX1_init 235 = .ok (.getfield 29, 3) := dk_180 0 29 (dk_at dksX1_init_9 21 rfl rfl)
theorem dX1_init_238 : decode cX1_init 238 = .ok (.iload_n 1, 1) := dk_27 (dk_at dksX1_init_10 0 rfl rfl)
theorem dX1_init_239 : decode cX1_init 239 = .ok (.iconst (-1), 1) := dk_2 (dk_at dksX1_init_10 1 rfl rfl)
theorem dX1_init_240 : decode cX1_init 240 = .ok (.iastore, 1) := dk_79 (dk_at dksX1_init_10 2 rfl rfl)
theorem dX1_init_241 : decode cX1_init 241 = .ok (.iinc 1 1, 3) := dk_132 1 1 (dk_at dksX1_init_10 3 rfl rfl)
theorem dX1_init_244 : decode cX1_init 244 = .ok (.goto (-15), 3) := dk_167 255 241 (dk_at dksX1_init_10 6 rfl rfl)
theorem dX1_init_247 : decode cX1_init 247 = .ok (.aload_n 0, 1) := dk_42 (dk_at dksX1_init_10 9 rfl rfl)
theorem dX1_init_248 : decode cX1_init 248 = .ok (.iconst 0, 1) := dk_3 (dk_at dksX1_init_10 10 rfl rfl)
theorem dX1_init_249 : decode cX1_init 249 = .ok (.putfield 95, 3) := dk_181 0 95 (dk_at dksX1_init_10 11 rfl rfl)
theorem dX1_init_252 : decode cX1_init 252 = .ok (.return_, 1) := dk_177 (dk_at dksX1_init_10 14 rfl rfl)
abbrev cX1_road : ByteArray := prog_12_method_9_code
def yX1_road : MethodName := ⟨RX1, "road", "(IIII)I"⟩
def dkwX1_road_4 : List UInt8 := [180, 0, 108, 21, 4, 79, 42, 89, 180, 0, 108, 4, 96, 181, 0, 108, 42, 180, 0, 108, 4, 100, 172]
abbrev dktX1_road_4 : List UInt8 := dkwX1_road_4 ++ []
def dkwX1_road_3 : List UInt8 := [180, 0, 13, 42, 180, 0, 108, 28, 79, 42, 180, 0, 16, 42, 180, 0, 108, 29, 79, 42, 180, 0, 19, 42]
abbrev dktX1_road_3 : List UInt8 := dkwX1_road_3 ++ dktX1_road_4
def dkwX1_road_2 : List UInt8 := [172, 42, 180, 0, 108, 16, 16, 160, 0, 6, 16, 252, 172, 42, 180, 0, 7, 42, 180, 0, 108, 27, 79, 42]
abbrev dktX1_road_2 : List UInt8 := dkwX1_road_2 ++ dktX1_road_3
def dkwX1_road_1 : List UInt8 := [20, 0, 121, 184, 0, 111, 153, 0, 16, 21, 4, 133, 9, 20, 0, 123, 184, 0, 111, 154, 0, 6, 16, 254]
abbrev dktX1_road_1 : List UInt8 := dkwX1_road_1 ++ dktX1_road_2
def dkwX1_road_0 : List UInt8 := [27, 184, 0, 117, 153, 0, 10, 28, 184, 0, 117, 154, 0, 5, 2, 172, 27, 28, 159, 0, 28, 29, 133, 10]
abbrev dktX1_road_0 : List UInt8 := dkwX1_road_0 ++ dktX1_road_1
theorem dksX1_road_0 : cX1_road.data.toList.drop 0 = dktX1_road_0 := by decide +kernel
theorem dksX1_road_1 : cX1_road.data.toList.drop 24 = dktX1_road_1 := dk_seg dksX1_road_0 24 rfl rfl
theorem dksX1_road_2 : cX1_road.data.toList.drop 48 = dktX1_road_2 := dk_seg dksX1_road_1 24 rfl rfl
theorem dksX1_road_3 : cX1_road.data.toList.drop 72 = dktX1_road_3 := dk_seg dksX1_road_2 24 rfl rfl
theorem dksX1_road_4 : cX1_road.data.toList.drop 96 = dktX1_road_4 := dk_seg dksX1_road_3 24 rfl rfl
theorem dX1_road_0 : decode cX1_road 0 = .ok (.iload_n 1, 1) := dk_27 (dk_at dksX1_road_0 0 rfl rfl)
theorem dX1_road_1 : decode cX1_road 1 = .ok (.invokestatic 117, 3) := dk_184 0 117 (dk_at dksX1_road_0 1 rfl rfl)
theorem dX1_road_4 : decode cX1_road 4 = .ok (.ifCond .eq 10, 3) := dk_153 0 10 (dk_at dksX1_road_0 4 rfl rfl)
theorem dX1_road_7 : decode cX1_road 7 = .ok (.iload_n 2, 1) := dk_28 (dk_at dksX1_road_0 7 rfl rfl)
theorem dX1_road_8 : decode cX1_road 8 = .ok (.invokestatic 117, 3) := dk_184 0 117 (dk_at dksX1_road_0 8 rfl rfl)
theorem dX1_road_11 : decode cX1_road 11 = .ok (.ifCond .ne 5, 3) := dk_154 0 5 (dk_at dksX1_road_0 11 rfl rfl)
theorem dX1_road_14 : decode cX1_road 14 = .ok (.iconst (-1), 1) := dk_2 (dk_at dksX1_road_0 14 rfl rfl)
theorem dX1_road_15 : decode cX1_road 15 = .ok (.ireturn, 1) := dk_172 (dk_at dksX1_road_0 15 rfl rfl)
theorem dX1_road_16 : decode cX1_road 16 = .ok (.iload_n 1, 1) := dk_27 (dk_at dksX1_road_0 16 rfl rfl)
theorem dX1_road_17 : decode cX1_road 17 = .ok (.iload_n 2, 1) := dk_28 (dk_at dksX1_road_0 17 rfl rfl)
theorem dX1_road_18 : decode cX1_road 18 = .ok (.if_icmp .eq 28, 3) := dk_159 0 28 (dk_at dksX1_road_0 18 rfl rfl)
theorem dX1_road_21 : decode cX1_road 21 = .ok (.iload_n 3, 1) := dk_29 (dk_at dksX1_road_0 21 rfl rfl)
theorem dX1_road_22 : decode cX1_road 22 = .ok (.i2l, 1) := dk_133 (dk_at dksX1_road_0 22 rfl rfl)
theorem dX1_road_23 : decode cX1_road 23 = .ok (.lconst 1, 1) := dk_10 (dk_at dksX1_road_0 23 rfl rfl)
theorem dX1_road_24 : decode cX1_road 24 = .ok (.ldc2_w 121, 3) := dk_20 0 121 (dk_at dksX1_road_1 0 rfl rfl)
theorem dX1_road_27 : decode cX1_road 27 = .ok (.invokestatic 111, 3) := dk_184 0 111 (dk_at dksX1_road_1 3 rfl rfl)
theorem dX1_road_30 : decode cX1_road 30 = .ok (.ifCond .eq 16, 3) := dk_153 0 16 (dk_at dksX1_road_1 6 rfl rfl)
theorem dX1_road_33 : decode cX1_road 33 = .ok (.iload 4, 2) := dk_21 4 (dk_at dksX1_road_1 9 rfl rfl)
theorem dX1_road_35 : decode cX1_road 35 = .ok (.i2l, 1) := dk_133 (dk_at dksX1_road_1 11 rfl rfl)
theorem dX1_road_36 : decode cX1_road 36 = .ok (.lconst 0, 1) := dk_9 (dk_at dksX1_road_1 12 rfl rfl)
theorem dX1_road_37 : decode cX1_road 37 = .ok (.ldc2_w 123, 3) := dk_20 0 123 (dk_at dksX1_road_1 13 rfl rfl)
theorem dX1_road_40 : decode cX1_road 40 = .ok (.invokestatic 111, 3) := dk_184 0 111 (dk_at dksX1_road_1 16 rfl rfl)
theorem dX1_road_43 : decode cX1_road 43 = .ok (.ifCond .ne 6, 3) := dk_154 0 6 (dk_at dksX1_road_1 19 rfl rfl)
theorem dX1_road_46 : decode cX1_road 46 = .ok (.bipush (-2), 2) := dk_16 254 (dk_at dksX1_road_1 22 rfl rfl)
theorem dX1_road_48 : decode cX1_road 48 = .ok (.ireturn, 1) := dk_172 (dk_at dksX1_road_2 0 rfl rfl)
theorem dX1_road_49 : decode cX1_road 49 = .ok (.aload_n 0, 1) := dk_42 (dk_at dksX1_road_2 1 rfl rfl)
theorem dX1_road_50 : decode cX1_road 50 = .ok (.getfield 108, 3) := dk_180 0 108 (dk_at dksX1_road_2 2 rfl rfl)
theorem dX1_road_53 : decode cX1_road 53 = .ok (.bipush 16, 2) := dk_16 16 (dk_at dksX1_road_2 5 rfl rfl)
theorem dX1_road_55 : decode cX1_road 55 = .ok (.if_icmp .ne 6, 3) := dk_160 0 6 (dk_at dksX1_road_2 7 rfl rfl)
theorem dX1_road_58 : decode cX1_road 58 = .ok (.bipush (-4), 2) := dk_16 252 (dk_at dksX1_road_2 10 rfl rfl)
theorem dX1_road_60 : decode cX1_road 60 = .ok (.ireturn, 1) := dk_172 (dk_at dksX1_road_2 12 rfl rfl)
theorem dX1_road_61 : decode cX1_road 61 = .ok (.aload_n 0, 1) := dk_42 (dk_at dksX1_road_2 13 rfl rfl)
theorem dX1_road_62 : decode cX1_road 62 = .ok (.getfield 7, 3) := dk_180 0 7 (dk_at dksX1_road_2 14 rfl rfl)
theorem dX1_road_65 : decode cX1_road 65 = .ok (.aload_n 0, 1) := dk_42 (dk_at dksX1_road_2 17 rfl rfl)
theorem dX1_road_66 : decode cX1_road 66 = .ok (.getfield 108, 3) := dk_180 0 108 (dk_at dksX1_road_2 18 rfl rfl)
theorem dX1_road_69 : decode cX1_road 69 = .ok (.iload_n 1, 1) := dk_27 (dk_at dksX1_road_2 21 rfl rfl)
theorem dX1_road_70 : decode cX1_road 70 = .ok (.iastore, 1) := dk_79 (dk_at dksX1_road_2 22 rfl rfl)
theorem dX1_road_71 : decode cX1_road 71 = .ok (.aload_n 0, 1) := dk_42 (dk_at dksX1_road_2 23 rfl rfl)
theorem dX1_road_72 : decode cX1_road 72 = .ok (.getfield 13, 3) := dk_180 0 13 (dk_at dksX1_road_3 0 rfl rfl)
theorem dX1_road_75 : decode cX1_road 75 = .ok (.aload_n 0, 1) := dk_42 (dk_at dksX1_road_3 3 rfl rfl)
theorem dX1_road_76 : decode cX1_road 76 = .ok (.getfield 108, 3) := dk_180 0 108 (dk_at dksX1_road_3 4 rfl rfl)
theorem dX1_road_79 : decode cX1_road 79 = .ok (.iload_n 2, 1) := dk_28 (dk_at dksX1_road_3 7 rfl rfl)
theorem dX1_road_80 : decode cX1_road 80 = .ok (.iastore, 1) := dk_79 (dk_at dksX1_road_3 8 rfl rfl)
theorem dX1_road_81 : decode cX1_road 81 = .ok (.aload_n 0, 1) := dk_42 (dk_at dksX1_road_3 9 rfl rfl)
theorem dX1_road_82 : decode cX1_road 82 = .ok (.getfield 16, 3) := dk_180 0 16 (dk_at dksX1_road_3 10 rfl rfl)
theorem dX1_road_85 : decode cX1_road 85 = .ok (.aload_n 0, 1) := dk_42 (dk_at dksX1_road_3 13 rfl rfl)
theorem dX1_road_86 : decode cX1_road 86 = .ok (.getfield 108, 3) := dk_180 0 108 (dk_at dksX1_road_3 14 rfl rfl)
theorem dX1_road_89 : decode cX1_road 89 = .ok (.iload_n 3, 1) := dk_29 (dk_at dksX1_road_3 17 rfl rfl)
theorem dX1_road_90 : decode cX1_road 90 = .ok (.iastore, 1) := dk_79 (dk_at dksX1_road_3 18 rfl rfl)
theorem dX1_road_91 : decode cX1_road 91 = .ok (.aload_n 0, 1) := dk_42 (dk_at dksX1_road_3 19 rfl rfl)
theorem dX1_road_92 : decode cX1_road 92 = .ok (.getfield 19, 3) := dk_180 0 19 (dk_at dksX1_road_3 20 rfl rfl)
theorem dX1_road_95 : decode cX1_road 95 = .ok (.aload_n 0, 1) := dk_42 (dk_at dksX1_road_3 23 rfl rfl)
theorem dX1_road_96 : decode cX1_road 96 = .ok (.getfield 108, 3) := dk_180 0 108 (dk_at dksX1_road_4 0 rfl rfl)
theorem dX1_road_99 : decode cX1_road 99 = .ok (.iload 4, 2) := dk_21 4 (dk_at dksX1_road_4 3 rfl rfl)
theorem dX1_road_101 : decode cX1_road 101 = .ok (.iastore, 1) := dk_79 (dk_at dksX1_road_4 5 rfl rfl)
theorem dX1_road_102 : decode cX1_road 102 = .ok (.aload_n 0, 1) := dk_42 (dk_at dksX1_road_4 6 rfl rfl)
theorem dX1_road_103 : decode cX1_road 103 = .ok (.dup, 1) := dk_89 (dk_at dksX1_road_4 7 rfl rfl)
theorem dX1_road_104 : decode cX1_road 104 = .ok (.getfield 108, 3) := dk_180 0 108 (dk_at dksX1_road_4 8 rfl rfl)
theorem dX1_road_107 : decode cX1_road 107 = .ok (.iconst 1, 1) := dk_4 (dk_at dksX1_road_4 11 rfl rfl)
theorem dX1_road_108 : decode cX1_road 108 = .ok (.iadd, 1) := dk_96 (dk_at dksX1_road_4 12 rfl rfl)
theorem dX1_road_109 : decode cX1_road 109 = .ok (.putfield 108, 3) := dk_181 0 108 (dk_at dksX1_road_4 13 rfl rfl)
theorem dX1_road_112 : decode cX1_road 112 = .ok (.aload_n 0, 1) := dk_42 (dk_at dksX1_road_4 16 rfl rfl)
theorem dX1_road_113 : decode cX1_road 113 = .ok (.getfield 108, 3) := dk_180 0 108 (dk_at dksX1_road_4 17 rfl rfl)
theorem dX1_road_116 : decode cX1_road 116 = .ok (.iconst 1, 1) := dk_4 (dk_at dksX1_road_4 20 rfl rfl)
theorem dX1_road_117 : decode cX1_road 117 = .ok (.isub, 1) := dk_100 (dk_at dksX1_road_4 21 rfl rfl)
theorem dX1_road_118 : decode cX1_road 118 = .ok (.ireturn, 1) := dk_172 (dk_at dksX1_road_4 22 rfl rfl)
abbrev cX1_isSpot : ByteArray := prog_12_method_8_code
def yX1_isSpot : MethodName := ⟨RX1, "isSpot", "(I)Z"⟩
def dkwX1_isSpot_0 : List UInt8 := [26, 133, 9, 20, 0, 115, 184, 0, 111, 172]
abbrev dktX1_isSpot_0 : List UInt8 := dkwX1_isSpot_0 ++ []
theorem dksX1_isSpot_0 : cX1_isSpot.data.toList.drop 0 = dktX1_isSpot_0 := by decide +kernel
theorem dX1_isSpot_0 : decode cX1_isSpot 0 = .ok (.iload_n 0, 1) := dk_26 (dk_at dksX1_isSpot_0 0 rfl rfl)
theorem dX1_isSpot_1 : decode cX1_isSpot 1 = .ok (.i2l, 1) := dk_133 (dk_at dksX1_isSpot_0 1 rfl rfl)
theorem dX1_isSpot_2 : decode cX1_isSpot 2 = .ok (.lconst 0, 1) := dk_9 (dk_at dksX1_isSpot_0 2 rfl rfl)
theorem dX1_isSpot_3 : decode cX1_isSpot 3 = .ok (.ldc2_w 115, 3) := dk_20 0 115 (dk_at dksX1_isSpot_0 3 rfl rfl)
theorem dX1_isSpot_6 : decode cX1_isSpot 6 = .ok (.invokestatic 111, 3) := dk_184 0 111 (dk_at dksX1_isSpot_0 6 rfl rfl)
theorem dX1_isSpot_9 : decode cX1_isSpot 9 = .ok (.ireturn, 1) := dk_172 (dk_at dksX1_isSpot_0 9 rfl rfl)
abbrev cX1_in : ByteArray := prog_12_method_2_code
def yX1_in : MethodName := ⟨RX1, "in", "(JJJ)Z"⟩
def dkwX1_in_0 : List UInt8 := [30, 32, 148, 155, 0, 14, 30, 22, 4, 148, 157, 0, 7, 4, 167, 0, 4, 3, 172]
abbrev dktX1_in_0 : List UInt8 := dkwX1_in_0 ++ []
theorem dksX1_in_0 : cX1_in.data.toList.drop 0 = dktX1_in_0 := by decide +kernel
theorem dX1_in_0 : decode cX1_in 0 = .ok (.lload_n 0, 1) := dk_30 (dk_at dksX1_in_0 0 rfl rfl)
theorem dX1_in_1 : decode cX1_in 1 = .ok (.lload_n 2, 1) := dk_32 (dk_at dksX1_in_0 1 rfl rfl)
theorem dX1_in_2 : decode cX1_in 2 = .ok (.lcmp, 1) := dk_148 (dk_at dksX1_in_0 2 rfl rfl)
theorem dX1_in_3 : decode cX1_in 3 = .ok (.ifCond .lt 14, 3) := dk_155 0 14 (dk_at dksX1_in_0 3 rfl rfl)
theorem dX1_in_6 : decode cX1_in 6 = .ok (.lload_n 0, 1) := dk_30 (dk_at dksX1_in_0 6 rfl rfl)
theorem dX1_in_7 : decode cX1_in 7 = .ok (.lload 4, 2) := dk_22 4 (dk_at dksX1_in_0 7 rfl rfl)
theorem dX1_in_9 : decode cX1_in 9 = .ok (.lcmp, 1) := dk_148 (dk_at dksX1_in_0 9 rfl rfl)
theorem dX1_in_10 : decode cX1_in 10 = .ok (.ifCond .gt 7, 3) := dk_157 0 7 (dk_at dksX1_in_0 10 rfl rfl)
theorem dX1_in_13 : decode cX1_in 13 = .ok (.iconst 1, 1) := dk_4 (dk_at dksX1_in_0 13 rfl rfl)
theorem dX1_in_14 : decode cX1_in 14 = .ok (.goto 4, 3) := dk_167 0 4 (dk_at dksX1_in_0 14 rfl rfl)
theorem dX1_in_17 : decode cX1_in 17 = .ok (.iconst 0, 1) := dk_3 (dk_at dksX1_in_0 17 rfl rfl)
theorem dX1_in_18 : decode cX1_in 18 = .ok (.ireturn, 1) := dk_172 (dk_at dksX1_in_0 18 rfl rfl)
abbrev cX1_shut : ByteArray := prog_12_method_10_code
def yX1_shut : MethodName := ⟨RX1, "shut", "(IZ)I"⟩
def dkwX1_shut_1 : List UInt8 := [3, 62, 42, 180, 0, 22, 27, 28, 84, 29, 153, 0, 7, 4, 167, 0, 4, 3, 172]
abbrev dktX1_shut_1 : List UInt8 := dkwX1_shut_1 ++ []
def dkwX1_shut_0 : List UInt8 := [42, 27, 182, 0, 125, 153, 0, 5, 2, 172, 42, 180, 0, 22, 27, 51, 28, 159, 0, 7, 4, 167, 0, 4]
abbrev dktX1_shut_0 : List UInt8 := dkwX1_shut_0 ++ dktX1_shut_1
theorem dksX1_shut_0 : cX1_shut.data.toList.drop 0 = dktX1_shut_0 := by decide +kernel
theorem dksX1_shut_1 : cX1_shut.data.toList.drop 24 = dktX1_shut_1 := dk_seg dksX1_shut_0 24 rfl rfl
theorem dX1_shut_0 : decode cX1_shut 0 = .ok (.aload_n 0, 1) := dk_42 (dk_at dksX1_shut_0 0 rfl rfl)
theorem dX1_shut_1 : decode cX1_shut 1 = .ok (.iload_n 1, 1) := dk_27 (dk_at dksX1_shut_0 1 rfl rfl)
theorem dX1_shut_2 : decode cX1_shut 2 = .ok (.invokevirtual 125, 3) := dk_182 0 125 (dk_at dksX1_shut_0 2 rfl rfl)
theorem dX1_shut_5 : decode cX1_shut 5 = .ok (.ifCond .eq 5, 3) := dk_153 0 5 (dk_at dksX1_shut_0 5 rfl rfl)
theorem dX1_shut_8 : decode cX1_shut 8 = .ok (.iconst (-1), 1) := dk_2 (dk_at dksX1_shut_0 8 rfl rfl)
theorem dX1_shut_9 : decode cX1_shut 9 = .ok (.ireturn, 1) := dk_172 (dk_at dksX1_shut_0 9 rfl rfl)
theorem dX1_shut_10 : decode cX1_shut 10 = .ok (.aload_n 0, 1) := dk_42 (dk_at dksX1_shut_0 10 rfl rfl)
theorem dX1_shut_11 : decode cX1_shut 11 = .ok (.getfield 22, 3) := dk_180 0 22 (dk_at dksX1_shut_0 11 rfl rfl)
theorem dX1_shut_14 : decode cX1_shut 14 = .ok (.iload_n 1, 1) := dk_27 (dk_at dksX1_shut_0 14 rfl rfl)
theorem dX1_shut_15 : decode cX1_shut 15 = .ok (.baload, 1) := dk_51 (dk_at dksX1_shut_0 15 rfl rfl)
theorem dX1_shut_16 : decode cX1_shut 16 = .ok (.iload_n 2, 1) := dk_28 (dk_at dksX1_shut_0 16 rfl rfl)
theorem dX1_shut_17 : decode cX1_shut 17 = .ok (.if_icmp .eq 7, 3) := dk_159 0 7 (dk_at dksX1_shut_0 17 rfl rfl)
theorem dX1_shut_20 : decode cX1_shut 20 = .ok (.iconst 1, 1) := dk_4 (dk_at dksX1_shut_0 20 rfl rfl)
theorem dX1_shut_21 : decode cX1_shut 21 = .ok (.goto 4, 3) := dk_167 0 4 (dk_at dksX1_shut_0 21 rfl rfl)
theorem dX1_shut_24 : decode cX1_shut 24 = .ok (.iconst 0, 1) := dk_3 (dk_at dksX1_shut_1 0 rfl rfl)
theorem dX1_shut_25 : decode cX1_shut 25 = .ok (.istore_n 3, 1) := dk_62 (dk_at dksX1_shut_1 1 rfl rfl)
theorem dX1_shut_26 : decode cX1_shut 26 = .ok (.aload_n 0, 1) := dk_42 (dk_at dksX1_shut_1 2 rfl rfl)
theorem dX1_shut_27 : decode cX1_shut 27 = .ok (.getfield 22, 3) := dk_180 0 22 (dk_at dksX1_shut_1 3 rfl rfl)
theorem dX1_shut_30 : decode cX1_shut 30 = .ok (.iload_n 1, 1) := dk_27 (dk_at dksX1_shut_1 6 rfl rfl)
theorem dX1_shut_31 : decode cX1_shut 31 = .ok (.iload_n 2, 1) := dk_28 (dk_at dksX1_shut_1 7 rfl rfl)
theorem dX1_shut_32 : decode cX1_shut 32 = .ok (.bastore, 1) := dk_84 (dk_at dksX1_shut_1 8 rfl rfl)
theorem dX1_shut_33 : decode cX1_shut 33 = .ok (.iload_n 3, 1) := dk_29 (dk_at dksX1_shut_1 9 rfl rfl)
theorem dX1_shut_34 : decode cX1_shut 34 = .ok (.ifCond .eq 7, 3) := dk_153 0 7 (dk_at dksX1_shut_1 10 rfl rfl)
theorem dX1_shut_37 : decode cX1_shut 37 = .ok (.iconst 1, 1) := dk_4 (dk_at dksX1_shut_1 13 rfl rfl)
theorem dX1_shut_38 : decode cX1_shut 38 = .ok (.goto 4, 3) := dk_167 0 4 (dk_at dksX1_shut_1 14 rfl rfl)
theorem dX1_shut_41 : decode cX1_shut 41 = .ok (.iconst 0, 1) := dk_3 (dk_at dksX1_shut_1 17 rfl rfl)
theorem dX1_shut_42 : decode cX1_shut 42 = .ok (.ireturn, 1) := dk_172 (dk_at dksX1_shut_1 18 rfl rfl)
abbrev cX1_noRoad : ByteArray := prog_12_method_7_code
def yX1_noRoad : MethodName := ⟨RX1, "noRoad", "(I)Z"⟩
def dkwX1_noRoad_0 : List UInt8 := [27, 133, 9, 42, 180, 0, 108, 133, 10, 101, 184, 0, 111, 154, 0, 7, 4, 167, 0, 4, 3, 172]
abbrev dktX1_noRoad_0 : List UInt8 := dkwX1_noRoad_0 ++ []
theorem dksX1_noRoad_0 : cX1_noRoad.data.toList.drop 0 = dktX1_noRoad_0 := by decide +kernel
theorem dX1_noRoad_0 : decode cX1_noRoad 0 = .ok (.iload_n 1, 1) := dk_27 (dk_at dksX1_noRoad_0 0 rfl rfl)
theorem dX1_noRoad_1 : decode cX1_noRoad 1 = .ok (.i2l, 1) := dk_133 (dk_at dksX1_noRoad_0 1 rfl rfl)
theorem dX1_noRoad_2 : decode cX1_noRoad 2 = .ok (.lconst 0, 1) := dk_9 (dk_at dksX1_noRoad_0 2 rfl rfl)
theorem dX1_noRoad_3 : decode cX1_noRoad 3 = .ok (.aload_n 0, 1) := dk_42 (dk_at dksX1_noRoad_0 3 rfl rfl)
theorem dX1_noRoad_4 : decode cX1_noRoad 4 = .ok (.getfield 108, 3) := dk_180 0 108 (dk_at dksX1_noRoad_0 4 rfl rfl)
theorem dX1_noRoad_7 : decode cX1_noRoad 7 = .ok (.i2l, 1) := dk_133 (dk_at dksX1_noRoad_0 7 rfl rfl)
theorem dX1_noRoad_8 : decode cX1_noRoad 8 = .ok (.lconst 1, 1) := dk_10 (dk_at dksX1_noRoad_0 8 rfl rfl)
theorem dX1_noRoad_9 : decode cX1_noRoad 9 = .ok (.lsub, 1) := dk_101 (dk_at dksX1_noRoad_0 9 rfl rfl)
theorem dX1_noRoad_10 : decode cX1_noRoad 10 = .ok (.invokestatic 111, 3) := dk_184 0 111 (dk_at dksX1_noRoad_0 10 rfl rfl)
theorem dX1_noRoad_13 : decode cX1_noRoad 13 = .ok (.ifCond .ne 7, 3) := dk_154 0 7 (dk_at dksX1_noRoad_0 13 rfl rfl)
theorem dX1_noRoad_16 : decode cX1_noRoad 16 = .ok (.iconst 1, 1) := dk_4 (dk_at dksX1_noRoad_0 16 rfl rfl)
theorem dX1_noRoad_17 : decode cX1_noRoad 17 = .ok (.goto 4, 3) := dk_167 0 4 (dk_at dksX1_noRoad_0 17 rfl rfl)
theorem dX1_noRoad_20 : decode cX1_noRoad 20 = .ok (.iconst 0, 1) := dk_3 (dk_at dksX1_noRoad_0 20 rfl rfl)
theorem dX1_noRoad_21 : decode cX1_noRoad 21 = .ok (.ireturn, 1) := dk_172 (dk_at dksX1_noRoad_0 21 rfl rfl)
abbrev cX1_wet : ByteArray := prog_12_method_11_code
def yX1_wet : MethodName := ⟨RX1, "wet", "(IZ)I"⟩
def dkwX1_wet_2 : List UInt8 := [180, 0, 26, 27, 28, 84, 42, 29, 153, 0, 7, 4, 167, 0, 4, 3, 182, 0, 128, 172]
abbrev dktX1_wet_2 : List UInt8 := dkwX1_wet_2 ++ []
def dkwX1_wet_1 : List UInt8 := [42, 5, 182, 0, 132, 172, 42, 180, 0, 26, 27, 51, 28, 159, 0, 7, 4, 167, 0, 4, 3, 62, 42]
abbrev dktX1_wet_1 : List UInt8 := dkwX1_wet_1 ++ dktX1_wet_2
def dkwX1_wet_0 : List UInt8 := [42, 27, 182, 0, 125, 153, 0, 9, 42, 2, 182, 0, 128, 172, 42, 180, 0, 19, 27, 46, 5, 159, 0, 9]
abbrev dktX1_wet_0 : List UInt8 := dkwX1_wet_0 ++ dktX1_wet_1
theorem dksX1_wet_0 : cX1_wet.data.toList.drop 0 = dktX1_wet_0 := by decide +kernel
theorem dksX1_wet_1 : cX1_wet.data.toList.drop 24 = dktX1_wet_1 := dk_seg dksX1_wet_0 24 rfl rfl
theorem dksX1_wet_2 : cX1_wet.data.toList.drop 47 = dktX1_wet_2 := dk_seg dksX1_wet_1 23 rfl rfl
theorem dX1_wet_0 : decode cX1_wet 0 = .ok (.aload_n 0, 1) := dk_42 (dk_at dksX1_wet_0 0 rfl rfl)
theorem dX1_wet_1 : decode cX1_wet 1 = .ok (.iload_n 1, 1) := dk_27 (dk_at dksX1_wet_0 1 rfl rfl)
theorem dX1_wet_2 : decode cX1_wet 2 = .ok (.invokevirtual 125, 3) := dk_182 0 125 (dk_at dksX1_wet_0 2 rfl rfl)
theorem dX1_wet_5 : decode cX1_wet 5 = .ok (.ifCond .eq 9, 3) := dk_153 0 9 (dk_at dksX1_wet_0 5 rfl rfl)
theorem dX1_wet_8 : decode cX1_wet 8 = .ok (.aload_n 0, 1) := dk_42 (dk_at dksX1_wet_0 8 rfl rfl)
theorem dX1_wet_9 : decode cX1_wet 9 = .ok (.iconst (-1), 1) := dk_2 (dk_at dksX1_wet_0 9 rfl rfl)
theorem dX1_wet_10 : decode cX1_wet 10 = .ok (.invokevirtual 128, 3) := dk_182 0 128 (dk_at dksX1_wet_0 10 rfl rfl)
theorem dX1_wet_13 : decode cX1_wet 13 = .ok (.ireturn, 1) := dk_172 (dk_at dksX1_wet_0 13 rfl rfl)
theorem dX1_wet_14 : decode cX1_wet 14 = .ok (.aload_n 0, 1) := dk_42 (dk_at dksX1_wet_0 14 rfl rfl)
theorem dX1_wet_15 : decode cX1_wet 15 = .ok (.getfield 19, 3) := dk_180 0 19 (dk_at dksX1_wet_0 15 rfl rfl)
theorem dX1_wet_18 : decode cX1_wet 18 = .ok (.iload_n 1, 1) := dk_27 (dk_at dksX1_wet_0 18 rfl rfl)
theorem dX1_wet_19 : decode cX1_wet 19 = .ok (.iaload, 1) := dk_46 (dk_at dksX1_wet_0 19 rfl rfl)
theorem dX1_wet_20 : decode cX1_wet 20 = .ok (.iconst 2, 1) := dk_5 (dk_at dksX1_wet_0 20 rfl rfl)
theorem dX1_wet_21 : decode cX1_wet 21 = .ok (.if_icmp .eq 9, 3) := dk_159 0 9 (dk_at dksX1_wet_0 21 rfl rfl)
theorem dX1_wet_24 : decode cX1_wet 24 = .ok (.aload_n 0, 1) := dk_42 (dk_at dksX1_wet_1 0 rfl rfl)
theorem dX1_wet_25 : decode cX1_wet 25 = .ok (.iconst 2, 1) := dk_5 (dk_at dksX1_wet_1 1 rfl rfl)
theorem dX1_wet_26 : decode cX1_wet 26 = .ok (.invokevirtual 132, 3) := dk_182 0 132 (dk_at dksX1_wet_1 2 rfl rfl)
theorem dX1_wet_29 : decode cX1_wet 29 = .ok (.ireturn, 1) := dk_172 (dk_at dksX1_wet_1 5 rfl rfl)
theorem dX1_wet_30 : decode cX1_wet 30 = .ok (.aload_n 0, 1) := dk_42 (dk_at dksX1_wet_1 6 rfl rfl)
theorem dX1_wet_31 : decode cX1_wet 31 = .ok (.getfield 26, 3) := dk_180 0 26 (dk_at dksX1_wet_1 7 rfl rfl)
theorem dX1_wet_34 : decode cX1_wet 34 = .ok (.iload_n 1, 1) := dk_27 (dk_at dksX1_wet_1 10 rfl rfl)
theorem dX1_wet_35 : decode cX1_wet 35 = .ok (.baload, 1) := dk_51 (dk_at dksX1_wet_1 11 rfl rfl)
theorem dX1_wet_36 : decode cX1_wet 36 = .ok (.iload_n 2, 1) := dk_28 (dk_at dksX1_wet_1 12 rfl rfl)
theorem dX1_wet_37 : decode cX1_wet 37 = .ok (.if_icmp .eq 7, 3) := dk_159 0 7 (dk_at dksX1_wet_1 13 rfl rfl)
theorem dX1_wet_40 : decode cX1_wet 40 = .ok (.iconst 1, 1) := dk_4 (dk_at dksX1_wet_1 16 rfl rfl)
theorem dX1_wet_41 : decode cX1_wet 41 = .ok (.goto 4, 3) := dk_167 0 4 (dk_at dksX1_wet_1 17 rfl rfl)
theorem dX1_wet_44 : decode cX1_wet 44 = .ok (.iconst 0, 1) := dk_3 (dk_at dksX1_wet_1 20 rfl rfl)
theorem dX1_wet_45 : decode cX1_wet 45 = .ok (.istore_n 3, 1) := dk_62 (dk_at dksX1_wet_1 21 rfl rfl)
theorem dX1_wet_46 : decode cX1_wet 46 = .ok (.aload_n 0, 1) := dk_42 (dk_at dksX1_wet_1 22 rfl rfl)
theorem dX1_wet_47 : decode cX1_wet 47 = .ok (.getfield 26, 3) := dk_180 0 26 (dk_at dksX1_wet_2 0 rfl rfl)
theorem dX1_wet_50 : decode cX1_wet 50 = .ok (.iload_n 1, 1) := dk_27 (dk_at dksX1_wet_2 3 rfl rfl)
theorem dX1_wet_51 : decode cX1_wet 51 = .ok (.iload_n 2, 1) := dk_28 (dk_at dksX1_wet_2 4 rfl rfl)
theorem dX1_wet_52 : decode cX1_wet 52 = .ok (.bastore, 1) := dk_84 (dk_at dksX1_wet_2 5 rfl rfl)
theorem dX1_wet_53 : decode cX1_wet 53 = .ok (.aload_n 0, 1) := dk_42 (dk_at dksX1_wet_2 6 rfl rfl)
theorem dX1_wet_54 : decode cX1_wet 54 = .ok (.iload_n 3, 1) := dk_29 (dk_at dksX1_wet_2 7 rfl rfl)
theorem dX1_wet_55 : decode cX1_wet 55 = .ok (.ifCond .eq 7, 3) := dk_153 0 7 (dk_at dksX1_wet_2 8 rfl rfl)
theorem dX1_wet_58 : decode cX1_wet 58 = .ok (.iconst 1, 1) := dk_4 (dk_at dksX1_wet_2 11 rfl rfl)
theorem dX1_wet_59 : decode cX1_wet 59 = .ok (.goto 4, 3) := dk_167 0 4 (dk_at dksX1_wet_2 12 rfl rfl)
theorem dX1_wet_62 : decode cX1_wet 62 = .ok (.iconst 0, 1) := dk_3 (dk_at dksX1_wet_2 15 rfl rfl)
theorem dX1_wet_63 : decode cX1_wet 63 = .ok (.invokevirtual 128, 3) := dk_182 0 128 (dk_at dksX1_wet_2 16 rfl rfl)
theorem dX1_wet_66 : decode cX1_wet 66 = .ok (.ireturn, 1) := dk_172 (dk_at dksX1_wet_2 19 rfl rfl)
abbrev cX1_refused : ByteArray := prog_12_method_4_code
def yX1_refused : MethodName := ⟨RX1, "refused", "(I)I"⟩
def dkwX1_refused_0 : List UInt8 := [42, 3, 181, 0, 101, 27, 172]
abbrev dktX1_refused_0 : List UInt8 := dkwX1_refused_0 ++ []
theorem dksX1_refused_0 : cX1_refused.data.toList.drop 0 = dktX1_refused_0 := by decide +kernel
theorem dX1_refused_0 : decode cX1_refused 0 = .ok (.aload_n 0, 1) := dk_42 (dk_at dksX1_refused_0 0 rfl rfl)
theorem dX1_refused_1 : decode cX1_refused 1 = .ok (.iconst 0, 1) := dk_3 (dk_at dksX1_refused_0 1 rfl rfl)
theorem dX1_refused_2 : decode cX1_refused 2 = .ok (.putfield 101, 3) := dk_181 0 101 (dk_at dksX1_refused_0 2 rfl rfl)
theorem dX1_refused_5 : decode cX1_refused 5 = .ok (.iload_n 1, 1) := dk_27 (dk_at dksX1_refused_0 5 rfl rfl)
theorem dX1_refused_6 : decode cX1_refused 6 = .ok (.ireturn, 1) := dk_172 (dk_at dksX1_refused_0 6 rfl rfl)
abbrev cX1_failed : ByteArray := prog_12_method_5_code
def yX1_failed : MethodName := ⟨RX1, "failed", "(I)I"⟩
def dkwX1_failed_0 : List UInt8 := [42, 27, 181, 0, 101, 16, 246, 27, 100, 172]
abbrev dktX1_failed_0 : List UInt8 := dkwX1_failed_0 ++ []
theorem dksX1_failed_0 : cX1_failed.data.toList.drop 0 = dktX1_failed_0 := by decide +kernel
theorem dX1_failed_0 : decode cX1_failed 0 = .ok (.aload_n 0, 1) := dk_42 (dk_at dksX1_failed_0 0 rfl rfl)
theorem dX1_failed_1 : decode cX1_failed 1 = .ok (.iload_n 1, 1) := dk_27 (dk_at dksX1_failed_0 1 rfl rfl)
theorem dX1_failed_2 : decode cX1_failed 2 = .ok (.putfield 101, 3) := dk_181 0 101 (dk_at dksX1_failed_0 2 rfl rfl)
theorem dX1_failed_5 : decode cX1_failed 5 = .ok (.bipush (-10), 2) := dk_16 246 (dk_at dksX1_failed_0 5 rfl rfl)
theorem dX1_failed_7 : decode cX1_failed 7 = .ok (.iload_n 1, 1) := dk_27 (dk_at dksX1_failed_0 7 rfl rfl)
theorem dX1_failed_8 : decode cX1_failed 8 = .ok (.isub, 1) := dk_100 (dk_at dksX1_failed_0 8 rfl rfl)
theorem dX1_failed_9 : decode cX1_failed 9 = .ok (.ireturn, 1) := dk_172 (dk_at dksX1_failed_0 9 rfl rfl)
abbrev cX1_about : ByteArray := prog_12_method_13_code
def yX1_about : MethodName := ⟨RX1, "about", "(II)I"⟩
def dkwX1_about_5 : List UInt8 := [160, 0, 5, 29, 172, 132, 3, 1, 167, 255, 233, 16, 247, 172, 16, 254, 172]
abbrev dktX1_about_5 : List UInt8 := dkwX1_about_5 ++ []
def dkwX1_about_4 : List UInt8 := [4, 167, 0, 4, 3, 172, 3, 62, 29, 42, 180, 0, 95, 162, 0, 21, 42, 180, 0, 59, 29, 46, 27]
abbrev dktX1_about_4 : List UInt8 := dkwX1_about_4 ++ dktX1_about_5
def dkwX1_about_3 : List UInt8 := [180, 0, 19, 27, 46, 172, 42, 180, 0, 22, 27, 51, 154, 0, 12, 42, 180, 0, 26, 27, 51, 153, 0, 7]
abbrev dktX1_about_3 : List UInt8 := dkwX1_about_3 ++ dktX1_about_4
def dkwX1_about_2 : List UInt8 := [42, 180, 0, 7, 27, 46, 172, 42, 180, 0, 13, 27, 46, 172, 42, 180, 0, 16, 27, 46, 172, 42]
abbrev dktX1_about_2 : List UInt8 := dkwX1_about_2 ++ dktX1_about_3
def dkwX1_about_1 : List UInt8 := [170, 0, 0, 0, 120, 0, 0, 0, 0, 0, 0, 0, 5, 0, 0, 0, 37, 0, 0, 0, 44, 0, 0, 0, 51, 0, 0, 0, 58, 0, 0, 0, 65, 0, 0, 0, 89]
abbrev dktX1_about_1 : List UInt8 := dkwX1_about_1 ++ dktX1_about_2
def dkwX1_about_0 : List UInt8 := [42, 27, 182, 0, 125, 153, 0, 5, 2, 172, 28]
abbrev dktX1_about_0 : List UInt8 := dkwX1_about_0 ++ dktX1_about_1
theorem dksX1_about_0 : cX1_about.data.toList.drop 0 = dktX1_about_0 := by decide +kernel
theorem dksX1_about_1 : cX1_about.data.toList.drop 11 = dktX1_about_1 := dk_seg dksX1_about_0 11 rfl rfl
theorem dksX1_about_2 : cX1_about.data.toList.drop 48 = dktX1_about_2 := dk_seg dksX1_about_1 37 rfl rfl
theorem dksX1_about_3 : cX1_about.data.toList.drop 70 = dktX1_about_3 := dk_seg dksX1_about_2 22 rfl rfl
theorem dksX1_about_4 : cX1_about.data.toList.drop 94 = dktX1_about_4 := dk_seg dksX1_about_3 24 rfl rfl
theorem dksX1_about_5 : cX1_about.data.toList.drop 117 = dktX1_about_5 := dk_seg dksX1_about_4 23 rfl rfl
theorem dX1_about_0 : decode cX1_about 0 = .ok (.aload_n 0, 1) := dk_42 (dk_at dksX1_about_0 0 rfl rfl)
theorem dX1_about_1 : decode cX1_about 1 = .ok (.iload_n 1, 1) := dk_27 (dk_at dksX1_about_0 1 rfl rfl)
theorem dX1_about_2 : decode cX1_about 2 = .ok (.invokevirtual 125, 3) := dk_182 0 125 (dk_at dksX1_about_0 2 rfl rfl)
theorem dX1_about_5 : decode cX1_about 5 = .ok (.ifCond .eq 5, 3) := dk_153 0 5 (dk_at dksX1_about_0 5 rfl rfl)
theorem dX1_about_8 : decode cX1_about 8 = .ok (.iconst (-1), 1) := dk_2 (dk_at dksX1_about_0 8 rfl rfl)
theorem dX1_about_9 : decode cX1_about 9 = .ok (.ireturn, 1) := dk_172 (dk_at dksX1_about_0 9 rfl rfl)
theorem dX1_about_10 : decode cX1_about 10 = .ok (.iload_n 2, 1) := dk_28 (dk_at dksX1_about_0 10 rfl rfl)
theorem dX1_about_11 : decode cX1_about 11 = .ok (.tableswitch 120 0 5 #[37, 44, 51, 58, 65, 89], 37) := by decide +kernel
theorem dX1_about_48 : decode cX1_about 48 = .ok (.aload_n 0, 1) := dk_42 (dk_at dksX1_about_2 0 rfl rfl)
theorem dX1_about_49 : decode cX1_about 49 = .ok (.getfield 7, 3) := dk_180 0 7 (dk_at dksX1_about_2 1 rfl rfl)
theorem dX1_about_52 : decode cX1_about 52 = .ok (.iload_n 1, 1) := dk_27 (dk_at dksX1_about_2 4 rfl rfl)
theorem dX1_about_53 : decode cX1_about 53 = .ok (.iaload, 1) := dk_46 (dk_at dksX1_about_2 5 rfl rfl)
theorem dX1_about_54 : decode cX1_about 54 = .ok (.ireturn, 1) := dk_172 (dk_at dksX1_about_2 6 rfl rfl)
theorem dX1_about_55 : decode cX1_about 55 = .ok (.aload_n 0, 1) := dk_42 (dk_at dksX1_about_2 7 rfl rfl)
theorem dX1_about_56 : decode cX1_about 56 = .ok (.getfield 13, 3) := dk_180 0 13 (dk_at dksX1_about_2 8 rfl rfl)
theorem dX1_about_59 : decode cX1_about 59 = .ok (.iload_n 1, 1) := dk_27 (dk_at dksX1_about_2 11 rfl rfl)
theorem dX1_about_60 : decode cX1_about 60 = .ok (.iaload, 1) := dk_46 (dk_at dksX1_about_2 12 rfl rfl)
theorem dX1_about_61 : decode cX1_about 61 = .ok (.ireturn, 1) := dk_172 (dk_at dksX1_about_2 13 rfl rfl)
theorem dX1_about_62 : decode cX1_about 62 = .ok (.aload_n 0, 1) := dk_42 (dk_at dksX1_about_2 14 rfl rfl)
theorem dX1_about_63 : decode cX1_about 63 = .ok (.getfield 16, 3) := dk_180 0 16 (dk_at dksX1_about_2 15 rfl rfl)
theorem dX1_about_66 : decode cX1_about 66 = .ok (.iload_n 1, 1) := dk_27 (dk_at dksX1_about_2 18 rfl rfl)
theorem dX1_about_67 : decode cX1_about 67 = .ok (.iaload, 1) := dk_46 (dk_at dksX1_about_2 19 rfl rfl)
theorem dX1_about_68 : decode cX1_about 68 = .ok (.ireturn, 1) := dk_172 (dk_at dksX1_about_2 20 rfl rfl)
theorem dX1_about_69 : decode cX1_about 69 = .ok (.aload_n 0, 1) := dk_42 (dk_at dksX1_about_2 21 rfl rfl)
theorem dX1_about_70 : decode cX1_about 70 = .ok (.getfield 19, 3) := dk_180 0 19 (dk_at dksX1_about_3 0 rfl rfl)
theorem dX1_about_73 : decode cX1_about 73 = .ok (.iload_n 1, 1) := dk_27 (dk_at dksX1_about_3 3 rfl rfl)
theorem dX1_about_74 : decode cX1_about 74 = .ok (.iaload, 1) := dk_46 (dk_at dksX1_about_3 4 rfl rfl)
theorem dX1_about_75 : decode cX1_about 75 = .ok (.ireturn, 1) := dk_172 (dk_at dksX1_about_3 5 rfl rfl)
theorem dX1_about_76 : decode cX1_about 76 = .ok (.aload_n 0, 1) := dk_42 (dk_at dksX1_about_3 6 rfl rfl)
theorem dX1_about_77 : decode cX1_about 77 = .ok (.getfield 22, 3) := dk_180 0 22 (dk_at dksX1_about_3 7 rfl rfl)
theorem dX1_about_80 : decode cX1_about 80 = .ok (.iload_n 1, 1) := dk_27 (dk_at dksX1_about_3 10 rfl rfl)
theorem dX1_about_81 : decode cX1_about 81 = .ok (.baload, 1) := dk_51 (dk_at dksX1_about_3 11 rfl rfl)
theorem dX1_about_82 : decode cX1_about 82 = .ok (.ifCond .ne 12, 3) := dk_154 0 12 (dk_at dksX1_about_3 12 rfl rfl)
theorem dX1_about_85 : decode cX1_about 85 = .ok (.aload_n 0, 1) := dk_42 (dk_at dksX1_about_3 15 rfl rfl)
theorem dX1_about_86 : decode cX1_about 86 = .ok (.getfield 26, 3) := dk_180 0 26 (dk_at dksX1_about_3 16 rfl rfl)
theorem dX1_about_89 : decode cX1_about 89 = .ok (.iload_n 1, 1) := dk_27 (dk_at dksX1_about_3 19 rfl rfl)
theorem dX1_about_90 : decode cX1_about 90 = .ok (.baload, 1) := dk_51 (dk_at dksX1_about_3 20 rfl rfl)
theorem dX1_about_91 : decode cX1_about 91 = .ok (.ifCond .eq 7, 3) := dk_153 0 7 (dk_at dksX1_about_3 21 rfl rfl)
theorem dX1_about_94 : decode cX1_about 94 = .ok (.iconst 1, 1) := dk_4 (dk_at dksX1_about_4 0 rfl rfl)
theorem dX1_about_95 : decode cX1_about 95 = .ok (.goto 4, 3) := dk_167 0 4 (dk_at dksX1_about_4 1 rfl rfl)
theorem dX1_about_98 : decode cX1_about 98 = .ok (.iconst 0, 1) := dk_3 (dk_at dksX1_about_4 4 rfl rfl)
theorem dX1_about_99 : decode cX1_about 99 = .ok (.ireturn, 1) := dk_172 (dk_at dksX1_about_4 5 rfl rfl)
theorem dX1_about_100 : decode cX1_about 100 = .ok (.iconst 0, 1) := dk_3 (dk_at dksX1_about_4 6 rfl rfl)
theorem dX1_about_101 : decode cX1_about 101 = .ok (.istore_n 3, 1) := dk_62 (dk_at dksX1_about_4 7 rfl rfl)
theorem dX1_about_102 : decode cX1_about 102 = .ok (.iload_n 3, 1) := dk_29 (dk_at dksX1_about_4 8 rfl rfl)
theorem dX1_about_103 : decode cX1_about 103 = .ok (.aload_n 0, 1) := dk_42 (dk_at dksX1_about_4 9 rfl rfl)
theorem dX1_about_104 : decode cX1_about 104 = .ok (.getfield 95, 3) := dk_180 0 95 (dk_at dksX1_about_4 10 rfl rfl)
theorem dX1_about_107 : decode cX1_about 107 = .ok (.if_icmp .ge 21, 3) := dk_162 0 21 (dk_at dksX1_about_4 13 rfl rfl)
theorem dX1_about_110 : decode cX1_about 110 = .ok (.aload_n 0, 1) := dk_42 (dk_at dksX1_about_4 16 rfl rfl)
theorem dX1_about_111 : decode cX1_about 111 = .ok (.getfield 59, 3) := dk_180 0 59 (dk_at dksX1_about_4 17 rfl rfl)
theorem dX1_about_114 : decode cX1_about 114 = .ok (.iload_n 3, 1) := dk_29 (dk_at dksX1_about_4 20 rfl rfl)
theorem dX1_about_115 : decode cX1_about 115 = .ok (.iaload, 1) := dk_46 (dk_at dksX1_about_4 21 rfl rfl)
theorem dX1_about_116 : decode cX1_about 116 = .ok (.iload_n 1, 1) := dk_27 (dk_at dksX1_about_4 22 rfl rfl)
theorem dX1_about_117 : decode cX1_about 117 = .ok (.if_icmp .ne 5, 3) := dk_160 0 5 (dk_at dksX1_about_5 0 rfl rfl)
theorem dX1_about_120 : decode cX1_about 120 = .ok (.iload_n 3, 1) := dk_29 (dk_at dksX1_about_5 3 rfl rfl)
theorem dX1_about_121 : decode cX1_about 121 = .ok (.ireturn, 1) := dk_172 (dk_at dksX1_about_5 4 rfl rfl)
theorem dX1_about_122 : decode cX1_about 122 = .ok (.iinc 3 1, 3) := dk_132 3 1 (dk_at dksX1_about_5 5 rfl rfl)
theorem dX1_about_125 : decode cX1_about 125 = .ok (.goto (-23), 3) := dk_167 255 233 (dk_at dksX1_about_5 8 rfl rfl)
theorem dX1_about_128 : decode cX1_about 128 = .ok (.bipush (-9), 2) := dk_16 247 (dk_at dksX1_about_5 11 rfl rfl)
theorem dX1_about_130 : decode cX1_about 130 = .ok (.ireturn, 1) := dk_172 (dk_at dksX1_about_5 13 rfl rfl)
theorem dX1_about_131 : decode cX1_about 131 = .ok (.bipush (-2), 2) := dk_16 254 (dk_at dksX1_about_5 14 rfl rfl)
theorem dX1_about_133 : decode cX1_about 133 = .ok (.ireturn, 1) := dk_172 (dk_at dksX1_about_5 16 rfl rfl)
abbrev cX1_sheet : ByteArray := prog_12_method_15_code
def yX1_sheet : MethodName := ⟨RX1, "sheet", "(III)I"⟩
def dkwX1_sheet_4 : List UInt8 := [182, 0, 128, 172]
abbrev dktX1_sheet_4 : List UInt8 := dkwX1_sheet_4 ++ []
def dkwX1_sheet_3 : List UInt8 := [162, 0, 22, 42, 180, 0, 35, 16, 32, 27, 104, 21, 4, 96, 3, 79, 132, 4, 1, 167, 255, 234, 42, 4]
abbrev dktX1_sheet_3 : List UInt8 := dkwX1_sheet_3 ++ dktX1_sheet_4
def dkwX1_sheet_2 : List UInt8 := [182, 0, 132, 172, 42, 180, 0, 29, 27, 29, 79, 42, 180, 0, 32, 27, 28, 79, 3, 54, 4, 21, 4, 29]
abbrev dktX1_sheet_2 : List UInt8 := dkwX1_sheet_2 ++ dktX1_sheet_3
def dkwX1_sheet_1 : List UInt8 := [153, 0, 9, 29, 16, 32, 164, 0, 10, 42, 16, 254, 182, 0, 128, 172, 29, 156, 0, 9, 42, 7]
abbrev dktX1_sheet_1 : List UInt8 := dkwX1_sheet_1 ++ dktX1_sheet_2
def dkwX1_sheet_0 : List UInt8 := [27, 184, 0, 137, 153, 0, 9, 42, 2, 182, 0, 128, 172, 28, 133, 9, 20, 0, 123, 184, 0, 111]
abbrev dktX1_sheet_0 : List UInt8 := dkwX1_sheet_0 ++ dktX1_sheet_1
theorem dksX1_sheet_0 : cX1_sheet.data.toList.drop 0 = dktX1_sheet_0 := by decide +kernel
theorem dksX1_sheet_1 : cX1_sheet.data.toList.drop 22 = dktX1_sheet_1 := dk_seg dksX1_sheet_0 22 rfl rfl
theorem dksX1_sheet_2 : cX1_sheet.data.toList.drop 44 = dktX1_sheet_2 := dk_seg dksX1_sheet_1 22 rfl rfl
theorem dksX1_sheet_3 : cX1_sheet.data.toList.drop 68 = dktX1_sheet_3 := dk_seg dksX1_sheet_2 24 rfl rfl
theorem dksX1_sheet_4 : cX1_sheet.data.toList.drop 92 = dktX1_sheet_4 := dk_seg dksX1_sheet_3 24 rfl rfl
theorem dX1_sheet_0 : decode cX1_sheet 0 = .ok (.iload_n 1, 1) := dk_27 (dk_at dksX1_sheet_0 0 rfl rfl)
theorem dX1_sheet_1 : decode cX1_sheet 1 = .ok (.invokestatic 137, 3) := dk_184 0 137 (dk_at dksX1_sheet_0 1 rfl rfl)
theorem dX1_sheet_4 : decode cX1_sheet 4 = .ok (.ifCond .eq 9, 3) := dk_153 0 9 (dk_at dksX1_sheet_0 4 rfl rfl)
theorem dX1_sheet_7 : decode cX1_sheet 7 = .ok (.aload_n 0, 1) := dk_42 (dk_at dksX1_sheet_0 7 rfl rfl)
theorem dX1_sheet_8 : decode cX1_sheet 8 = .ok (.iconst (-1), 1) := dk_2 (dk_at dksX1_sheet_0 8 rfl rfl)
theorem dX1_sheet_9 : decode cX1_sheet 9 = .ok (.invokevirtual 128, 3) := dk_182 0 128 (dk_at dksX1_sheet_0 9 rfl rfl)
theorem dX1_sheet_12 : decode cX1_sheet 12 = .ok (.ireturn, 1) := dk_172 (dk_at dksX1_sheet_0 12 rfl rfl)
theorem dX1_sheet_13 : decode cX1_sheet 13 = .ok (.iload_n 2, 1) := dk_28 (dk_at dksX1_sheet_0 13 rfl rfl)
theorem dX1_sheet_14 : decode cX1_sheet 14 = .ok (.i2l, 1) := dk_133 (dk_at dksX1_sheet_0 14 rfl rfl)
theorem dX1_sheet_15 : decode cX1_sheet 15 = .ok (.lconst 0, 1) := dk_9 (dk_at dksX1_sheet_0 15 rfl rfl)
theorem dX1_sheet_16 : decode cX1_sheet 16 = .ok (.ldc2_w 123, 3) := dk_20 0 123 (dk_at dksX1_sheet_0 16 rfl rfl)
theorem dX1_sheet_19 : decode cX1_sheet 19 = .ok (.invokestatic 111, 3) := dk_184 0 111 (dk_at dksX1_sheet_0 19 rfl rfl)
theorem dX1_sheet_22 : decode cX1_sheet 22 = .ok (.ifCond .eq 9, 3) := dk_153 0 9 (dk_at dksX1_sheet_1 0 rfl rfl)
theorem dX1_sheet_25 : decode cX1_sheet 25 = .ok (.iload_n 3, 1) := dk_29 (dk_at dksX1_sheet_1 3 rfl rfl)
theorem dX1_sheet_26 : decode cX1_sheet 26 = .ok (.bipush 32, 2) := dk_16 32 (dk_at dksX1_sheet_1 4 rfl rfl)
theorem dX1_sheet_28 : decode cX1_sheet 28 = .ok (.if_icmp .le 10, 3) := dk_164 0 10 (dk_at dksX1_sheet_1 6 rfl rfl)
theorem dX1_sheet_31 : decode cX1_sheet 31 = .ok (.aload_n 0, 1) := dk_42 (dk_at dksX1_sheet_1 9 rfl rfl)
theorem dX1_sheet_32 : decode cX1_sheet 32 = .ok (.bipush (-2), 2) := dk_16 254 (dk_at dksX1_sheet_1 10 rfl rfl)
theorem dX1_sheet_34 : decode cX1_sheet 34 = .ok (.invokevirtual 128, 3) := dk_182 0 128 (dk_at dksX1_sheet_1 12 rfl rfl)
theorem dX1_sheet_37 : decode cX1_sheet 37 = .ok (.ireturn, 1) := dk_172 (dk_at dksX1_sheet_1 15 rfl rfl)
theorem dX1_sheet_38 : decode cX1_sheet 38 = .ok (.iload_n 3, 1) := dk_29 (dk_at dksX1_sheet_1 16 rfl rfl)
theorem dX1_sheet_39 : decode cX1_sheet 39 = .ok (.ifCond .ge 9, 3) := dk_156 0 9 (dk_at dksX1_sheet_1 17 rfl rfl)
theorem dX1_sheet_42 : decode cX1_sheet 42 = .ok (.aload_n 0, 1) := dk_42 (dk_at dksX1_sheet_1 20 rfl rfl)
theorem dX1_sheet_43 : decode cX1_sheet 43 = .ok (.iconst 4, 1) := dk_7 (dk_at dksX1_sheet_1 21 rfl rfl)
theorem dX1_sheet_44 : decode cX1_sheet 44 = .ok (.invokevirtual 132, 3) := dk_182 0 132 (dk_at dksX1_sheet_2 0 rfl rfl)
theorem dX1_sheet_47 : decode cX1_sheet 47 = .ok (.ireturn, 1) := dk_172 (dk_at dksX1_sheet_2 3 rfl rfl)
theorem dX1_sheet_48 : decode cX1_sheet 48 = .ok (.aload_n 0, 1) := dk_42 (dk_at dksX1_sheet_2 4 rfl rfl)
theorem dX1_sheet_49 : decode cX1_sheet 49 = .ok (.getfield 29, 3) := dk_180 0 29 (dk_at dksX1_sheet_2 5 rfl rfl)
theorem dX1_sheet_52 : decode cX1_sheet 52 = .ok (.iload_n 1, 1) := dk_27 (dk_at dksX1_sheet_2 8 rfl rfl)
theorem dX1_sheet_53 : decode cX1_sheet 53 = .ok (.iload_n 3, 1) := dk_29 (dk_at dksX1_sheet_2 9 rfl rfl)
theorem dX1_sheet_54 : decode cX1_sheet 54 = .ok (.iastore, 1) := dk_79 (dk_at dksX1_sheet_2 10 rfl rfl)
theorem dX1_sheet_55 : decode cX1_sheet 55 = .ok (.aload_n 0, 1) := dk_42 (dk_at dksX1_sheet_2 11 rfl rfl)
theorem dX1_sheet_56 : decode cX1_sheet 56 = .ok (.getfield 32, 3) := dk_180 0 32 (dk_at dksX1_sheet_2 12 rfl rfl)
theorem dX1_sheet_59 : decode cX1_sheet 59 = .ok (.iload_n 1, 1) := dk_27 (dk_at dksX1_sheet_2 15 rfl rfl)
theorem dX1_sheet_60 : decode cX1_sheet 60 = .ok (.iload_n 2, 1) := dk_28 (dk_at dksX1_sheet_2 16 rfl rfl)
theorem dX1_sheet_61 : decode cX1_sheet 61 = .ok (.iastore, 1) := dk_79 (dk_at dksX1_sheet_2 17 rfl rfl)
theorem dX1_sheet_62 : decode cX1_sheet 62 = .ok (.iconst 0, 1) := dk_3 (dk_at dksX1_sheet_2 18 rfl rfl)
theorem dX1_sheet_63 : decode cX1_sheet 63 = .ok (.istore 4, 2) := dk_54 4 (dk_at dksX1_sheet_2 19 rfl rfl)
theorem dX1_sheet_65 : decode cX1_sheet 65 = .ok (.iload 4, 2) := dk_21 4 (dk_at dksX1_sheet_2 21 rfl rfl)
theorem dX1_sheet_67 : decode cX1_sheet 67 = .ok (.iload_n 3, 1) := dk_29 (dk_at dksX1_sheet_2 23 rfl rfl)
theorem dX1_sheet_68 : decode cX1_sheet 68 = .ok (.if_icmp .ge 22, 3) := dk_162 0 22 (dk_at dksX1_sheet_3 0 rfl rfl)
theorem dX1_sheet_71 : decode cX1_sheet 71 = .ok (.aload_n 0, 1) := dk_42 (dk_at dksX1_sheet_3 3 rfl rfl)
theorem dX1_sheet_72 : decode cX1_sheet 72 = .ok (.getfield 35, 3) := dk_180 0 35 (dk_at dksX1_sheet_3 4 rfl rfl)
theorem dX1_sheet_75 : decode cX1_sheet 75 = .ok (.bipush 32, 2) := dk_16 32 (dk_at dksX1_sheet_3 7 rfl rfl)
theorem dX1_sheet_77 : decode cX1_sheet 77 = .ok (.iload_n 1, 1) := dk_27 (dk_at dksX1_sheet_3 9 rfl rfl)
theorem dX1_sheet_78 : decode cX1_sheet 78 = .ok (.imul, 1) := dk_104 (dk_at dksX1_sheet_3 10 rfl rfl)
theorem dX1_sheet_79 : decode cX1_sheet 79 = .ok (.iload 4, 2) := dk_21 4 (dk_at dksX1_sheet_3 11 rfl rfl)
theorem dX1_sheet_81 : decode cX1_sheet 81 = .ok (.iadd, 1) := dk_96 (dk_at dksX1_sheet_3 13 rfl rfl)
theorem dX1_sheet_82 : decode cX1_sheet 82 = .ok (.iconst 0, 1) := dk_3 (dk_at dksX1_sheet_3 14 rfl rfl)
theorem dX1_sheet_83 : decode cX1_sheet 83 = .ok (.iastore, 1) := dk_79 (dk_at dksX1_sheet_3 15 rfl rfl)
theorem dX1_sheet_84 : decode cX1_sheet 84 = .ok (.iinc 4 1, 3) := dk_132 4 1 (dk_at dksX1_sheet_3 16 rfl rfl)
theorem dX1_sheet_87 : decode cX1_sheet 87 = .ok (.goto (-22), 3) := dk_167 255 234 (dk_at dksX1_sheet_3 19 rfl rfl)
theorem dX1_sheet_90 : decode cX1_sheet 90 = .ok (.aload_n 0, 1) := dk_42 (dk_at dksX1_sheet_3 22 rfl rfl)
theorem dX1_sheet_91 : decode cX1_sheet 91 = .ok (.iconst 1, 1) := dk_4 (dk_at dksX1_sheet_3 23 rfl rfl)
theorem dX1_sheet_92 : decode cX1_sheet 92 = .ok (.invokevirtual 128, 3) := dk_182 0 128 (dk_at dksX1_sheet_4 0 rfl rfl)
theorem dX1_sheet_95 : decode cX1_sheet 95 = .ok (.ireturn, 1) := dk_172 (dk_at dksX1_sheet_4 3 rfl rfl)
abbrev cX1_noSheet : ByteArray := prog_12_method_14_code
def yX1_noSheet : MethodName := ⟨RX1, "noSheet", "(I)Z"⟩
def dkwX1_noSheet_0 : List UInt8 := [26, 133, 9, 20, 0, 135, 184, 0, 111, 154, 0, 7, 4, 167, 0, 4, 3, 172]
abbrev dktX1_noSheet_0 : List UInt8 := dkwX1_noSheet_0 ++ []
theorem dksX1_noSheet_0 : cX1_noSheet.data.toList.drop 0 = dktX1_noSheet_0 := by decide +kernel
theorem dX1_noSheet_0 : decode cX1_noSheet 0 = .ok (.iload_n 0, 1) := dk_26 (dk_at dksX1_noSheet_0 0 rfl rfl)
theorem dX1_noSheet_1 : decode cX1_noSheet 1 = .ok (.i2l, 1) := dk_133 (dk_at dksX1_noSheet_0 1 rfl rfl)
theorem dX1_noSheet_2 : decode cX1_noSheet 2 = .ok (.lconst 0, 1) := dk_9 (dk_at dksX1_noSheet_0 2 rfl rfl)
theorem dX1_noSheet_3 : decode cX1_noSheet 3 = .ok (.ldc2_w 135, 3) := dk_20 0 135 (dk_at dksX1_noSheet_0 3 rfl rfl)
theorem dX1_noSheet_6 : decode cX1_noSheet 6 = .ok (.invokestatic 111, 3) := dk_184 0 111 (dk_at dksX1_noSheet_0 6 rfl rfl)
theorem dX1_noSheet_9 : decode cX1_noSheet 9 = .ok (.ifCond .ne 7, 3) := dk_154 0 7 (dk_at dksX1_noSheet_0 9 rfl rfl)
theorem dX1_noSheet_12 : decode cX1_noSheet 12 = .ok (.iconst 1, 1) := dk_4 (dk_at dksX1_noSheet_0 12 rfl rfl)
theorem dX1_noSheet_13 : decode cX1_noSheet 13 = .ok (.goto 4, 3) := dk_167 0 4 (dk_at dksX1_noSheet_0 13 rfl rfl)
theorem dX1_noSheet_16 : decode cX1_noSheet 16 = .ok (.iconst 0, 1) := dk_3 (dk_at dksX1_noSheet_0 16 rfl rfl)
theorem dX1_noSheet_17 : decode cX1_noSheet 17 = .ok (.ireturn, 1) := dk_172 (dk_at dksX1_noSheet_0 17 rfl rfl)
abbrev cX1_lose : ByteArray := prog_12_method_16_code
def yX1_lose : MethodName := ⟨RX1, "lose", "(I)I"⟩
def dkwX1_lose_1 : List UInt8 := [42, 180, 0, 29, 27, 2, 79, 28, 172]
abbrev dktX1_lose_1 : List UInt8 := dkwX1_lose_1 ++ []
def dkwX1_lose_0 : List UInt8 := [27, 184, 0, 137, 153, 0, 5, 2, 172, 42, 180, 0, 29, 27, 46, 156, 0, 7, 3, 167, 0, 4, 4, 61]
abbrev dktX1_lose_0 : List UInt8 := dkwX1_lose_0 ++ dktX1_lose_1
theorem dksX1_lose_0 : cX1_lose.data.toList.drop 0 = dktX1_lose_0 := by decide +kernel
theorem dksX1_lose_1 : cX1_lose.data.toList.drop 24 = dktX1_lose_1 := dk_seg dksX1_lose_0 24 rfl rfl
theorem dX1_lose_0 : decode cX1_lose 0 = .ok (.iload_n 1, 1) := dk_27 (dk_at dksX1_lose_0 0 rfl rfl)
theorem dX1_lose_1 : decode cX1_lose 1 = .ok (.invokestatic 137, 3) := dk_184 0 137 (dk_at dksX1_lose_0 1 rfl rfl)
theorem dX1_lose_4 : decode cX1_lose 4 = .ok (.ifCond .eq 5, 3) := dk_153 0 5 (dk_at dksX1_lose_0 4 rfl rfl)
theorem dX1_lose_7 : decode cX1_lose 7 = .ok (.iconst (-1), 1) := dk_2 (dk_at dksX1_lose_0 7 rfl rfl)
theorem dX1_lose_8 : decode cX1_lose 8 = .ok (.ireturn, 1) := dk_172 (dk_at dksX1_lose_0 8 rfl rfl)
theorem dX1_lose_9 : decode cX1_lose 9 = .ok (.aload_n 0, 1) := dk_42 (dk_at dksX1_lose_0 9 rfl rfl)
theorem dX1_lose_10 : decode cX1_lose 10 = .ok (.getfield 29, 3) := dk_180 0 29 (dk_at dksX1_lose_0 10 rfl rfl)
theorem dX1_lose_13 : decode cX1_lose 13 = .ok (.iload_n 1, 1) := dk_27 (dk_at dksX1_lose_0 13 rfl rfl)
theorem dX1_lose_14 : decode cX1_lose 14 = .ok (.iaload, 1) := dk_46 (dk_at dksX1_lose_0 14 rfl rfl)
theorem dX1_lose_15 : decode cX1_lose 15 = .ok (.ifCond .ge 7, 3) := dk_156 0 7 (dk_at dksX1_lose_0 15 rfl rfl)
theorem dX1_lose_18 : decode cX1_lose 18 = .ok (.iconst 0, 1) := dk_3 (dk_at dksX1_lose_0 18 rfl rfl)
theorem dX1_lose_19 : decode cX1_lose 19 = .ok (.goto 4, 3) := dk_167 0 4 (dk_at dksX1_lose_0 19 rfl rfl)
theorem dX1_lose_22 : decode cX1_lose 22 = .ok (.iconst 1, 1) := dk_4 (dk_at dksX1_lose_0 22 rfl rfl)
theorem dX1_lose_23 : decode cX1_lose 23 = .ok (.istore_n 2, 1) := dk_61 (dk_at dksX1_lose_0 23 rfl rfl)
theorem dX1_lose_24 : decode cX1_lose 24 = .ok (.aload_n 0, 1) := dk_42 (dk_at dksX1_lose_1 0 rfl rfl)
theorem dX1_lose_25 : decode cX1_lose 25 = .ok (.getfield 29, 3) := dk_180 0 29 (dk_at dksX1_lose_1 1 rfl rfl)
theorem dX1_lose_28 : decode cX1_lose 28 = .ok (.iload_n 1, 1) := dk_27 (dk_at dksX1_lose_1 4 rfl rfl)
theorem dX1_lose_29 : decode cX1_lose 29 = .ok (.iconst (-1), 1) := dk_2 (dk_at dksX1_lose_1 5 rfl rfl)
theorem dX1_lose_30 : decode cX1_lose 30 = .ok (.iastore, 1) := dk_79 (dk_at dksX1_lose_1 6 rfl rfl)
theorem dX1_lose_31 : decode cX1_lose 31 = .ok (.iload_n 2, 1) := dk_28 (dk_at dksX1_lose_1 7 rfl rfl)
theorem dX1_lose_32 : decode cX1_lose 32 = .ok (.ireturn, 1) := dk_172 (dk_at dksX1_lose_1 8 rfl rfl)
abbrev cX1_put : ByteArray := prog_12_method_18_code
def yX1_put : MethodName := ⟨RX1, "put", "(III)I"⟩
def dkwX1_put_3 : List UInt8 := [29, 79, 42, 4, 182, 0, 128, 172]
abbrev dktX1_put_3 : List UInt8 := dkwX1_put_3 ++ []
def dkwX1_put_2 : List UInt8 := [46, 154, 0, 8, 29, 145, 167, 0, 19, 42, 180, 0, 32, 27, 46, 4, 160, 0, 8, 29, 147, 167, 0, 4]
abbrev dktX1_put_2 : List UInt8 := dkwX1_put_2 ++ dktX1_put_3
def dkwX1_put_1 : List UInt8 := [27, 28, 182, 0, 140, 182, 0, 132, 172, 42, 180, 0, 35, 16, 32, 27, 104, 28, 96, 42, 180, 0, 32, 27]
abbrev dktX1_put_1 : List UInt8 := dkwX1_put_1 ++ dktX1_put_2
def dkwX1_put_0 : List UInt8 := [27, 184, 0, 137, 153, 0, 9, 42, 2, 182, 0, 128, 172, 42, 27, 28, 182, 0, 140, 158, 0, 14, 42, 42]
abbrev dktX1_put_0 : List UInt8 := dkwX1_put_0 ++ dktX1_put_1
theorem dksX1_put_0 : cX1_put.data.toList.drop 0 = dktX1_put_0 := by decide +kernel
theorem dksX1_put_1 : cX1_put.data.toList.drop 24 = dktX1_put_1 := dk_seg dksX1_put_0 24 rfl rfl
theorem dksX1_put_2 : cX1_put.data.toList.drop 48 = dktX1_put_2 := dk_seg dksX1_put_1 24 rfl rfl
theorem dksX1_put_3 : cX1_put.data.toList.drop 72 = dktX1_put_3 := dk_seg dksX1_put_2 24 rfl rfl
theorem dX1_put_0 : decode cX1_put 0 = .ok (.iload_n 1, 1) := dk_27 (dk_at dksX1_put_0 0 rfl rfl)
theorem dX1_put_1 : decode cX1_put 1 = .ok (.invokestatic 137, 3) := dk_184 0 137 (dk_at dksX1_put_0 1 rfl rfl)
theorem dX1_put_4 : decode cX1_put 4 = .ok (.ifCond .eq 9, 3) := dk_153 0 9 (dk_at dksX1_put_0 4 rfl rfl)
theorem dX1_put_7 : decode cX1_put 7 = .ok (.aload_n 0, 1) := dk_42 (dk_at dksX1_put_0 7 rfl rfl)
theorem dX1_put_8 : decode cX1_put 8 = .ok (.iconst (-1), 1) := dk_2 (dk_at dksX1_put_0 8 rfl rfl)
theorem dX1_put_9 : decode cX1_put 9 = .ok (.invokevirtual 128, 3) := dk_182 0 128 (dk_at dksX1_put_0 9 rfl rfl)
theorem dX1_put_12 : decode cX1_put 12 = .ok (.ireturn, 1) := dk_172 (dk_at dksX1_put_0 12 rfl rfl)
theorem dX1_put_13 : decode cX1_put 13 = .ok (.aload_n 0, 1) := dk_42 (dk_at dksX1_put_0 13 rfl rfl)
theorem dX1_put_14 : decode cX1_put 14 = .ok (.iload_n 1, 1) := dk_27 (dk_at dksX1_put_0 14 rfl rfl)
theorem dX1_put_15 : decode cX1_put 15 = .ok (.iload_n 2, 1) := dk_28 (dk_at dksX1_put_0 15 rfl rfl)
theorem dX1_put_16 : decode cX1_put 16 = .ok (.invokevirtual 140, 3) := dk_182 0 140 (dk_at dksX1_put_0 16 rfl rfl)
theorem dX1_put_19 : decode cX1_put 19 = .ok (.ifCond .le 14, 3) := dk_158 0 14 (dk_at dksX1_put_0 19 rfl rfl)
theorem dX1_put_22 : decode cX1_put 22 = .ok (.aload_n 0, 1) := dk_42 (dk_at dksX1_put_0 22 rfl rfl)
theorem dX1_put_23 : decode cX1_put 23 = .ok (.aload_n 0, 1) := dk_42 (dk_at dksX1_put_0 23 rfl rfl)
theorem dX1_put_24 : decode cX1_put 24 = .ok (.iload_n 1, 1) := dk_27 (dk_at dksX1_put_1 0 rfl rfl)
theorem dX1_put_25 : decode cX1_put 25 = .ok (.iload_n 2, 1) := dk_28 (dk_at dksX1_put_1 1 rfl rfl)
theorem dX1_put_26 : decode cX1_put 26 = .ok (.invokevirtual 140, 3) := dk_182 0 140 (dk_at dksX1_put_1 2 rfl rfl)
theorem dX1_put_29 : decode cX1_put 29 = .ok (.invokevirtual 132, 3) := dk_182 0 132 (dk_at dksX1_put_1 5 rfl rfl)
theorem dX1_put_32 : decode cX1_put 32 = .ok (.ireturn, 1) := dk_172 (dk_at dksX1_put_1 8 rfl rfl)
theorem dX1_put_33 : decode cX1_put 33 = .ok (.aload_n 0, 1) := dk_42 (dk_at dksX1_put_1 9 rfl rfl)
theorem dX1_put_34 : decode cX1_put 34 = .ok (.getfield 35, 3) := dk_180 0 35 (dk_at dksX1_put_1 10 rfl rfl)
theorem dX1_put_37 : decode cX1_put 37 = .ok (.bipush 32, 2) := dk_16 32 (dk_at dksX1_put_1 13 rfl rfl)
theorem dX1_put_39 : decode cX1_put 39 = .ok (.iload_n 1, 1) := dk_27 (dk_at dksX1_put_1 15 rfl rfl)
theorem dX1_put_40 : decode cX1_put 40 = .ok (.imul, 1) := dk_104 (dk_at dksX1_put_1 16 rfl rfl)
theorem dX1_put_41 : decode cX1_put 41 = .ok (.iload_n 2, 1) := dk_28 (dk_at dksX1_put_1 17 rfl rfl)
theorem dX1_put_42 : decode cX1_put 42 = .ok (.iadd, 1) := dk_96 (dk_at dksX1_put_1 18 rfl rfl)
theorem dX1_put_43 : decode cX1_put 43 = .ok (.aload_n 0, 1) := dk_42 (dk_at dksX1_put_1 19 rfl rfl)
theorem dX1_put_44 : decode cX1_put 44 = .ok (.getfield 32, 3) := dk_180 0 32 (dk_at dksX1_put_1 20 rfl rfl)
theorem dX1_put_47 : decode cX1_put 47 = .ok (.iload_n 1, 1) := dk_27 (dk_at dksX1_put_1 23 rfl rfl)
theorem dX1_put_48 : decode cX1_put 48 = .ok (.iaload, 1) := dk_46 (dk_at dksX1_put_2 0 rfl rfl)
theorem dX1_put_49 : decode cX1_put 49 = .ok (.ifCond .ne 8, 3) := dk_154 0 8 (dk_at dksX1_put_2 1 rfl rfl)
theorem dX1_put_52 : decode cX1_put 52 = .ok (.iload_n 3, 1) := dk_29 (dk_at dksX1_put_2 4 rfl rfl)
theorem dX1_put_53 : decode cX1_put 53 = .ok (.i2b, 1) := dk_145 (dk_at dksX1_put_2 5 rfl rfl)
theorem dX1_put_54 : decode cX1_put 54 = .ok (.goto 19, 3) := dk_167 0 19 (dk_at dksX1_put_2 6 rfl rfl)
theorem dX1_put_57 : decode cX1_put 57 = .ok (.aload_n 0, 1) := dk_42 (dk_at dksX1_put_2 9 rfl rfl)
theorem dX1_put_58 : decode cX1_put 58 = .ok (.getfield 32, 3) := dk_180 0 32 (dk_at dksX1_put_2 10 rfl rfl)
theorem dX1_put_61 : decode cX1_put 61 = .ok (.iload_n 1, 1) := dk_27 (dk_at dksX1_put_2 13 rfl rfl)
theorem dX1_put_62 : decode cX1_put 62 = .ok (.iaload, 1) := dk_46 (dk_at dksX1_put_2 14 rfl rfl)
theorem dX1_put_63 : decode cX1_put 63 = .ok (.iconst 1, 1) := dk_4 (dk_at dksX1_put_2 15 rfl rfl)
theorem dX1_put_64 : decode cX1_put 64 = .ok (.if_icmp .ne 8, 3) := dk_160 0 8 (dk_at dksX1_put_2 16 rfl rfl)
theorem dX1_put_67 : decode cX1_put 67 = .ok (.iload_n 3, 1) := dk_29 (dk_at dksX1_put_2 19 rfl rfl)
theorem dX1_put_68 : decode cX1_put 68 = .ok (.i2s, 1) := dk_147 (dk_at dksX1_put_2 20 rfl rfl)
theorem dX1_put_69 : decode cX1_put 69 = .ok (.goto 4, 3) := dk_167 0 4 (dk_at dksX1_put_2 21 rfl rfl)
theorem dX1_put_72 : decode cX1_put 72 = .ok (.iload_n 3, 1) := dk_29 (dk_at dksX1_put_3 0 rfl rfl)
theorem dX1_put_73 : decode cX1_put 73 = .ok (.iastore, 1) := dk_79 (dk_at dksX1_put_3 1 rfl rfl)
theorem dX1_put_74 : decode cX1_put 74 = .ok (.aload_n 0, 1) := dk_42 (dk_at dksX1_put_3 2 rfl rfl)
theorem dX1_put_75 : decode cX1_put 75 = .ok (.iconst 1, 1) := dk_4 (dk_at dksX1_put_3 3 rfl rfl)
theorem dX1_put_76 : decode cX1_put 76 = .ok (.invokevirtual 128, 3) := dk_182 0 128 (dk_at dksX1_put_3 4 rfl rfl)
theorem dX1_put_79 : decode cX1_put 79 = .ok (.ireturn, 1) := dk_172 (dk_at dksX1_put_3 7 rfl rfl)
abbrev cX1_noCell : ByteArray := prog_12_method_17_code
def yX1_noCell : MethodName := ⟨RX1, "noCell", "(II)I"⟩
def dkwX1_noCell_1 : List UInt8 := [101, 184, 0, 111, 153, 0, 7, 3, 167, 0, 4, 6, 172]
abbrev dktX1_noCell_1 : List UInt8 := dkwX1_noCell_1 ++ []
def dkwX1_noCell_0 : List UInt8 := [42, 180, 0, 29, 27, 46, 156, 0, 7, 4, 167, 0, 26, 28, 133, 9, 42, 180, 0, 29, 27, 46, 133, 10]
abbrev dktX1_noCell_0 : List UInt8 := dkwX1_noCell_0 ++ dktX1_noCell_1
theorem dksX1_noCell_0 : cX1_noCell.data.toList.drop 0 = dktX1_noCell_0 := by decide +kernel
theorem dksX1_noCell_1 : cX1_noCell.data.toList.drop 24 = dktX1_noCell_1 := dk_seg dksX1_noCell_0 24 rfl rfl
theorem dX1_noCell_0 : decode cX1_noCell 0 = .ok (.aload_n 0, 1) := dk_42 (dk_at dksX1_noCell_0 0 rfl rfl)
theorem dX1_noCell_1 : decode cX1_noCell 1 = .ok (.getfield 29, 3) := dk_180 0 29 (dk_at dksX1_noCell_0 1 rfl rfl)
theorem dX1_noCell_4 : decode cX1_noCell 4 = .ok (.iload_n 1, 1) := dk_27 (dk_at dksX1_noCell_0 4 rfl rfl)
theorem dX1_noCell_5 : decode cX1_noCell 5 = .ok (.iaload, 1) := dk_46 (dk_at dksX1_noCell_0 5 rfl rfl)
theorem dX1_noCell_6 : decode cX1_noCell 6 = .ok (.ifCond .ge 7, 3) := dk_156 0 7 (dk_at dksX1_noCell_0 6 rfl rfl)
theorem dX1_noCell_9 : decode cX1_noCell 9 = .ok (.iconst 1, 1) := dk_4 (dk_at dksX1_noCell_0 9 rfl rfl)
theorem dX1_noCell_10 : decode cX1_noCell 10 = .ok (.goto 26, 3) := dk_167 0 26 (dk_at dksX1_noCell_0 10 rfl rfl)
theorem dX1_noCell_13 : decode cX1_noCell 13 = .ok (.iload_n 2, 1) := dk_28 (dk_at dksX1_noCell_0 13 rfl rfl)
theorem dX1_noCell_14 : decode cX1_noCell 14 = .ok (.i2l, 1) := dk_133 (dk_at dksX1_noCell_0 14 rfl rfl)
theorem dX1_noCell_15 : decode cX1_noCell 15 = .ok (.lconst 0, 1) := dk_9 (dk_at dksX1_noCell_0 15 rfl rfl)
theorem dX1_noCell_16 : decode cX1_noCell 16 = .ok (.aload_n 0, 1) := dk_42 (dk_at dksX1_noCell_0 16 rfl rfl)
theorem dX1_noCell_17 : decode cX1_noCell 17 = .ok (.getfield 29, 3) := dk_180 0 29 (dk_at dksX1_noCell_0 17 rfl rfl)
theorem dX1_noCell_20 : decode cX1_noCell 20 = .ok (.iload_n 1, 1) := dk_27 (dk_at dksX1_noCell_0 20 rfl rfl)
theorem dX1_noCell_21 : decode cX1_noCell 21 = .ok (.iaload, 1) := dk_46 (dk_at dksX1_noCell_0 21 rfl rfl)
theorem dX1_noCell_22 : decode cX1_noCell 22 = .ok (.i2l, 1) := dk_133 (dk_at dksX1_noCell_0 22 rfl rfl)
theorem dX1_noCell_23 : decode cX1_noCell 23 = .ok (.lconst 1, 1) := dk_10 (dk_at dksX1_noCell_0 23 rfl rfl)
theorem dX1_noCell_24 : decode cX1_noCell 24 = .ok (.lsub, 1) := dk_101 (dk_at dksX1_noCell_1 0 rfl rfl)
theorem dX1_noCell_25 : decode cX1_noCell 25 = .ok (.invokestatic 111, 3) := dk_184 0 111 (dk_at dksX1_noCell_1 1 rfl rfl)
theorem dX1_noCell_28 : decode cX1_noCell 28 = .ok (.ifCond .eq 7, 3) := dk_153 0 7 (dk_at dksX1_noCell_1 4 rfl rfl)
theorem dX1_noCell_31 : decode cX1_noCell 31 = .ok (.iconst 0, 1) := dk_3 (dk_at dksX1_noCell_1 7 rfl rfl)
theorem dX1_noCell_32 : decode cX1_noCell 32 = .ok (.goto 4, 3) := dk_167 0 4 (dk_at dksX1_noCell_1 8 rfl rfl)
theorem dX1_noCell_35 : decode cX1_noCell 35 = .ok (.iconst 3, 1) := dk_6 (dk_at dksX1_noCell_1 11 rfl rfl)
theorem dX1_noCell_36 : decode cX1_noCell 36 = .ok (.ireturn, 1) := dk_172 (dk_at dksX1_noCell_1 12 rfl rfl)
abbrev cX1_cell : ByteArray := prog_12_method_19_code
def yX1_cell : MethodName := ⟨RX1, "cell", "(III)J"⟩
def dkwX1_cell_3 : List UInt8 := [167, 0, 15, 42, 180, 0, 35, 16, 32, 27, 104, 28, 96, 46, 133, 173]
abbrev dktX1_cell_3 : List UInt8 := dkwX1_cell_3 ++ []
def dkwX1_cell_2 : List UInt8 := [5, 182, 0, 144, 173, 42, 27, 28, 182, 0, 140, 158, 0, 16, 42, 42, 27, 28, 182, 0, 140, 182, 0, 144]
abbrev dktX1_cell_2 : List UInt8 := dkwX1_cell_2 ++ dktX1_cell_3
def dkwX1_cell_1 : List UInt8 := [184, 0, 104, 173, 42, 180, 0, 29, 27, 46, 155, 0, 19, 42, 180, 0, 32, 27, 46, 29, 159, 0, 9, 42]
abbrev dktX1_cell_1 : List UInt8 := dkwX1_cell_1 ++ dktX1_cell_2
def dkwX1_cell_0 : List UInt8 := [42, 3, 181, 0, 101, 27, 184, 0, 137, 154, 0, 15, 29, 133, 9, 20, 0, 123, 184, 0, 111, 154, 0, 7]
abbrev dktX1_cell_0 : List UInt8 := dkwX1_cell_0 ++ dktX1_cell_1
theorem dksX1_cell_0 : cX1_cell.data.toList.drop 0 = dktX1_cell_0 := by decide +kernel
theorem dksX1_cell_1 : cX1_cell.data.toList.drop 24 = dktX1_cell_1 := dk_seg dksX1_cell_0 24 rfl rfl
theorem dksX1_cell_2 : cX1_cell.data.toList.drop 48 = dktX1_cell_2 := dk_seg dksX1_cell_1 24 rfl rfl
theorem dksX1_cell_3 : cX1_cell.data.toList.drop 72 = dktX1_cell_3 := dk_seg dksX1_cell_2 24 rfl rfl
theorem dX1_cell_0 : decode cX1_cell 0 = .ok (.aload_n 0, 1) := dk_42 (dk_at dksX1_cell_0 0 rfl rfl)
theorem dX1_cell_1 : decode cX1_cell 1 = .ok (.iconst 0, 1) := dk_3 (dk_at dksX1_cell_0 1 rfl rfl)
theorem dX1_cell_2 : decode cX1_cell 2 = .ok (.putfield 101, 3) := dk_181 0 101 (dk_at dksX1_cell_0 2 rfl rfl)
theorem dX1_cell_5 : decode cX1_cell 5 = .ok (.iload_n 1, 1) := dk_27 (dk_at dksX1_cell_0 5 rfl rfl)
theorem dX1_cell_6 : decode cX1_cell 6 = .ok (.invokestatic 137, 3) := dk_184 0 137 (dk_at dksX1_cell_0 6 rfl rfl)
theorem dX1_cell_9 : decode cX1_cell 9 = .ok (.ifCond .ne 15, 3) := dk_154 0 15 (dk_at dksX1_cell_0 9 rfl rfl)
theorem dX1_cell_12 : decode cX1_cell 12 = .ok (.iload_n 3, 1) := dk_29 (dk_at dksX1_cell_0 12 rfl rfl)
theorem dX1_cell_13 : decode cX1_cell 13 = .ok (.i2l, 1) := dk_133 (dk_at dksX1_cell_0 13 rfl rfl)
theorem dX1_cell_14 : decode cX1_cell 14 = .ok (.lconst 0, 1) := dk_9 (dk_at dksX1_cell_0 14 rfl rfl)
theorem dX1_cell_15 : decode cX1_cell 15 = .ok (.ldc2_w 123, 3) := dk_20 0 123 (dk_at dksX1_cell_0 15 rfl rfl)
theorem dX1_cell_18 : decode cX1_cell 18 = .ok (.invokestatic 111, 3) := dk_184 0 111 (dk_at dksX1_cell_0 18 rfl rfl)
theorem dX1_cell_21 : decode cX1_cell 21 = .ok (.ifCond .ne 7, 3) := dk_154 0 7 (dk_at dksX1_cell_0 21 rfl rfl)
theorem dX1_cell_24 : decode cX1_cell 24 = .ok (.invokestatic 104, 3) := dk_184 0 104 (dk_at dksX1_cell_1 0 rfl rfl)
theorem dX1_cell_27 : decode cX1_cell 27 = .ok (.lreturn, 1) := dk_173 (dk_at dksX1_cell_1 3 rfl rfl)
theorem dX1_cell_28 : decode cX1_cell 28 = .ok (.aload_n 0, 1) := dk_42 (dk_at dksX1_cell_1 4 rfl rfl)
theorem dX1_cell_29 : decode cX1_cell 29 = .ok (.getfield 29, 3) := dk_180 0 29 (dk_at dksX1_cell_1 5 rfl rfl)
theorem dX1_cell_32 : decode cX1_cell 32 = .ok (.iload_n 1, 1) := dk_27 (dk_at dksX1_cell_1 8 rfl rfl)
theorem dX1_cell_33 : decode cX1_cell 33 = .ok (.iaload, 1) := dk_46 (dk_at dksX1_cell_1 9 rfl rfl)
theorem dX1_cell_34 : decode cX1_cell 34 = .ok (.ifCond .lt 19, 3) := dk_155 0 19 (dk_at dksX1_cell_1 10 rfl rfl)
theorem dX1_cell_37 : decode cX1_cell 37 = .ok (.aload_n 0, 1) := dk_42 (dk_at dksX1_cell_1 13 rfl rfl)
theorem dX1_cell_38 : decode cX1_cell 38 = .ok (.getfield 32, 3) := dk_180 0 32 (dk_at dksX1_cell_1 14 rfl rfl)
theorem dX1_cell_41 : decode cX1_cell 41 = .ok (.iload_n 1, 1) := dk_27 (dk_at dksX1_cell_1 17 rfl rfl)
theorem dX1_cell_42 : decode cX1_cell 42 = .ok (.iaload, 1) := dk_46 (dk_at dksX1_cell_1 18 rfl rfl)
theorem dX1_cell_43 : decode cX1_cell 43 = .ok (.iload_n 3, 1) := dk_29 (dk_at dksX1_cell_1 19 rfl rfl)
theorem dX1_cell_44 : decode cX1_cell 44 = .ok (.if_icmp .eq 9, 3) := dk_159 0 9 (dk_at dksX1_cell_1 20 rfl rfl)
theorem dX1_cell_47 : decode cX1_cell 47 = .ok (.aload_n 0, 1) := dk_42 (dk_at dksX1_cell_1 23 rfl rfl)
theorem dX1_cell_48 : decode cX1_cell 48 = .ok (.iconst 2, 1) := dk_5 (dk_at dksX1_cell_2 0 rfl rfl)
theorem dX1_cell_49 : decode cX1_cell 49 = .ok (.invokevirtual 144, 3) := dk_182 0 144 (dk_at dksX1_cell_2 1 rfl rfl)
theorem dX1_cell_52 : decode cX1_cell 52 = .ok (.lreturn, 1) := dk_173 (dk_at dksX1_cell_2 4 rfl rfl)
theorem dX1_cell_53 : decode cX1_cell 53 = .ok (.aload_n 0, 1) := dk_42 (dk_at dksX1_cell_2 5 rfl rfl)
theorem dX1_cell_54 : decode cX1_cell 54 = .ok (.iload_n 1, 1) := dk_27 (dk_at dksX1_cell_2 6 rfl rfl)
theorem dX1_cell_55 : decode cX1_cell 55 = .ok (.iload_n 2, 1) := dk_28 (dk_at dksX1_cell_2 7 rfl rfl)
theorem dX1_cell_56 : decode cX1_cell 56 = .ok (.invokevirtual 140, 3) := dk_182 0 140 (dk_at dksX1_cell_2 8 rfl rfl)
theorem dX1_cell_59 : decode cX1_cell 59 = .ok (.ifCond .le 16, 3) := dk_158 0 16 (dk_at dksX1_cell_2 11 rfl rfl)
theorem dX1_cell_62 : decode cX1_cell 62 = .ok (.aload_n 0, 1) := dk_42 (dk_at dksX1_cell_2 14 rfl rfl)
theorem dX1_cell_63 : decode cX1_cell 63 = .ok (.aload_n 0, 1) := dk_42 (dk_at dksX1_cell_2 15 rfl rfl)
theorem dX1_cell_64 : decode cX1_cell 64 = .ok (.iload_n 1, 1) := dk_27 (dk_at dksX1_cell_2 16 rfl rfl)
theorem dX1_cell_65 : decode cX1_cell 65 = .ok (.iload_n 2, 1) := dk_28 (dk_at dksX1_cell_2 17 rfl rfl)
theorem dX1_cell_66 : decode cX1_cell 66 = .ok (.invokevirtual 140, 3) := dk_182 0 140 (dk_at dksX1_cell_2 18 rfl rfl)
theorem dX1_cell_69 : decode cX1_cell 69 = .ok (.invokevirtual 144, 3) := dk_182 0 144 (dk_at dksX1_cell_2 21 rfl rfl)
theorem dX1_cell_72 : decode cX1_cell 72 = .ok (.goto 15, 3) := dk_167 0 15 (dk_at dksX1_cell_3 0 rfl rfl)
theorem dX1_cell_75 : decode cX1_cell 75 = .ok (.aload_n 0, 1) := dk_42 (dk_at dksX1_cell_3 3 rfl rfl)
theorem dX1_cell_76 : decode cX1_cell 76 = .ok (.getfield 35, 3) := dk_180 0 35 (dk_at dksX1_cell_3 4 rfl rfl)
theorem dX1_cell_79 : decode cX1_cell 79 = .ok (.bipush 32, 2) := dk_16 32 (dk_at dksX1_cell_3 7 rfl rfl)
theorem dX1_cell_81 : decode cX1_cell 81 = .ok (.iload_n 1, 1) := dk_27 (dk_at dksX1_cell_3 9 rfl rfl)
theorem dX1_cell_82 : decode cX1_cell 82 = .ok (.imul, 1) := dk_104 (dk_at dksX1_cell_3 10 rfl rfl)
theorem dX1_cell_83 : decode cX1_cell 83 = .ok (.iload_n 2, 1) := dk_28 (dk_at dksX1_cell_3 11 rfl rfl)
theorem dX1_cell_84 : decode cX1_cell 84 = .ok (.iadd, 1) := dk_96 (dk_at dksX1_cell_3 12 rfl rfl)
theorem dX1_cell_85 : decode cX1_cell 85 = .ok (.iaload, 1) := dk_46 (dk_at dksX1_cell_3 13 rfl rfl)
theorem dX1_cell_86 : decode cX1_cell 86 = .ok (.i2l, 1) := dk_133 (dk_at dksX1_cell_3 14 rfl rfl)
theorem dX1_cell_87 : decode cX1_cell 87 = .ok (.lreturn, 1) := dk_173 (dk_at dksX1_cell_3 15 rfl rfl)
abbrev cX1_lost : ByteArray := prog_12_method_3_code
def yX1_lost : MethodName := ⟨RX1, "lost", "()J"⟩
theorem dX1_lost_0 : decode cX1_lost 0 = .ok (.ldc2_w 99, 3) := by decide +kernel
theorem dX1_lost_3 : decode cX1_lost 3 = .ok (.lreturn, 1) := by decide +kernel
abbrev cX1_failedLong : ByteArray := prog_12_method_6_code
def yX1_failedLong : MethodName := ⟨RX1, "failedLong", "(I)J"⟩
def dkwX1_failedLong_0 : List UInt8 := [42, 27, 181, 0, 101, 184, 0, 104, 173]
abbrev dktX1_failedLong_0 : List UInt8 := dkwX1_failedLong_0 ++ []
theorem dksX1_failedLong_0 : cX1_failedLong.data.toList.drop 0 = dktX1_failedLong_0 := by decide +kernel
theorem dX1_failedLong_0 : decode cX1_failedLong 0 = .ok (.aload_n 0, 1) := dk_42 (dk_at dksX1_failedLong_0 0 rfl rfl)
theorem dX1_failedLong_1 : decode cX1_failedLong 1 = .ok (.iload_n 1, 1) := dk_27 (dk_at dksX1_failedLong_0 1 rfl rfl)
theorem dX1_failedLong_2 : decode cX1_failedLong 2 = .ok (.putfield 101, 3) := dk_181 0 101 (dk_at dksX1_failedLong_0 2 rfl rfl)
theorem dX1_failedLong_5 : decode cX1_failedLong 5 = .ok (.invokestatic 104, 3) := dk_184 0 104 (dk_at dksX1_failedLong_0 5 rfl rfl)
theorem dX1_failedLong_8 : decode cX1_failedLong 8 = .ok (.lreturn, 1) := dk_173 (dk_at dksX1_failedLong_0 8 rfl rfl)
abbrev cX1_copy : ByteArray := prog_12_method_21_code
def yX1_copy : MethodName := ⟨RX1, "copy", "(IIIII)I"⟩
def dkwX1_copy_7 : List UInt8 := [180, 0, 38, 21, 6, 46, 79, 132, 6, 1, 167, 255, 224, 42, 21, 5, 182, 0, 128, 172]
abbrev dktX1_copy_7 : List UInt8 := dkwX1_copy_7 ++ []
def dkwX1_copy_6 : List UInt8 := [21, 6, 21, 5, 162, 0, 31, 42, 180, 0, 35, 16, 32, 29, 104, 21, 4, 96, 21, 6, 96, 42]
abbrev dktX1_copy_6 : List UInt8 := dkwX1_copy_6 ++ dktX1_copy_7
def dkwX1_copy_5 : List UInt8 := [180, 0, 35, 16, 32, 27, 104, 28, 96, 21, 6, 96, 46, 79, 132, 6, 1, 167, 255, 225, 3, 54, 6]
abbrev dktX1_copy_5 : List UInt8 := dkwX1_copy_5 ++ dktX1_copy_6
def dkwX1_copy_4 : List UInt8 := [42, 6, 182, 0, 132, 172, 3, 54, 6, 21, 6, 21, 5, 162, 0, 30, 42, 180, 0, 38, 21, 6, 42]
abbrev dktX1_copy_4 : List UInt8 := dkwX1_copy_4 ++ dktX1_copy_5
def dkwX1_copy_3 : List UInt8 := [27, 46, 184, 0, 148, 154, 0, 19, 21, 4, 21, 5, 42, 180, 0, 29, 29, 46, 184, 0, 148, 153, 0, 9]
abbrev dktX1_copy_3 : List UInt8 := dkwX1_copy_3 ++ dktX1_copy_4
def dkwX1_copy_2 : List UInt8 := [27, 46, 42, 180, 0, 32, 29, 46, 159, 0, 9, 42, 5, 182, 0, 132, 172, 28, 21, 5, 42, 180, 0, 29]
abbrev dktX1_copy_2 : List UInt8 := dkwX1_copy_2 ++ dktX1_copy_3
def dkwX1_copy_1 : List UInt8 := [27, 46, 155, 0, 12, 42, 180, 0, 29, 29, 46, 156, 0, 9, 42, 4, 182, 0, 132, 172, 42, 180, 0, 32]
abbrev dktX1_copy_1 : List UInt8 := dkwX1_copy_1 ++ dktX1_copy_2
def dkwX1_copy_0 : List UInt8 := [27, 184, 0, 137, 154, 0, 10, 29, 184, 0, 137, 153, 0, 9, 42, 2, 182, 0, 128, 172, 42, 180, 0, 29]
abbrev dktX1_copy_0 : List UInt8 := dkwX1_copy_0 ++ dktX1_copy_1
theorem dksX1_copy_0 : cX1_copy.data.toList.drop 0 = dktX1_copy_0 := by decide +kernel
theorem dksX1_copy_1 : cX1_copy.data.toList.drop 24 = dktX1_copy_1 := dk_seg dksX1_copy_0 24 rfl rfl
theorem dksX1_copy_2 : cX1_copy.data.toList.drop 48 = dktX1_copy_2 := dk_seg dksX1_copy_1 24 rfl rfl
theorem dksX1_copy_3 : cX1_copy.data.toList.drop 72 = dktX1_copy_3 := dk_seg dksX1_copy_2 24 rfl rfl
theorem dksX1_copy_4 : cX1_copy.data.toList.drop 96 = dktX1_copy_4 := dk_seg dksX1_copy_3 24 rfl rfl
theorem dksX1_copy_5 : cX1_copy.data.toList.drop 119 = dktX1_copy_5 := dk_seg dksX1_copy_4 23 rfl rfl
theorem dksX1_copy_6 : cX1_copy.data.toList.drop 142 = dktX1_copy_6 := dk_seg dksX1_copy_5 23 rfl rfl
theorem dksX1_copy_7 : cX1_copy.data.toList.drop 164 = dktX1_copy_7 := dk_seg dksX1_copy_6 22 rfl rfl
theorem dX1_copy_0 : decode cX1_copy 0 = .ok (.iload_n 1, 1) := dk_27 (dk_at dksX1_copy_0 0 rfl rfl)
theorem dX1_copy_1 : decode cX1_copy 1 = .ok (.invokestatic 137, 3) := dk_184 0 137 (dk_at dksX1_copy_0 1 rfl rfl)
theorem dX1_copy_4 : decode cX1_copy 4 = .ok (.ifCond .ne 10, 3) := dk_154 0 10 (dk_at dksX1_copy_0 4 rfl rfl)
theorem dX1_copy_7 : decode cX1_copy 7 = .ok (.iload_n 3, 1) := dk_29 (dk_at dksX1_copy_0 7 rfl rfl)
theorem dX1_copy_8 : decode cX1_copy 8 = .ok (.invokestatic 137, 3) := dk_184 0 137 (dk_at dksX1_copy_0 8 rfl rfl)
theorem dX1_copy_11 : decode cX1_copy 11 = .ok (.ifCond .eq 9, 3) := dk_153 0 9 (dk_at dksX1_copy_0 11 rfl rfl)
theorem dX1_copy_14 : decode cX1_copy 14 = .ok (.aload_n 0, 1) := dk_42 (dk_at dksX1_copy_0 14 rfl rfl)
theorem dX1_copy_15 : decode cX1_copy 15 = .ok (.iconst (-1), 1) := dk_2 (dk_at dksX1_copy_0 15 rfl rfl)
theorem dX1_copy_16 : decode cX1_copy 16 = .ok (.invokevirtual 128, 3) := dk_182 0 128 (dk_at dksX1_copy_0 16 rfl rfl)
theorem dX1_copy_19 : decode cX1_copy 19 = .ok (.ireturn, 1) := dk_172 (dk_at dksX1_copy_0 19 rfl rfl)
theorem dX1_copy_20 : decode cX1_copy 20 = .ok (.aload_n 0, 1) := dk_42 (dk_at dksX1_copy_0 20 rfl rfl)
theorem dX1_copy_21 : decode cX1_copy 21 = .ok (.getfield 29, 3) := dk_180 0 29 (dk_at dksX1_copy_0 21 rfl rfl)
theorem dX1_copy_24 : decode cX1_copy 24 = .ok (.iload_n 1, 1) := dk_27 (dk_at dksX1_copy_1 0 rfl rfl)
theorem dX1_copy_25 : decode cX1_copy 25 = .ok (.iaload, 1) := dk_46 (dk_at dksX1_copy_1 1 rfl rfl)
theorem dX1_copy_26 : decode cX1_copy 26 = .ok (.ifCond .lt 12, 3) := dk_155 0 12 (dk_at dksX1_copy_1 2 rfl rfl)
theorem dX1_copy_29 : decode cX1_copy 29 = .ok (.aload_n 0, 1) := dk_42 (dk_at dksX1_copy_1 5 rfl rfl)
theorem dX1_copy_30 : decode cX1_copy 30 = .ok (.getfield 29, 3) := dk_180 0 29 (dk_at dksX1_copy_1 6 rfl rfl)
theorem dX1_copy_33 : decode cX1_copy 33 = .ok (.iload_n 3, 1) := dk_29 (dk_at dksX1_copy_1 9 rfl rfl)
theorem dX1_copy_34 : decode cX1_copy 34 = .ok (.iaload, 1) := dk_46 (dk_at dksX1_copy_1 10 rfl rfl)
theorem dX1_copy_35 : decode cX1_copy 35 = .ok (.ifCond .ge 9, 3) := dk_156 0 9 (dk_at dksX1_copy_1 11 rfl rfl)
theorem dX1_copy_38 : decode cX1_copy 38 = .ok (.aload_n 0, 1) := dk_42 (dk_at dksX1_copy_1 14 rfl rfl)
theorem dX1_copy_39 : decode cX1_copy 39 = .ok (.iconst 1, 1) := dk_4 (dk_at dksX1_copy_1 15 rfl rfl)
theorem dX1_copy_40 : decode cX1_copy 40 = .ok (.invokevirtual 132, 3) := dk_182 0 132 (dk_at dksX1_copy_1 16 rfl rfl)
theorem dX1_copy_43 : decode cX1_copy 43 = .ok (.ireturn, 1) := dk_172 (dk_at dksX1_copy_1 19 rfl rfl)
theorem dX1_copy_44 : decode cX1_copy 44 = .ok (.aload_n 0, 1) := dk_42 (dk_at dksX1_copy_1 20 rfl rfl)
theorem dX1_copy_45 : decode cX1_copy 45 = .ok (.getfield 32, 3) := dk_180 0 32 (dk_at dksX1_copy_1 21 rfl rfl)
theorem dX1_copy_48 : decode cX1_copy 48 = .ok (.iload_n 1, 1) := dk_27 (dk_at dksX1_copy_2 0 rfl rfl)
theorem dX1_copy_49 : decode cX1_copy 49 = .ok (.iaload, 1) := dk_46 (dk_at dksX1_copy_2 1 rfl rfl)
theorem dX1_copy_50 : decode cX1_copy 50 = .ok (.aload_n 0, 1) := dk_42 (dk_at dksX1_copy_2 2 rfl rfl)
theorem dX1_copy_51 : decode cX1_copy 51 = .ok (.getfield 32, 3) := dk_180 0 32 (dk_at dksX1_copy_2 3 rfl rfl)
theorem dX1_copy_54 : decode cX1_copy 54 = .ok (.iload_n 3, 1) := dk_29 (dk_at dksX1_copy_2 6 rfl rfl)
theorem dX1_copy_55 : decode cX1_copy 55 = .ok (.iaload, 1) := dk_46 (dk_at dksX1_copy_2 7 rfl rfl)
theorem dX1_copy_56 : decode cX1_copy 56 = .ok (.if_icmp .eq 9, 3) := dk_159 0 9 (dk_at dksX1_copy_2 8 rfl rfl)
theorem dX1_copy_59 : decode cX1_copy 59 = .ok (.aload_n 0, 1) := dk_42 (dk_at dksX1_copy_2 11 rfl rfl)
theorem dX1_copy_60 : decode cX1_copy 60 = .ok (.iconst 2, 1) := dk_5 (dk_at dksX1_copy_2 12 rfl rfl)
theorem dX1_copy_61 : decode cX1_copy 61 = .ok (.invokevirtual 132, 3) := dk_182 0 132 (dk_at dksX1_copy_2 13 rfl rfl)
theorem dX1_copy_64 : decode cX1_copy 64 = .ok (.ireturn, 1) := dk_172 (dk_at dksX1_copy_2 16 rfl rfl)
theorem dX1_copy_65 : decode cX1_copy 65 = .ok (.iload_n 2, 1) := dk_28 (dk_at dksX1_copy_2 17 rfl rfl)
theorem dX1_copy_66 : decode cX1_copy 66 = .ok (.iload 5, 2) := dk_21 5 (dk_at dksX1_copy_2 18 rfl rfl)
theorem dX1_copy_68 : decode cX1_copy 68 = .ok (.aload_n 0, 1) := dk_42 (dk_at dksX1_copy_2 20 rfl rfl)
theorem dX1_copy_69 : decode cX1_copy 69 = .ok (.getfield 29, 3) := dk_180 0 29 (dk_at dksX1_copy_2 21 rfl rfl)
theorem dX1_copy_72 : decode cX1_copy 72 = .ok (.iload_n 1, 1) := dk_27 (dk_at dksX1_copy_3 0 rfl rfl)
theorem dX1_copy_73 : decode cX1_copy 73 = .ok (.iaload, 1) := dk_46 (dk_at dksX1_copy_3 1 rfl rfl)
theorem dX1_copy_74 : decode cX1_copy 74 = .ok (.invokestatic 148, 3) := dk_184 0 148 (dk_at dksX1_copy_3 2 rfl rfl)
theorem dX1_copy_77 : decode cX1_copy 77 = .ok (.ifCond .ne 19, 3) := dk_154 0 19 (dk_at dksX1_copy_3 5 rfl rfl)
theorem dX1_copy_80 : decode cX1_copy 80 = .ok (.iload 4, 2) := dk_21 4 (dk_at dksX1_copy_3 8 rfl rfl)
theorem dX1_copy_82 : decode cX1_copy 82 = .ok (.iload 5, 2) := dk_21 5 (dk_at dksX1_copy_3 10 rfl rfl)
theorem dX1_copy_84 : decode cX1_copy 84 = .ok (.aload_n 0, 1) := dk_42 (dk_at dksX1_copy_3 12 rfl rfl)
theorem dX1_copy_85 : decode cX1_copy 85 = .ok (.getfield 29, 3) := dk_180 0 29 (dk_at dksX1_copy_3 13 rfl rfl)
theorem dX1_copy_88 : decode cX1_copy 88 = .ok (.iload_n 3, 1) := dk_29 (dk_at dksX1_copy_3 16 rfl rfl)
theorem dX1_copy_89 : decode cX1_copy 89 = .ok (.iaload, 1) := dk_46 (dk_at dksX1_copy_3 17 rfl rfl)
theorem dX1_copy_90 : decode cX1_copy 90 = .ok (.invokestatic 148, 3) := dk_184 0 148 (dk_at dksX1_copy_3 18 rfl rfl)
theorem dX1_copy_93 : decode cX1_copy 93 = .ok (.ifCond .eq 9, 3) := dk_153 0 9 (dk_at dksX1_copy_3 21 rfl rfl)
theorem dX1_copy_96 : decode cX1_copy 96 = .ok (.aload_n 0, 1) := dk_42 (dk_at dksX1_copy_4 0 rfl rfl)
theorem dX1_copy_97 : decode cX1_copy 97 = .ok (.iconst 3, 1) := dk_6 (dk_at dksX1_copy_4 1 rfl rfl)
theorem dX1_copy_98 : decode cX1_copy 98 = .ok (.invokevirtual 132, 3) := dk_182 0 132 (dk_at dksX1_copy_4 2 rfl rfl)
theorem dX1_copy_101 : decode cX1_copy 101 = .ok (.ireturn, 1) := dk_172 (dk_at dksX1_copy_4 5 rfl rfl)
theorem dX1_copy_102 : decode cX1_copy 102 = .ok (.iconst 0, 1) := dk_3 (dk_at dksX1_copy_4 6 rfl rfl)
theorem dX1_copy_103 : decode cX1_copy 103 = .ok (.istore 6, 2) := dk_54 6 (dk_at dksX1_copy_4 7 rfl rfl)
theorem dX1_copy_105 : decode cX1_copy 105 = .ok (.iload 6, 2) := dk_21 6 (dk_at dksX1_copy_4 9 rfl rfl)
theorem dX1_copy_107 : decode cX1_copy 107 = .ok (.iload 5, 2) := dk_21 5 (dk_at dksX1_copy_4 11 rfl rfl)
theorem dX1_copy_109 : decode cX1_copy 109 = .ok (.if_icmp .ge 30, 3) := dk_162 0 30 (dk_at dksX1_copy_4 13 rfl rfl)
theorem dX1_copy_112 : decode cX1_copy 112 = .ok (.aload_n 0, 1) := dk_42 (dk_at dksX1_copy_4 16 rfl rfl)
theorem dX1_copy_113 : decode cX1_copy 113 = .ok (.getfield 38, 3) := dk_180 0 38 (dk_at dksX1_copy_4 17 rfl rfl)
theorem dX1_copy_116 : decode cX1_copy 116 = .ok (.iload 6, 2) := dk_21 6 (dk_at dksX1_copy_4 20 rfl rfl)
theorem dX1_copy_118 : decode cX1_copy 118 = .ok (.aload_n 0, 1) := dk_42 (dk_at dksX1_copy_4 22 rfl rfl)
theorem dX1_copy_119 : decode cX1_copy 119 = .ok (.getfield 35, 3) := dk_180 0 35 (dk_at dksX1_copy_5 0 rfl rfl)
theorem dX1_copy_122 : decode cX1_copy 122 = .ok (.bipush 32, 2) := dk_16 32 (dk_at dksX1_copy_5 3 rfl rfl)
theorem dX1_copy_124 : decode cX1_copy 124 = .ok (.iload_n 1, 1) := dk_27 (dk_at dksX1_copy_5 5 rfl rfl)
theorem dX1_copy_125 : decode cX1_copy 125 = .ok (.imul, 1) := dk_104 (dk_at dksX1_copy_5 6 rfl rfl)
theorem dX1_copy_126 : decode cX1_copy 126 = .ok (.iload_n 2, 1) := dk_28 (dk_at dksX1_copy_5 7 rfl rfl)
theorem dX1_copy_127 : decode cX1_copy 127 = .ok (.iadd, 1) := dk_96 (dk_at dksX1_copy_5 8 rfl rfl)
theorem dX1_copy_128 : decode cX1_copy 128 = .ok (.iload 6, 2) := dk_21 6 (dk_at dksX1_copy_5 9 rfl rfl)
theorem dX1_copy_130 : decode cX1_copy 130 = .ok (.iadd, 1) := dk_96 (dk_at dksX1_copy_5 11 rfl rfl)
theorem dX1_copy_131 : decode cX1_copy 131 = .ok (.iaload, 1) := dk_46 (dk_at dksX1_copy_5 12 rfl rfl)
theorem dX1_copy_132 : decode cX1_copy 132 = .ok (.iastore, 1) := dk_79 (dk_at dksX1_copy_5 13 rfl rfl)
theorem dX1_copy_133 : decode cX1_copy 133 = .ok (.iinc 6 1, 3) := dk_132 6 1 (dk_at dksX1_copy_5 14 rfl rfl)
theorem dX1_copy_136 : decode cX1_copy 136 = .ok (.goto (-31), 3) := dk_167 255 225 (dk_at dksX1_copy_5 17 rfl rfl)
theorem dX1_copy_139 : decode cX1_copy 139 = .ok (.iconst 0, 1) := dk_3 (dk_at dksX1_copy_5 20 rfl rfl)
theorem dX1_copy_140 : decode cX1_copy 140 = .ok (.istore 6, 2) := dk_54 6 (dk_at dksX1_copy_5 21 rfl rfl)
theorem dX1_copy_142 : decode cX1_copy 142 = .ok (.iload 6, 2) := dk_21 6 (dk_at dksX1_copy_6 0 rfl rfl)
theorem dX1_copy_144 : decode cX1_copy 144 = .ok (.iload 5, 2) := dk_21 5 (dk_at dksX1_copy_6 2 rfl rfl)
theorem dX1_copy_146 : decode cX1_copy 146 = .ok (.if_icmp .ge 31, 3) := dk_162 0 31 (dk_at dksX1_copy_6 4 rfl rfl)
theorem dX1_copy_149 : decode cX1_copy 149 = .ok (.aload_n 0, 1) := dk_42 (dk_at dksX1_copy_6 7 rfl rfl)
theorem dX1_copy_150 : decode cX1_copy 150 = .ok (.getfield 35, 3) := dk_180 0 35 (dk_at dksX1_copy_6 8 rfl rfl)
theorem dX1_copy_153 : decode cX1_copy 153 = .ok (.bipush 32, 2) := dk_16 32 (dk_at dksX1_copy_6 11 rfl rfl)
theorem dX1_copy_155 : decode cX1_copy 155 = .ok (.iload_n 3, 1) := dk_29 (dk_at dksX1_copy_6 13 rfl rfl)
theorem dX1_copy_156 : decode cX1_copy 156 = .ok (.imul, 1) := dk_104 (dk_at dksX1_copy_6 14 rfl rfl)
theorem dX1_copy_157 : decode cX1_copy 157 = .ok (.iload 4, 2) := dk_21 4 (dk_at dksX1_copy_6 15 rfl rfl)
theorem dX1_copy_159 : decode cX1_copy 159 = .ok (.iadd, 1) := dk_96 (dk_at dksX1_copy_6 17 rfl rfl)
theorem dX1_copy_160 : decode cX1_copy 160 = .ok (.iload 6, 2) := dk_21 6 (dk_at dksX1_copy_6 18 rfl rfl)
theorem dX1_copy_162 : decode cX1_copy 162 = .ok (.iadd, 1) := dk_96 (dk_at dksX1_copy_6 20 rfl rfl)
theorem dX1_copy_163 : decode cX1_copy 163 = .ok (.aload_n 0, 1) := dk_42 (dk_at dksX1_copy_6 21 rfl rfl)
theorem dX1_copy_164 : decode cX1_copy 164 = .ok (.getfield 38, 3) := dk_180 0 38 (dk_at dksX1_copy_7 0 rfl rfl)
theorem dX1_copy_167 : decode cX1_copy 167 = .ok (.iload 6, 2) := dk_21 6 (dk_at dksX1_copy_7 3 rfl rfl)
theorem dX1_copy_169 : decode cX1_copy 169 = .ok (.iaload, 1) := dk_46 (dk_at dksX1_copy_7 5 rfl rfl)
theorem dX1_copy_170 : decode cX1_copy 170 = .ok (.iastore, 1) := dk_79 (dk_at dksX1_copy_7 6 rfl rfl)
theorem dX1_copy_171 : decode cX1_copy 171 = .ok (.iinc 6 1, 3) := dk_132 6 1 (dk_at dksX1_copy_7 7 rfl rfl)
theorem dX1_copy_174 : decode cX1_copy 174 = .ok (.goto (-32), 3) := dk_167 255 224 (dk_at dksX1_copy_7 10 rfl rfl)
theorem dX1_copy_177 : decode cX1_copy 177 = .ok (.aload_n 0, 1) := dk_42 (dk_at dksX1_copy_7 13 rfl rfl)
theorem dX1_copy_178 : decode cX1_copy 178 = .ok (.iload 5, 2) := dk_21 5 (dk_at dksX1_copy_7 14 rfl rfl)
theorem dX1_copy_180 : decode cX1_copy 180 = .ok (.invokevirtual 128, 3) := dk_182 0 128 (dk_at dksX1_copy_7 16 rfl rfl)
theorem dX1_copy_183 : decode cX1_copy 183 = .ok (.ireturn, 1) := dk_172 (dk_at dksX1_copy_7 19 rfl rfl)
abbrev cX1_isBeyond : ByteArray := prog_12_method_20_code
def yX1_isBeyond : MethodName := ⟨RX1, "isBeyond", "(III)Z"⟩
def dkwX1_isBeyond_1 : List UInt8 := [172]
abbrev dktX1_isBeyond_1 : List UInt8 := dkwX1_isBeyond_1 ++ []
def dkwX1_isBeyond_0 : List UInt8 := [26, 155, 0, 18, 27, 155, 0, 14, 26, 133, 27, 133, 97, 28, 133, 148, 158, 0, 7, 4, 167, 0, 4, 3]
abbrev dktX1_isBeyond_0 : List UInt8 := dkwX1_isBeyond_0 ++ dktX1_isBeyond_1
theorem dksX1_isBeyond_0 : cX1_isBeyond.data.toList.drop 0 = dktX1_isBeyond_0 := by decide +kernel
theorem dksX1_isBeyond_1 : cX1_isBeyond.data.toList.drop 24 = dktX1_isBeyond_1 := dk_seg dksX1_isBeyond_0 24 rfl rfl
theorem dX1_isBeyond_0 : decode cX1_isBeyond 0 = .ok (.iload_n 0, 1) := dk_26 (dk_at dksX1_isBeyond_0 0 rfl rfl)
theorem dX1_isBeyond_1 : decode cX1_isBeyond 1 = .ok (.ifCond .lt 18, 3) := dk_155 0 18 (dk_at dksX1_isBeyond_0 1 rfl rfl)
theorem dX1_isBeyond_4 : decode cX1_isBeyond 4 = .ok (.iload_n 1, 1) := dk_27 (dk_at dksX1_isBeyond_0 4 rfl rfl)
theorem dX1_isBeyond_5 : decode cX1_isBeyond 5 = .ok (.ifCond .lt 14, 3) := dk_155 0 14 (dk_at dksX1_isBeyond_0 5 rfl rfl)
theorem dX1_isBeyond_8 : decode cX1_isBeyond 8 = .ok (.iload_n 0, 1) := dk_26 (dk_at dksX1_isBeyond_0 8 rfl rfl)
theorem dX1_isBeyond_9 : decode cX1_isBeyond 9 = .ok (.i2l, 1) := dk_133 (dk_at dksX1_isBeyond_0 9 rfl rfl)
theorem dX1_isBeyond_10 : decode cX1_isBeyond 10 = .ok (.iload_n 1, 1) := dk_27 (dk_at dksX1_isBeyond_0 10 rfl rfl)
theorem dX1_isBeyond_11 : decode cX1_isBeyond 11 = .ok (.i2l, 1) := dk_133 (dk_at dksX1_isBeyond_0 11 rfl rfl)
theorem dX1_isBeyond_12 : decode cX1_isBeyond 12 = .ok (.ladd, 1) := dk_97 (dk_at dksX1_isBeyond_0 12 rfl rfl)
theorem dX1_isBeyond_13 : decode cX1_isBeyond 13 = .ok (.iload_n 2, 1) := dk_28 (dk_at dksX1_isBeyond_0 13 rfl rfl)
theorem dX1_isBeyond_14 : decode cX1_isBeyond 14 = .ok (.i2l, 1) := dk_133 (dk_at dksX1_isBeyond_0 14 rfl rfl)
theorem dX1_isBeyond_15 : decode cX1_isBeyond 15 = .ok (.lcmp, 1) := dk_148 (dk_at dksX1_isBeyond_0 15 rfl rfl)
theorem dX1_isBeyond_16 : decode cX1_isBeyond 16 = .ok (.ifCond .le 7, 3) := dk_158 0 7 (dk_at dksX1_isBeyond_0 16 rfl rfl)
theorem dX1_isBeyond_19 : decode cX1_isBeyond 19 = .ok (.iconst 1, 1) := dk_4 (dk_at dksX1_isBeyond_0 19 rfl rfl)
theorem dX1_isBeyond_20 : decode cX1_isBeyond 20 = .ok (.goto 4, 3) := dk_167 0 4 (dk_at dksX1_isBeyond_0 20 rfl rfl)
theorem dX1_isBeyond_23 : decode cX1_isBeyond 23 = .ok (.iconst 0, 1) := dk_3 (dk_at dksX1_isBeyond_0 23 rfl rfl)
theorem dX1_isBeyond_24 : decode cX1_isBeyond 24 = .ok (.ireturn, 1) := dk_172 (dk_at dksX1_isBeyond_1 0 rfl rfl)
abbrev cX1_book : ByteArray := prog_12_method_24_code
def yX1_book : MethodName := ⟨RX1, "book", "(IIII)I"⟩
def dkwX1_book_5 : List UInt8 := [21, 4, 182, 0, 128, 172]
abbrev dktX1_book_5 : List UInt8 := dkwX1_book_5 ++ []
def dkwX1_book_4 : List UInt8 := [21, 6, 42, 180, 0, 35, 16, 32, 27, 104, 29, 96, 21, 6, 96, 46, 79, 132, 6, 1, 167, 255, 225, 42]
abbrev dktX1_book_4 : List UInt8 := dkwX1_book_4 ++ dktX1_book_5
def dkwX1_book_3 : List UInt8 := [182, 0, 128, 172, 42, 21, 4, 181, 0, 161, 3, 54, 6, 21, 6, 21, 4, 162, 0, 30, 42, 180, 0, 41]
abbrev dktX1_book_3 : List UInt8 := dkwX1_book_3 ++ dktX1_book_4
def dkwX1_book_2 : List UInt8 := [158, 0, 10, 42, 21, 5, 182, 0, 132, 172, 42, 27, 29, 21, 4, 182, 0, 158, 154, 0, 10, 42, 16, 254]
abbrev dktX1_book_2 : List UInt8 := dkwX1_book_2 ++ dktX1_book_3
def dkwX1_book_1 : List UInt8 := [154, 0, 10, 42, 16, 254, 182, 0, 128, 172, 42, 27, 28, 29, 21, 4, 182, 0, 154, 54, 5, 21, 5]
abbrev dktX1_book_1 : List UInt8 := dkwX1_book_1 ++ dktX1_book_2
def dkwX1_book_0 : List UInt8 := [27, 184, 0, 137, 153, 0, 9, 42, 2, 182, 0, 128, 172, 28, 133, 9, 20, 0, 123, 184, 0, 111]
abbrev dktX1_book_0 : List UInt8 := dkwX1_book_0 ++ dktX1_book_1
theorem dksX1_book_0 : cX1_book.data.toList.drop 0 = dktX1_book_0 := by decide +kernel
theorem dksX1_book_1 : cX1_book.data.toList.drop 22 = dktX1_book_1 := dk_seg dksX1_book_0 22 rfl rfl
theorem dksX1_book_2 : cX1_book.data.toList.drop 45 = dktX1_book_2 := dk_seg dksX1_book_1 23 rfl rfl
theorem dksX1_book_3 : cX1_book.data.toList.drop 69 = dktX1_book_3 := dk_seg dksX1_book_2 24 rfl rfl
theorem dksX1_book_4 : cX1_book.data.toList.drop 93 = dktX1_book_4 := dk_seg dksX1_book_3 24 rfl rfl
theorem dksX1_book_5 : cX1_book.data.toList.drop 117 = dktX1_book_5 := dk_seg dksX1_book_4 24 rfl rfl
theorem dX1_book_0 : decode cX1_book 0 = .ok (.iload_n 1, 1) := dk_27 (dk_at dksX1_book_0 0 rfl rfl)
theorem dX1_book_1 : decode cX1_book 1 = .ok (.invokestatic 137, 3) := dk_184 0 137 (dk_at dksX1_book_0 1 rfl rfl)
theorem dX1_book_4 : decode cX1_book 4 = .ok (.ifCond .eq 9, 3) := dk_153 0 9 (dk_at dksX1_book_0 4 rfl rfl)
theorem dX1_book_7 : decode cX1_book 7 = .ok (.aload_n 0, 1) := dk_42 (dk_at dksX1_book_0 7 rfl rfl)
theorem dX1_book_8 : decode cX1_book 8 = .ok (.iconst (-1), 1) := dk_2 (dk_at dksX1_book_0 8 rfl rfl)
theorem dX1_book_9 : decode cX1_book 9 = .ok (.invokevirtual 128, 3) := dk_182 0 128 (dk_at dksX1_book_0 9 rfl rfl)
theorem dX1_book_12 : decode cX1_book 12 = .ok (.ireturn, 1) := dk_172 (dk_at dksX1_book_0 12 rfl rfl)
theorem dX1_book_13 : decode cX1_book 13 = .ok (.iload_n 2, 1) := dk_28 (dk_at dksX1_book_0 13 rfl rfl)
theorem dX1_book_14 : decode cX1_book 14 = .ok (.i2l, 1) := dk_133 (dk_at dksX1_book_0 14 rfl rfl)
theorem dX1_book_15 : decode cX1_book 15 = .ok (.lconst 0, 1) := dk_9 (dk_at dksX1_book_0 15 rfl rfl)
theorem dX1_book_16 : decode cX1_book 16 = .ok (.ldc2_w 123, 3) := dk_20 0 123 (dk_at dksX1_book_0 16 rfl rfl)
theorem dX1_book_19 : decode cX1_book 19 = .ok (.invokestatic 111, 3) := dk_184 0 111 (dk_at dksX1_book_0 19 rfl rfl)
theorem dX1_book_22 : decode cX1_book 22 = .ok (.ifCond .ne 10, 3) := dk_154 0 10 (dk_at dksX1_book_1 0 rfl rfl)
theorem dX1_book_25 : decode cX1_book 25 = .ok (.aload_n 0, 1) := dk_42 (dk_at dksX1_book_1 3 rfl rfl)
theorem dX1_book_26 : decode cX1_book 26 = .ok (.bipush (-2), 2) := dk_16 254 (dk_at dksX1_book_1 4 rfl rfl)
theorem dX1_book_28 : decode cX1_book 28 = .ok (.invokevirtual 128, 3) := dk_182 0 128 (dk_at dksX1_book_1 6 rfl rfl)
theorem dX1_book_31 : decode cX1_book 31 = .ok (.ireturn, 1) := dk_172 (dk_at dksX1_book_1 9 rfl rfl)
theorem dX1_book_32 : decode cX1_book 32 = .ok (.aload_n 0, 1) := dk_42 (dk_at dksX1_book_1 10 rfl rfl)
theorem dX1_book_33 : decode cX1_book 33 = .ok (.iload_n 1, 1) := dk_27 (dk_at dksX1_book_1 11 rfl rfl)
theorem dX1_book_34 : decode cX1_book 34 = .ok (.iload_n 2, 1) := dk_28 (dk_at dksX1_book_1 12 rfl rfl)
theorem dX1_book_35 : decode cX1_book 35 = .ok (.iload_n 3, 1) := dk_29 (dk_at dksX1_book_1 13 rfl rfl)
theorem dX1_book_36 : decode cX1_book 36 = .ok (.iload 4, 2) := dk_21 4 (dk_at dksX1_book_1 14 rfl rfl)
theorem dX1_book_38 : decode cX1_book 38 = .ok (.invokevirtual 154, 3) := dk_182 0 154 (dk_at dksX1_book_1 16 rfl rfl)
theorem dX1_book_41 : decode cX1_book 41 = .ok (.istore 5, 2) := dk_54 5 (dk_at dksX1_book_1 19 rfl rfl)
theorem dX1_book_43 : decode cX1_book 43 = .ok (.iload 5, 2) := dk_21 5 (dk_at dksX1_book_1 21 rfl rfl)
theorem dX1_book_45 : decode cX1_book 45 = .ok (.ifCond .le 10, 3) := dk_158 0 10 (dk_at dksX1_book_2 0 rfl rfl)
theorem dX1_book_48 : decode cX1_book 48 = .ok (.aload_n 0, 1) := dk_42 (dk_at dksX1_book_2 3 rfl rfl)
theorem dX1_book_49 : decode cX1_book 49 = .ok (.iload 5, 2) := dk_21 5 (dk_at dksX1_book_2 4 rfl rfl)
theorem dX1_book_51 : decode cX1_book 51 = .ok (.invokevirtual 132, 3) := dk_182 0 132 (dk_at dksX1_book_2 6 rfl rfl)
theorem dX1_book_54 : decode cX1_book 54 = .ok (.ireturn, 1) := dk_172 (dk_at dksX1_book_2 9 rfl rfl)
theorem dX1_book_55 : decode cX1_book 55 = .ok (.aload_n 0, 1) := dk_42 (dk_at dksX1_book_2 10 rfl rfl)
theorem dX1_book_56 : decode cX1_book 56 = .ok (.iload_n 1, 1) := dk_27 (dk_at dksX1_book_2 11 rfl rfl)
theorem dX1_book_57 : decode cX1_book 57 = .ok (.iload_n 3, 1) := dk_29 (dk_at dksX1_book_2 12 rfl rfl)
theorem dX1_book_58 : decode cX1_book 58 = .ok (.iload 4, 2) := dk_21 4 (dk_at dksX1_book_2 13 rfl rfl)
theorem dX1_book_60 : decode cX1_book 60 = .ok (.invokevirtual 158, 3) := dk_182 0 158 (dk_at dksX1_book_2 15 rfl rfl)
theorem dX1_book_63 : decode cX1_book 63 = .ok (.ifCond .ne 10, 3) := dk_154 0 10 (dk_at dksX1_book_2 18 rfl rfl)
theorem dX1_book_66 : decode cX1_book 66 = .ok (.aload_n 0, 1) := dk_42 (dk_at dksX1_book_2 21 rfl rfl)
theorem dX1_book_67 : decode cX1_book 67 = .ok (.bipush (-2), 2) := dk_16 254 (dk_at dksX1_book_2 22 rfl rfl)
theorem dX1_book_69 : decode cX1_book 69 = .ok (.invokevirtual 128, 3) := dk_182 0 128 (dk_at dksX1_book_3 0 rfl rfl)
theorem dX1_book_72 : decode cX1_book 72 = .ok (.ireturn, 1) := dk_172 (dk_at dksX1_book_3 3 rfl rfl)
theorem dX1_book_73 : decode cX1_book 73 = .ok (.aload_n 0, 1) := dk_42 (dk_at dksX1_book_3 4 rfl rfl)
theorem dX1_book_74 : decode cX1_book 74 = .ok (.iload 4, 2) := dk_21 4 (dk_at dksX1_book_3 5 rfl rfl)
theorem dX1_book_76 : decode cX1_book 76 = .ok (.putfield 161, 3) := dk_181 0 161 (dk_at dksX1_book_3 7 rfl rfl)
theorem dX1_book_79 : decode cX1_book 79 = .ok (.iconst 0, 1) := dk_3 (dk_at dksX1_book_3 10 rfl rfl)
theorem dX1_book_80 : decode cX1_book 80 = .ok (.istore 6, 2) := dk_54 6 (dk_at dksX1_book_3 11 rfl rfl)
theorem dX1_book_82 : decode cX1_book 82 = .ok (.iload 6, 2) := dk_21 6 (dk_at dksX1_book_3 13 rfl rfl)
theorem dX1_book_84 : decode cX1_book 84 = .ok (.iload 4, 2) := dk_21 4 (dk_at dksX1_book_3 15 rfl rfl)
theorem dX1_book_86 : decode cX1_book 86 = .ok (.if_icmp .ge 30, 3) := dk_162 0 30 (dk_at dksX1_book_3 17 rfl rfl)
theorem dX1_book_89 : decode cX1_book 89 = .ok (.aload_n 0, 1) := dk_42 (dk_at dksX1_book_3 20 rfl rfl)
theorem dX1_book_90 : decode cX1_book 90 = .ok (.getfield 41, 3) := dk_180 0 41 (dk_at dksX1_book_3 21 rfl rfl)
theorem dX1_book_93 : decode cX1_book 93 = .ok (.iload 6, 2) := dk_21 6 (dk_at dksX1_book_4 0 rfl rfl)
theorem dX1_book_95 : decode cX1_book 95 = .ok (.aload_n 0, 1) := dk_42 (dk_at dksX1_book_4 2 rfl rfl)
theorem dX1_book_96 : decode cX1_book 96 = .ok (.getfield 35, 3) := dk_180 0 35 (dk_at dksX1_book_4 3 rfl rfl)
theorem dX1_book_99 : decode cX1_book 99 = .ok (.bipush 32, 2) := dk_16 32 (dk_at dksX1_book_4 6 rfl rfl)
theorem dX1_book_101 : decode cX1_book 101 = .ok (.iload_n 1, 1) := dk_27 (dk_at dksX1_book_4 8 rfl rfl)
theorem dX1_book_102 : decode cX1_book 102 = .ok (.imul, 1) := dk_104 (dk_at dksX1_book_4 9 rfl rfl)
theorem dX1_book_103 : decode cX1_book 103 = .ok (.iload_n 3, 1) := dk_29 (dk_at dksX1_book_4 10 rfl rfl)
theorem dX1_book_104 : decode cX1_book 104 = .ok (.iadd, 1) := dk_96 (dk_at dksX1_book_4 11 rfl rfl)
theorem dX1_book_105 : decode cX1_book 105 = .ok (.iload 6, 2) := dk_21 6 (dk_at dksX1_book_4 12 rfl rfl)
theorem dX1_book_107 : decode cX1_book 107 = .ok (.iadd, 1) := dk_96 (dk_at dksX1_book_4 14 rfl rfl)
theorem dX1_book_108 : decode cX1_book 108 = .ok (.iaload, 1) := dk_46 (dk_at dksX1_book_4 15 rfl rfl)
theorem dX1_book_109 : decode cX1_book 109 = .ok (.iastore, 1) := dk_79 (dk_at dksX1_book_4 16 rfl rfl)
theorem dX1_book_110 : decode cX1_book 110 = .ok (.iinc 6 1, 3) := dk_132 6 1 (dk_at dksX1_book_4 17 rfl rfl)
theorem dX1_book_113 : decode cX1_book 113 = .ok (.goto (-31), 3) := dk_167 255 225 (dk_at dksX1_book_4 20 rfl rfl)
theorem dX1_book_116 : decode cX1_book 116 = .ok (.aload_n 0, 1) := dk_42 (dk_at dksX1_book_4 23 rfl rfl)
theorem dX1_book_117 : decode cX1_book 117 = .ok (.iload 4, 2) := dk_21 4 (dk_at dksX1_book_5 0 rfl rfl)
theorem dX1_book_119 : decode cX1_book 119 = .ok (.invokevirtual 128, 3) := dk_182 0 128 (dk_at dksX1_book_5 2 rfl rfl)
theorem dX1_book_122 : decode cX1_book 122 = .ok (.ireturn, 1) := dk_172 (dk_at dksX1_book_5 5 rfl rfl)
abbrev cX1_faultOf : ByteArray := prog_12_method_22_code
def yX1_faultOf : MethodName := ⟨RX1, "faultOf", "(IIII)I"⟩
def dkwX1_faultOf_2 : List UInt8 := [42, 180, 0, 29, 27, 46, 184, 0, 148, 153, 0, 7, 6, 167, 0, 4, 3, 172]
abbrev dktX1_faultOf_2 : List UInt8 := dkwX1_faultOf_2 ++ []
def dkwX1_faultOf_1 : List UInt8 := [180, 0, 29, 27, 46, 156, 0, 7, 4, 167, 0, 32, 21, 4, 156, 0, 7, 7, 167, 0, 23, 29, 21, 4]
abbrev dktX1_faultOf_1 : List UInt8 := dkwX1_faultOf_1 ++ dktX1_faultOf_2
def dkwX1_faultOf_0 : List UInt8 := [42, 180, 0, 29, 27, 46, 155, 0, 15, 42, 180, 0, 32, 27, 46, 28, 159, 0, 5, 5, 172, 42]
abbrev dktX1_faultOf_0 : List UInt8 := dkwX1_faultOf_0 ++ dktX1_faultOf_1
theorem dksX1_faultOf_0 : cX1_faultOf.data.toList.drop 0 = dktX1_faultOf_0 := by decide +kernel
theorem dksX1_faultOf_1 : cX1_faultOf.data.toList.drop 22 = dktX1_faultOf_1 := dk_seg dksX1_faultOf_0 22 rfl rfl
theorem dksX1_faultOf_2 : cX1_faultOf.data.toList.drop 46 = dktX1_faultOf_2 := dk_seg dksX1_faultOf_1 24 rfl rfl
theorem dX1_faultOf_0 : decode cX1_faultOf 0 = .ok (.aload_n 0, 1) := dk_42 (dk_at dksX1_faultOf_0 0 rfl rfl)
theorem dX1_faultOf_1 : decode cX1_faultOf 1 = .ok (.getfield 29, 3) := dk_180 0 29 (dk_at dksX1_faultOf_0 1 rfl rfl)
theorem dX1_faultOf_4 : decode cX1_faultOf 4 = .ok (.iload_n 1, 1) := dk_27 (dk_at dksX1_faultOf_0 4 rfl rfl)
theorem dX1_faultOf_5 : decode cX1_faultOf 5 = .ok (.iaload, 1) := dk_46 (dk_at dksX1_faultOf_0 5 rfl rfl)
theorem dX1_faultOf_6 : decode cX1_faultOf 6 = .ok (.ifCond .lt 15, 3) := dk_155 0 15 (dk_at dksX1_faultOf_0 6 rfl rfl)
theorem dX1_faultOf_9 : decode cX1_faultOf 9 = .ok (.aload_n 0, 1) := dk_42 (dk_at dksX1_faultOf_0 9 rfl rfl)
theorem dX1_faultOf_10 : decode cX1_faultOf 10 = .ok (.getfield 32, 3) := dk_180 0 32 (dk_at dksX1_faultOf_0 10 rfl rfl)
theorem dX1_faultOf_13 : decode cX1_faultOf 13 = .ok (.iload_n 1, 1) := dk_27 (dk_at dksX1_faultOf_0 13 rfl rfl)
theorem dX1_faultOf_14 : decode cX1_faultOf 14 = .ok (.iaload, 1) := dk_46 (dk_at dksX1_faultOf_0 14 rfl rfl)
theorem dX1_faultOf_15 : decode cX1_faultOf 15 = .ok (.iload_n 2, 1) := dk_28 (dk_at dksX1_faultOf_0 15 rfl rfl)
theorem dX1_faultOf_16 : decode cX1_faultOf 16 = .ok (.if_icmp .eq 5, 3) := dk_159 0 5 (dk_at dksX1_faultOf_0 16 rfl rfl)
theorem dX1_faultOf_19 : decode cX1_faultOf 19 = .ok (.iconst 2, 1) := dk_5 (dk_at dksX1_faultOf_0 19 rfl rfl)
theorem dX1_faultOf_20 : decode cX1_faultOf 20 = .ok (.ireturn, 1) := dk_172 (dk_at dksX1_faultOf_0 20 rfl rfl)
theorem dX1_faultOf_21 : decode cX1_faultOf 21 = .ok (.aload_n 0, 1) := dk_42 (dk_at dksX1_faultOf_0 21 rfl rfl)
theorem dX1_faultOf_22 : decode cX1_faultOf 22 = .ok (.getfield 29, 3) := dk_180 0 29 (dk_at dksX1_faultOf_1 0 rfl rfl)
theorem dX1_faultOf_25 : decode cX1_faultOf 25 = .ok (.iload_n 1, 1) := dk_27 (dk_at dksX1_faultOf_1 3 rfl rfl)
theorem dX1_faultOf_26 : decode cX1_faultOf 26 = .ok (.iaload, 1) := dk_46 (dk_at dksX1_faultOf_1 4 rfl rfl)
theorem dX1_faultOf_27 : decode cX1_faultOf 27 = .ok (.ifCond .ge 7, 3) := dk_156 0 7 (dk_at dksX1_faultOf_1 5 rfl rfl)
theorem dX1_faultOf_30 : decode cX1_faultOf 30 = .ok (.iconst 1, 1) := dk_4 (dk_at dksX1_faultOf_1 8 rfl rfl)
theorem dX1_faultOf_31 : decode cX1_faultOf 31 = .ok (.goto 32, 3) := dk_167 0 32 (dk_at dksX1_faultOf_1 9 rfl rfl)
theorem dX1_faultOf_34 : decode cX1_faultOf 34 = .ok (.iload 4, 2) := dk_21 4 (dk_at dksX1_faultOf_1 12 rfl rfl)
theorem dX1_faultOf_36 : decode cX1_faultOf 36 = .ok (.ifCond .ge 7, 3) := dk_156 0 7 (dk_at dksX1_faultOf_1 14 rfl rfl)
theorem dX1_faultOf_39 : decode cX1_faultOf 39 = .ok (.iconst 4, 1) := dk_7 (dk_at dksX1_faultOf_1 17 rfl rfl)
theorem dX1_faultOf_40 : decode cX1_faultOf 40 = .ok (.goto 23, 3) := dk_167 0 23 (dk_at dksX1_faultOf_1 18 rfl rfl)
theorem dX1_faultOf_43 : decode cX1_faultOf 43 = .ok (.iload_n 3, 1) := dk_29 (dk_at dksX1_faultOf_1 21 rfl rfl)
theorem dX1_faultOf_44 : decode cX1_faultOf 44 = .ok (.iload 4, 2) := dk_21 4 (dk_at dksX1_faultOf_1 22 rfl rfl)
theorem dX1_faultOf_46 : decode cX1_faultOf 46 = .ok (.aload_n 0, 1) := dk_42 (dk_at dksX1_faultOf_2 0 rfl rfl)
theorem dX1_faultOf_47 : decode cX1_faultOf 47 = .ok (.getfield 29, 3) := dk_180 0 29 (dk_at dksX1_faultOf_2 1 rfl rfl)
theorem dX1_faultOf_50 : decode cX1_faultOf 50 = .ok (.iload_n 1, 1) := dk_27 (dk_at dksX1_faultOf_2 4 rfl rfl)
theorem dX1_faultOf_51 : decode cX1_faultOf 51 = .ok (.iaload, 1) := dk_46 (dk_at dksX1_faultOf_2 5 rfl rfl)
theorem dX1_faultOf_52 : decode cX1_faultOf 52 = .ok (.invokestatic 148, 3) := dk_184 0 148 (dk_at dksX1_faultOf_2 6 rfl rfl)
theorem dX1_faultOf_55 : decode cX1_faultOf 55 = .ok (.ifCond .eq 7, 3) := dk_153 0 7 (dk_at dksX1_faultOf_2 9 rfl rfl)
theorem dX1_faultOf_58 : decode cX1_faultOf 58 = .ok (.iconst 3, 1) := dk_6 (dk_at dksX1_faultOf_2 12 rfl rfl)
theorem dX1_faultOf_59 : decode cX1_faultOf 59 = .ok (.goto 4, 3) := dk_167 0 4 (dk_at dksX1_faultOf_2 13 rfl rfl)
theorem dX1_faultOf_62 : decode cX1_faultOf 62 = .ok (.iconst 0, 1) := dk_3 (dk_at dksX1_faultOf_2 16 rfl rfl)
theorem dX1_faultOf_63 : decode cX1_faultOf 63 = .ok (.ireturn, 1) := dk_172 (dk_at dksX1_faultOf_2 17 rfl rfl)
abbrev cX1_isBook : ByteArray := prog_12_method_23_code
def yX1_isBook : MethodName := ⟨RX1, "isBook", "(III)Z"⟩
def dkwX1_isBook_3 : List UInt8 := [21, 6, 159, 0, 7, 4, 167, 0, 4, 3, 54, 4, 132, 5, 1, 167, 255, 185, 21, 4, 172]
abbrev dktX1_isBook_3 : List UInt8 := dkwX1_isBook_3 ++ []
def dkwX1_isBook_2 : List UInt8 := [153, 0, 33, 21, 5, 153, 0, 24, 42, 180, 0, 35, 16, 32, 27, 104, 28, 96, 21, 5, 96, 4, 100, 46]
abbrev dktX1_isBook_2 : List UInt8 := dkwX1_isBook_2 ++ dktX1_isBook_3
def dkwX1_isBook_1 : List UInt8 := [153, 0, 66, 42, 180, 0, 35, 16, 32, 27, 104, 28, 96, 21, 5, 96, 46, 54, 6, 21, 6, 184, 0, 117]
abbrev dktX1_isBook_1 : List UInt8 := dkwX1_isBook_1 ++ dktX1_isBook_2
def dkwX1_isBook_0 : List UInt8 := [29, 133, 20, 0, 123, 20, 0, 152, 184, 0, 111, 54, 4, 3, 54, 5, 21, 5, 29, 162, 0, 71, 21, 4]
abbrev dktX1_isBook_0 : List UInt8 := dkwX1_isBook_0 ++ dktX1_isBook_1
theorem dksX1_isBook_0 : cX1_isBook.data.toList.drop 0 = dktX1_isBook_0 := by decide +kernel
theorem dksX1_isBook_1 : cX1_isBook.data.toList.drop 24 = dktX1_isBook_1 := dk_seg dksX1_isBook_0 24 rfl rfl
theorem dksX1_isBook_2 : cX1_isBook.data.toList.drop 48 = dktX1_isBook_2 := dk_seg dksX1_isBook_1 24 rfl rfl
theorem dksX1_isBook_3 : cX1_isBook.data.toList.drop 72 = dktX1_isBook_3 := dk_seg dksX1_isBook_2 24 rfl rfl
theorem dX1_isBook_0 : decode cX1_isBook 0 = .ok (.iload_n 3, 1) := dk_29 (dk_at dksX1_isBook_0 0 rfl rfl)
theorem dX1_isBook_1 : decode cX1_isBook 1 = .ok (.i2l, 1) := dk_133 (dk_at dksX1_isBook_0 1 rfl rfl)
theorem dX1_isBook_2 : decode cX1_isBook 2 = .ok (.ldc2_w 123, 3) := dk_20 0 123 (dk_at dksX1_isBook_0 2 rfl rfl)
theorem dX1_isBook_5 : decode cX1_isBook 5 = .ok (.ldc2_w 152, 3) := dk_20 0 152 (dk_at dksX1_isBook_0 5 rfl rfl)
theorem dX1_isBook_8 : decode cX1_isBook 8 = .ok (.invokestatic 111, 3) := dk_184 0 111 (dk_at dksX1_isBook_0 8 rfl rfl)
theorem dX1_isBook_11 : decode cX1_isBook 11 = .ok (.istore 4, 2) := dk_54 4 (dk_at dksX1_isBook_0 11 rfl rfl)
theorem dX1_isBook_13 : decode cX1_isBook 13 = .ok (.iconst 0, 1) := dk_3 (dk_at dksX1_isBook_0 13 rfl rfl)
theorem dX1_isBook_14 : decode cX1_isBook 14 = .ok (.istore 5, 2) := dk_54 5 (dk_at dksX1_isBook_0 14 rfl rfl)
theorem dX1_isBook_16 : decode cX1_isBook 16 = .ok (.iload 5, 2) := dk_21 5 (dk_at dksX1_isBook_0 16 rfl rfl)
theorem dX1_isBook_18 : decode cX1_isBook 18 = .ok (.iload_n 3, 1) := dk_29 (dk_at dksX1_isBook_0 18 rfl rfl)
theorem dX1_isBook_19 : decode cX1_isBook 19 = .ok (.if_icmp .ge 71, 3) := dk_162 0 71 (dk_at dksX1_isBook_0 19 rfl rfl)
theorem dX1_isBook_22 : decode cX1_isBook 22 = .ok (.iload 4, 2) := dk_21 4 (dk_at dksX1_isBook_0 22 rfl rfl)
theorem dX1_isBook_24 : decode cX1_isBook 24 = .ok (.ifCond .eq 66, 3) := dk_153 0 66 (dk_at dksX1_isBook_1 0 rfl rfl)
theorem dX1_isBook_27 : decode cX1_isBook 27 = .ok (.aload_n 0, 1) := dk_42 (dk_at dksX1_isBook_1 3 rfl rfl)
theorem dX1_isBook_28 : decode cX1_isBook 28 = .ok (.getfield 35, 3) := dk_180 0 35 (dk_at dksX1_isBook_1 4 rfl rfl)
theorem dX1_isBook_31 : decode cX1_isBook 31 = .ok (.bipush 32, 2) := dk_16 32 (dk_at dksX1_isBook_1 7 rfl rfl)
theorem dX1_isBook_33 : decode cX1_isBook 33 = .ok (.iload_n 1, 1) := dk_27 (dk_at dksX1_isBook_1 9 rfl rfl)
theorem dX1_isBook_34 : decode cX1_isBook 34 = .ok (.imul, 1) := dk_104 (dk_at dksX1_isBook_1 10 rfl rfl)
theorem dX1_isBook_35 : decode cX1_isBook 35 = .ok (.iload_n 2, 1) := dk_28 (dk_at dksX1_isBook_1 11 rfl rfl)
theorem dX1_isBook_36 : decode cX1_isBook 36 = .ok (.iadd, 1) := dk_96 (dk_at dksX1_isBook_1 12 rfl rfl)
theorem dX1_isBook_37 : decode cX1_isBook 37 = .ok (.iload 5, 2) := dk_21 5 (dk_at dksX1_isBook_1 13 rfl rfl)
theorem dX1_isBook_39 : decode cX1_isBook 39 = .ok (.iadd, 1) := dk_96 (dk_at dksX1_isBook_1 15 rfl rfl)
theorem dX1_isBook_40 : decode cX1_isBook 40 = .ok (.iaload, 1) := dk_46 (dk_at dksX1_isBook_1 16 rfl rfl)
theorem dX1_isBook_41 : decode cX1_isBook 41 = .ok (.istore 6, 2) := dk_54 6 (dk_at dksX1_isBook_1 17 rfl rfl)
theorem dX1_isBook_43 : decode cX1_isBook 43 = .ok (.iload 6, 2) := dk_21 6 (dk_at dksX1_isBook_1 19 rfl rfl)
theorem dX1_isBook_45 : decode cX1_isBook 45 = .ok (.invokestatic 117, 3) := dk_184 0 117 (dk_at dksX1_isBook_1 21 rfl rfl)
theorem dX1_isBook_48 : decode cX1_isBook 48 = .ok (.ifCond .eq 33, 3) := dk_153 0 33 (dk_at dksX1_isBook_2 0 rfl rfl)
theorem dX1_isBook_51 : decode cX1_isBook 51 = .ok (.iload 5, 2) := dk_21 5 (dk_at dksX1_isBook_2 3 rfl rfl)
theorem dX1_isBook_53 : decode cX1_isBook 53 = .ok (.ifCond .eq 24, 3) := dk_153 0 24 (dk_at dksX1_isBook_2 5 rfl rfl)
theorem dX1_isBook_56 : decode cX1_isBook 56 = .ok (.aload_n 0, 1) := dk_42 (dk_at dksX1_isBook_2 8 rfl rfl)
theorem dX1_isBook_57 : decode cX1_isBook 57 = .ok (.getfield 35, 3) := dk_180 0 35 (dk_at dksX1_isBook_2 9 rfl rfl)
theorem dX1_isBook_60 : decode cX1_isBook 60 = .ok (.bipush 32, 2) := dk_16 32 (dk_at dksX1_isBook_2 12 rfl rfl)
theorem dX1_isBook_62 : decode cX1_isBook 62 = .ok (.iload_n 1, 1) := dk_27 (dk_at dksX1_isBook_2 14 rfl rfl)
theorem dX1_isBook_63 : decode cX1_isBook 63 = .ok (.imul, 1) := dk_104 (dk_at dksX1_isBook_2 15 rfl rfl)
theorem dX1_isBook_64 : decode cX1_isBook 64 = .ok (.iload_n 2, 1) := dk_28 (dk_at dksX1_isBook_2 16 rfl rfl)
theorem dX1_isBook_65 : decode cX1_isBook 65 = .ok (.iadd, 1) := dk_96 (dk_at dksX1_isBook_2 17 rfl rfl)
theorem dX1_isBook_66 : decode cX1_isBook 66 = .ok (.iload 5, 2) := dk_21 5 (dk_at dksX1_isBook_2 18 rfl rfl)
theorem dX1_isBook_68 : decode cX1_isBook 68 = .ok (.iadd, 1) := dk_96 (dk_at dksX1_isBook_2 20 rfl rfl)
theorem dX1_isBook_69 : decode cX1_isBook 69 = .ok (.iconst 1, 1) := dk_4 (dk_at dksX1_isBook_2 21 rfl rfl)
theorem dX1_isBook_70 : decode cX1_isBook 70 = .ok (.isub, 1) := dk_100 (dk_at dksX1_isBook_2 22 rfl rfl)
theorem dX1_isBook_71 : decode cX1_isBook 71 = .ok (.iaload, 1) := dk_46 (dk_at dksX1_isBook_2 23 rfl rfl)
theorem dX1_isBook_72 : decode cX1_isBook 72 = .ok (.iload 6, 2) := dk_21 6 (dk_at dksX1_isBook_3 0 rfl rfl)
theorem dX1_isBook_74 : decode cX1_isBook 74 = .ok (.if_icmp .eq 7, 3) := dk_159 0 7 (dk_at dksX1_isBook_3 2 rfl rfl)
theorem dX1_isBook_77 : decode cX1_isBook 77 = .ok (.iconst 1, 1) := dk_4 (dk_at dksX1_isBook_3 5 rfl rfl)
theorem dX1_isBook_78 : decode cX1_isBook 78 = .ok (.goto 4, 3) := dk_167 0 4 (dk_at dksX1_isBook_3 6 rfl rfl)
theorem dX1_isBook_81 : decode cX1_isBook 81 = .ok (.iconst 0, 1) := dk_3 (dk_at dksX1_isBook_3 9 rfl rfl)
theorem dX1_isBook_82 : decode cX1_isBook 82 = .ok (.istore 4, 2) := dk_54 4 (dk_at dksX1_isBook_3 10 rfl rfl)
theorem dX1_isBook_84 : decode cX1_isBook 84 = .ok (.iinc 5 1, 3) := dk_132 5 1 (dk_at dksX1_isBook_3 12 rfl rfl)
theorem dX1_isBook_87 : decode cX1_isBook 87 = .ok (.goto (-71), 3) := dk_167 255 185 (dk_at dksX1_isBook_3 15 rfl rfl)
theorem dX1_isBook_90 : decode cX1_isBook 90 = .ok (.iload 4, 2) := dk_21 4 (dk_at dksX1_isBook_3 18 rfl rfl)
theorem dX1_isBook_92 : decode cX1_isBook 92 = .ok (.ireturn, 1) := dk_172 (dk_at dksX1_isBook_3 20 rfl rfl)
abbrev cX1_ways : ByteArray := prog_12_method_28_code
def yX1_ways : MethodName := ⟨RX1, "ways", "()I"⟩
def dkwX1_ways_1 : List UInt8 := [180, 0, 167, 156, 0, 7, 3, 167, 0, 9, 4, 42, 180, 0, 173, 96, 172]
abbrev dktX1_ways_1 : List UInt8 := dkwX1_ways_1 ++ []
def dkwX1_ways_0 : List UInt8 := [42, 180, 0, 161, 154, 0, 6, 16, 253, 172, 42, 182, 0, 189, 154, 0, 8, 16, 250, 167, 0, 20, 42]
abbrev dktX1_ways_0 : List UInt8 := dkwX1_ways_0 ++ dktX1_ways_1
theorem dksX1_ways_0 : cX1_ways.data.toList.drop 0 = dktX1_ways_0 := by decide +kernel
theorem dksX1_ways_1 : cX1_ways.data.toList.drop 23 = dktX1_ways_1 := dk_seg dksX1_ways_0 23 rfl rfl
theorem dX1_ways_0 : decode cX1_ways 0 = .ok (.aload_n 0, 1) := dk_42 (dk_at dksX1_ways_0 0 rfl rfl)
theorem dX1_ways_1 : decode cX1_ways 1 = .ok (.getfield 161, 3) := dk_180 0 161 (dk_at dksX1_ways_0 1 rfl rfl)
theorem dX1_ways_4 : decode cX1_ways 4 = .ok (.ifCond .ne 6, 3) := dk_154 0 6 (dk_at dksX1_ways_0 4 rfl rfl)
theorem dX1_ways_7 : decode cX1_ways 7 = .ok (.bipush (-3), 2) := dk_16 253 (dk_at dksX1_ways_0 7 rfl rfl)
theorem dX1_ways_9 : decode cX1_ways 9 = .ok (.ireturn, 1) := dk_172 (dk_at dksX1_ways_0 9 rfl rfl)
theorem dX1_ways_10 : decode cX1_ways 10 = .ok (.aload_n 0, 1) := dk_42 (dk_at dksX1_ways_0 10 rfl rfl)
theorem dX1_ways_11 : decode cX1_ways 11 = .ok (.invokevirtual 189, 3) := dk_182 0 189 (dk_at dksX1_ways_0 11 rfl rfl)
theorem dX1_ways_14 : decode cX1_ways 14 = .ok (.ifCond .ne 8, 3) := dk_154 0 8 (dk_at dksX1_ways_0 14 rfl rfl)
theorem dX1_ways_17 : decode cX1_ways 17 = .ok (.bipush (-6), 2) := dk_16 250 (dk_at dksX1_ways_0 17 rfl rfl)
theorem dX1_ways_19 : decode cX1_ways 19 = .ok (.goto 20, 3) := dk_167 0 20 (dk_at dksX1_ways_0 19 rfl rfl)
theorem dX1_ways_22 : decode cX1_ways 22 = .ok (.aload_n 0, 1) := dk_42 (dk_at dksX1_ways_0 22 rfl rfl)
theorem dX1_ways_23 : decode cX1_ways 23 = .ok (.getfield 167, 3) := dk_180 0 167 (dk_at dksX1_ways_1 0 rfl rfl)
theorem dX1_ways_26 : decode cX1_ways 26 = .ok (.ifCond .ge 7, 3) := dk_156 0 7 (dk_at dksX1_ways_1 3 rfl rfl)
theorem dX1_ways_29 : decode cX1_ways 29 = .ok (.iconst 0, 1) := dk_3 (dk_at dksX1_ways_1 6 rfl rfl)
theorem dX1_ways_30 : decode cX1_ways 30 = .ok (.goto 9, 3) := dk_167 0 9 (dk_at dksX1_ways_1 7 rfl rfl)
theorem dX1_ways_33 : decode cX1_ways 33 = .ok (.iconst 1, 1) := dk_4 (dk_at dksX1_ways_1 10 rfl rfl)
theorem dX1_ways_34 : decode cX1_ways 34 = .ok (.aload_n 0, 1) := dk_42 (dk_at dksX1_ways_1 11 rfl rfl)
theorem dX1_ways_35 : decode cX1_ways 35 = .ok (.getfield 173, 3) := dk_180 0 173 (dk_at dksX1_ways_1 12 rfl rfl)
theorem dX1_ways_38 : decode cX1_ways 38 = .ok (.iadd, 1) := dk_96 (dk_at dksX1_ways_1 15 rfl rfl)
theorem dX1_ways_39 : decode cX1_ways 39 = .ok (.ireturn, 1) := dk_172 (dk_at dksX1_ways_1 16 rfl rfl)
abbrev cX1_search : ByteArray := prog_12_method_27_code
def yX1_search : MethodName := ⟨RX1, "search", "()Z"⟩
def dkwX1_search_15 : List UInt8 := [180, 0, 164, 2, 79, 42, 182, 0, 186, 167, 254, 208, 4, 172]
abbrev dktX1_search_15 : List UInt8 := dkwX1_search_15 ++ []
def dkwX1_search_14 : List UInt8 := [180, 0, 164, 4, 100, 46, 46, 28, 160, 0, 7, 4, 167, 0, 4, 3, 96, 79, 42, 180, 0, 47, 42]
abbrev dktX1_search_14 : List UInt8 := dkwX1_search_14 ++ dktX1_search_15
def dkwX1_search_13 : List UInt8 := [180, 0, 164, 4, 100, 46, 42, 180, 0, 161, 162, 0, 27, 42, 180, 0, 41, 42, 180, 0, 53, 42]
abbrev dktX1_search_13 : List UInt8 := dkwX1_search_13 ++ dktX1_search_14
def dkwX1_search_12 : List UInt8 := [180, 0, 53, 42, 180, 0, 164, 42, 180, 0, 53, 42, 180, 0, 164, 4, 100, 46, 42, 180, 0, 53, 42]
abbrev dktX1_search_12 : List UInt8 := dkwX1_search_12 ++ dktX1_search_13
def dkwX1_search_11 : List UInt8 := [180, 0, 164, 42, 180, 0, 56, 42, 180, 0, 164, 4, 100, 46, 42, 180, 0, 16, 27, 46, 96, 79, 42]
abbrev dktX1_search_11 : List UInt8 := dkwX1_search_11 ++ dktX1_search_12
def dkwX1_search_10 : List UInt8 := [180, 0, 164, 4, 96, 181, 0, 164, 42, 180, 0, 50, 42, 180, 0, 164, 28, 79, 42, 180, 0, 56, 42]
abbrev dktX1_search_10 : List UInt8 := dkwX1_search_10 ++ dktX1_search_11
def dkwX1_search_9 : List UInt8 := [42, 89, 180, 0, 176, 4, 96, 181, 0, 176, 42, 180, 0, 47, 42, 180, 0, 164, 27, 79, 42, 89]
abbrev dktX1_search_9 : List UInt8 := dkwX1_search_9 ++ dktX1_search_10
def dkwX1_search_8 : List UInt8 := [42, 89, 180, 0, 164, 4, 100, 181, 0, 164, 167, 0, 159, 42, 180, 0, 176, 18, 185, 160, 0, 5, 3, 172]
abbrev dktX1_search_8 : List UInt8 := dkwX1_search_8 ++ dktX1_search_9
def dkwX1_search_7 : List UInt8 := [167, 0, 4, 28, 61, 27, 28, 156, 0, 7, 4, 167, 0, 4, 3, 96, 60, 167, 255, 165, 28, 156, 0, 16]
abbrev dktX1_search_7 : List UInt8 := dkwX1_search_7 ++ dktX1_search_8
def dkwX1_search_6 : List UInt8 := [42, 180, 0, 56, 42, 180, 0, 164, 46, 42, 180, 0, 16, 27, 46, 96, 42, 180, 0, 167, 164, 0, 7, 2]
abbrev dktX1_search_6 : List UInt8 := dkwX1_search_6 ++ dktX1_search_7
def dkwX1_search_5 : List UInt8 := [42, 180, 0, 50, 42, 180, 0, 164, 46, 182, 0, 182, 61, 28, 155, 0, 37, 42, 180, 0, 167, 155, 0, 30]
abbrev dktX1_search_5 : List UInt8 := dkwX1_search_5 ++ dktX1_search_6
def dkwX1_search_4 : List UInt8 := [180, 0, 108, 162, 0, 89, 28, 156, 0, 85, 42, 27, 182, 0, 179, 153, 0, 7, 2, 167, 0, 17, 42, 27]
abbrev dktX1_search_4 : List UInt8 := dkwX1_search_4 ++ dktX1_search_5
def dkwX1_search_3 : List UInt8 := [180, 0, 108, 167, 0, 14, 42, 180, 0, 47, 42, 180, 0, 164, 46, 4, 96, 60, 2, 61, 27, 42]
abbrev dktX1_search_3 : List UInt8 := dkwX1_search_3 ++ dktX1_search_4
def dkwX1_search_2 : List UInt8 := [180, 0, 47, 3, 2, 79, 42, 180, 0, 164, 155, 1, 47, 42, 180, 0, 164, 16, 10, 160, 0, 10, 42]
abbrev dktX1_search_2 : List UInt8 := dkwX1_search_2 ++ dktX1_search_3
def dkwX1_search_1 : List UInt8 := [3, 42, 180, 0, 41, 3, 46, 79, 42, 180, 0, 53, 3, 4, 79, 42, 180, 0, 56, 3, 3, 79, 42]
abbrev dktX1_search_1 : List UInt8 := dkwX1_search_1 ++ dktX1_search_2
def dkwX1_search_0 : List UInt8 := [42, 3, 181, 0, 176, 42, 2, 181, 0, 167, 42, 3, 181, 0, 173, 42, 3, 181, 0, 164, 42, 180, 0, 50]
abbrev dktX1_search_0 : List UInt8 := dkwX1_search_0 ++ dktX1_search_1
theorem dksX1_search_0 : cX1_search.data.toList.drop 0 = dktX1_search_0 := by decide +kernel
theorem dksX1_search_1 : cX1_search.data.toList.drop 24 = dktX1_search_1 := dk_seg dksX1_search_0 24 rfl rfl
theorem dksX1_search_2 : cX1_search.data.toList.drop 47 = dktX1_search_2 := dk_seg dksX1_search_1 23 rfl rfl
theorem dksX1_search_3 : cX1_search.data.toList.drop 70 = dktX1_search_3 := dk_seg dksX1_search_2 23 rfl rfl
theorem dksX1_search_4 : cX1_search.data.toList.drop 92 = dktX1_search_4 := dk_seg dksX1_search_3 22 rfl rfl
theorem dksX1_search_5 : cX1_search.data.toList.drop 116 = dktX1_search_5 := dk_seg dksX1_search_4 24 rfl rfl
theorem dksX1_search_6 : cX1_search.data.toList.drop 140 = dktX1_search_6 := dk_seg dksX1_search_5 24 rfl rfl
theorem dksX1_search_7 : cX1_search.data.toList.drop 164 = dktX1_search_7 := dk_seg dksX1_search_6 24 rfl rfl
theorem dksX1_search_8 : cX1_search.data.toList.drop 188 = dktX1_search_8 := dk_seg dksX1_search_7 24 rfl rfl
theorem dksX1_search_9 : cX1_search.data.toList.drop 212 = dktX1_search_9 := dk_seg dksX1_search_8 24 rfl rfl
theorem dksX1_search_10 : cX1_search.data.toList.drop 234 = dktX1_search_10 := dk_seg dksX1_search_9 22 rfl rfl
theorem dksX1_search_11 : cX1_search.data.toList.drop 257 = dktX1_search_11 := dk_seg dksX1_search_10 23 rfl rfl
theorem dksX1_search_12 : cX1_search.data.toList.drop 280 = dktX1_search_12 := dk_seg dksX1_search_11 23 rfl rfl
theorem dksX1_search_13 : cX1_search.data.toList.drop 303 = dktX1_search_13 := dk_seg dksX1_search_12 23 rfl rfl
theorem dksX1_search_14 : cX1_search.data.toList.drop 325 = dktX1_search_14 := dk_seg dksX1_search_13 22 rfl rfl
theorem dksX1_search_15 : cX1_search.data.toList.drop 348 = dktX1_search_15 := dk_seg dksX1_search_14 23 rfl rfl
theorem dX1_search_0 : decode cX1_search 0 = .ok (.aload_n 0, 1) := dk_42 (dk_at dksX1_search_0 0 rfl rfl)
theorem dX1_search_1 : decode cX1_search 1 = .ok (.iconst 0, 1) := dk_3 (dk_at dksX1_search_0 1 rfl rfl)
theorem dX1_search_2 : decode cX1_search 2 = .ok (.putfield 176, 3) := dk_181 0 176 (dk_at dksX1_search_0 2 rfl rfl)
theorem dX1_search_5 : decode cX1_search 5 = .ok (.aload_n 0, 1) := dk_42 (dk_at dksX1_search_0 5 rfl rfl)
theorem dX1_search_6 : decode cX1_search 6 = .ok (.iconst (-1), 1) := dk_2 (dk_at dksX1_search_0 6 rfl rfl)
theorem dX1_search_7 : decode cX1_search 7 = .ok (.putfield 167, 3) := dk_181 0 167 (dk_at dksX1_search_0 7 rfl rfl)
theorem dX1_search_10 : decode cX1_search 10 = .ok (.aload_n 0, 1) := dk_42 (dk_at dksX1_search_0 10 rfl rfl)
theorem dX1_search_11 : decode cX1_search 11 = .ok (.iconst 0, 1) := dk_3 (dk_at dksX1_search_0 11 rfl rfl)
theorem dX1_search_12 : decode cX1_search 12 = .ok (.putfield 173, 3) := dk_181 0 173 (dk_at dksX1_search_0 12 rfl rfl)
theorem dX1_search_15 : decode cX1_search 15 = .ok (.aload_n 0, 1) := dk_42 (dk_at dksX1_search_0 15 rfl rfl)
theorem dX1_search_16 : decode cX1_search 16 = .ok (.iconst 0, 1) := dk_3 (dk_at dksX1_search_0 16 rfl rfl)
theorem dX1_search_17 : decode cX1_search 17 = .ok (.putfield 164, 3) := dk_181 0 164 (dk_at dksX1_search_0 17 rfl rfl)
theorem dX1_search_20 : decode cX1_search 20 = .ok (.aload_n 0, 1) := dk_42 (dk_at dksX1_search_0 20 rfl rfl)
theorem dX1_search_21 : decode cX1_search 21 = .ok (.getfield 50, 3) := dk_180 0 50 (dk_at dksX1_search_0 21 rfl rfl)
theorem dX1_search_24 : decode cX1_search 24 = .ok (.iconst 0, 1) := dk_3 (dk_at dksX1_search_1 0 rfl rfl)
theorem dX1_search_25 : decode cX1_search 25 = .ok (.aload_n 0, 1) := dk_42 (dk_at dksX1_search_1 1 rfl rfl)
theorem dX1_search_26 : decode cX1_search 26 = .ok (.getfield 41, 3) := dk_180 0 41 (dk_at dksX1_search_1 2 rfl rfl)
theorem dX1_search_29 : decode cX1_search 29 = .ok (.iconst 0, 1) := dk_3 (dk_at dksX1_search_1 5 rfl rfl)
theorem dX1_search_30 : decode cX1_search 30 = .ok (.iaload, 1) := dk_46 (dk_at dksX1_search_1 6 rfl rfl)
theorem dX1_search_31 : decode cX1_search 31 = .ok (.iastore, 1) := dk_79 (dk_at dksX1_search_1 7 rfl rfl)
theorem dX1_search_32 : decode cX1_search 32 = .ok (.aload_n 0, 1) := dk_42 (dk_at dksX1_search_1 8 rfl rfl)
theorem dX1_search_33 : decode cX1_search 33 = .ok (.getfield 53, 3) := dk_180 0 53 (dk_at dksX1_search_1 9 rfl rfl)
theorem dX1_search_36 : decode cX1_search 36 = .ok (.iconst 0, 1) := dk_3 (dk_at dksX1_search_1 12 rfl rfl)
theorem dX1_search_37 : decode cX1_search 37 = .ok (.iconst 1, 1) := dk_4 (dk_at dksX1_search_1 13 rfl rfl)
theorem dX1_search_38 : decode cX1_search 38 = .ok (.iastore, 1) := dk_79 (dk_at dksX1_search_1 14 rfl rfl)
theorem dX1_search_39 : decode cX1_search 39 = .ok (.aload_n 0, 1) := dk_42 (dk_at dksX1_search_1 15 rfl rfl)
theorem dX1_search_40 : decode cX1_search 40 = .ok (.getfield 56, 3) := dk_180 0 56 (dk_at dksX1_search_1 16 rfl rfl)
theorem dX1_search_43 : decode cX1_search 43 = .ok (.iconst 0, 1) := dk_3 (dk_at dksX1_search_1 19 rfl rfl)
theorem dX1_search_44 : decode cX1_search 44 = .ok (.iconst 0, 1) := dk_3 (dk_at dksX1_search_1 20 rfl rfl)
theorem dX1_search_45 : decode cX1_search 45 = .ok (.iastore, 1) := dk_79 (dk_at dksX1_search_1 21 rfl rfl)
theorem dX1_search_46 : decode cX1_search 46 = .ok (.aload_n 0, 1) := dk_42 (dk_at dksX1_search_1 22 rfl rfl)
theorem dX1_search_47 : decode cX1_search 47 = .ok (.getfield 47, 3) := dk_180 0 47 (dk_at dksX1_search_2 0 rfl rfl)
theorem dX1_search_50 : decode cX1_search 50 = .ok (.iconst 0, 1) := dk_3 (dk_at dksX1_search_2 3 rfl rfl)
theorem dX1_search_51 : decode cX1_search 51 = .ok (.iconst (-1), 1) := dk_2 (dk_at dksX1_search_2 4 rfl rfl)
theorem dX1_search_52 : decode cX1_search 52 = .ok (.iastore, 1) := dk_79 (dk_at dksX1_search_2 5 rfl rfl)
theorem dX1_search_53 : decode cX1_search 53 = .ok (.aload_n 0, 1) := dk_42 (dk_at dksX1_search_2 6 rfl rfl)
theorem dX1_search_54 : decode cX1_search 54 = .ok (.getfield 164, 3) := dk_180 0 164 (dk_at dksX1_search_2 7 rfl rfl)
theorem dX1_search_57 : decode cX1_search 57 = .ok (.ifCond .lt 303, 3) := dk_155 1 47 (dk_at dksX1_search_2 10 rfl rfl)
theorem dX1_search_60 : decode cX1_search 60 = .ok (.aload_n 0, 1) := dk_42 (dk_at dksX1_search_2 13 rfl rfl)
theorem dX1_search_61 : decode cX1_search 61 = .ok (.getfield 164, 3) := dk_180 0 164 (dk_at dksX1_search_2 14 rfl rfl)
theorem dX1_search_64 : decode cX1_search 64 = .ok (.bipush 10, 2) := dk_16 10 (dk_at dksX1_search_2 17 rfl rfl)
theorem dX1_search_66 : decode cX1_search 66 = .ok (.if_icmp .ne 10, 3) := dk_160 0 10 (dk_at dksX1_search_2 19 rfl rfl)
theorem dX1_search_69 : decode cX1_search 69 = .ok (.aload_n 0, 1) := dk_42 (dk_at dksX1_search_2 22 rfl rfl)
theorem dX1_search_70 : decode cX1_search 70 = .ok (.getfield 108, 3) := dk_180 0 108 (dk_at dksX1_search_3 0 rfl rfl)
theorem dX1_search_73 : decode cX1_search 73 = .ok (.goto 14, 3) := dk_167 0 14 (dk_at dksX1_search_3 3 rfl rfl)
theorem dX1_search_76 : decode cX1_search 76 = .ok (.aload_n 0, 1) := dk_42 (dk_at dksX1_search_3 6 rfl rfl)
theorem dX1_search_77 : decode cX1_search 77 = .ok (.getfield 47, 3) := dk_180 0 47 (dk_at dksX1_search_3 7 rfl rfl)
theorem dX1_search_80 : decode cX1_search 80 = .ok (.aload_n 0, 1) := dk_42 (dk_at dksX1_search_3 10 rfl rfl)
theorem dX1_search_81 : decode cX1_search 81 = .ok (.getfield 164, 3) := dk_180 0 164 (dk_at dksX1_search_3 11 rfl rfl)
theorem dX1_search_84 : decode cX1_search 84 = .ok (.iaload, 1) := dk_46 (dk_at dksX1_search_3 14 rfl rfl)
theorem dX1_search_85 : decode cX1_search 85 = .ok (.iconst 1, 1) := dk_4 (dk_at dksX1_search_3 15 rfl rfl)
theorem dX1_search_86 : decode cX1_search 86 = .ok (.iadd, 1) := dk_96 (dk_at dksX1_search_3 16 rfl rfl)
theorem dX1_search_87 : decode cX1_search 87 = .ok (.istore_n 1, 1) := dk_60 (dk_at dksX1_search_3 17 rfl rfl)
theorem dX1_search_88 : decode cX1_search 88 = .ok (.iconst (-1), 1) := dk_2 (dk_at dksX1_search_3 18 rfl rfl)
theorem dX1_search_89 : decode cX1_search 89 = .ok (.istore_n 2, 1) := dk_61 (dk_at dksX1_search_3 19 rfl rfl)
theorem dX1_search_90 : decode cX1_search 90 = .ok (.iload_n 1, 1) := dk_27 (dk_at dksX1_search_3 20 rfl rfl)
theorem dX1_search_91 : decode cX1_search 91 = .ok (.aload_n 0, 1) := dk_42 (dk_at dksX1_search_3 21 rfl rfl)
theorem dX1_search_92 : decode cX1_search 92 = .ok (.getfield 108, 3) := dk_180 0 108 (dk_at dksX1_search_4 0 rfl rfl)
theorem dX1_search_95 : decode cX1_search 95 = .ok (.if_icmp .ge 89, 3) := dk_162 0 89 (dk_at dksX1_search_4 3 rfl rfl)
theorem dX1_search_98 : decode cX1_search 98 = .ok (.iload_n 2, 1) := dk_28 (dk_at dksX1_search_4 6 rfl rfl)
theorem dX1_search_99 : decode cX1_search 99 = .ok (.ifCond .ge 85, 3) := dk_156 0 85 (dk_at dksX1_search_4 7 rfl rfl)
theorem dX1_search_102 : decode cX1_search 102 = .ok (.aload_n 0, 1) := dk_42 (dk_at dksX1_search_4 10 rfl rfl)
theorem dX1_search_103 : decode cX1_search 103 = .ok (.iload_n 1, 1) := dk_27 (dk_at dksX1_search_4 11 rfl rfl)
theorem dX1_search_104 : decode cX1_search 104 = .ok (.invokevirtual 179, 3) := dk_182 0 179 (dk_at dksX1_search_4 12 rfl rfl)
theorem dX1_search_107 : decode cX1_search 107 = .ok (.ifCond .eq 7, 3) := dk_153 0 7 (dk_at dksX1_search_4 15 rfl rfl)
theorem dX1_search_110 : decode cX1_search 110 = .ok (.iconst (-1), 1) := dk_2 (dk_at dksX1_search_4 18 rfl rfl)
theorem dX1_search_111 : decode cX1_search 111 = .ok (.goto 17, 3) := dk_167 0 17 (dk_at dksX1_search_4 19 rfl rfl)
theorem dX1_search_114 : decode cX1_search 114 = .ok (.aload_n 0, 1) := dk_42 (dk_at dksX1_search_4 22 rfl rfl)
theorem dX1_search_115 : decode cX1_search 115 = .ok (.iload_n 1, 1) := dk_27 (dk_at dksX1_search_4 23 rfl rfl)
theorem dX1_search_116 : decode cX1_search 116 = .ok (.aload_n 0, 1) := dk_42 (dk_at dksX1_search_5 0 rfl rfl)
theorem dX1_search_117 : decode cX1_search 117 = .ok (.getfield 50, 3) := dk_180 0 50 (dk_at dksX1_search_5 1 rfl rfl)
theorem dX1_search_120 : decode cX1_search 120 = .ok (.aload_n 0, 1) := dk_42 (dk_at dksX1_search_5 4 rfl rfl)
theorem dX1_search_121 : decode cX1_search 121 = .ok (.getfield 164, 3) := dk_180 0 164 (dk_at dksX1_search_5 5 rfl rfl)
theorem dX1_search_124 : decode cX1_search 124 = .ok (.iaload, 1) := dk_46 (dk_at dksX1_search_5 8 rfl rfl)
theorem dX1_search_125 : decode cX1_search 125 = .ok (.invokevirtual 182, 3) := dk_182 0 182 (dk_at dksX1_search_5 9 rfl rfl)
theorem dX1_search_128 : decode cX1_search 128 = .ok (.istore_n 2, 1) := dk_61 (dk_at dksX1_search_5 12 rfl rfl)
theorem dX1_search_129 : decode cX1_search 129 = .ok (.iload_n 2, 1) := dk_28 (dk_at dksX1_search_5 13 rfl rfl)
theorem dX1_search_130 : decode cX1_search 130 = .ok (.ifCond .lt 37, 3) := dk_155 0 37 (dk_at dksX1_search_5 14 rfl rfl)
theorem dX1_search_133 : decode cX1_search 133 = .ok (.aload_n 0, 1) := dk_42 (dk_at dksX1_search_5 17 rfl rfl)
theorem dX1_search_134 : decode cX1_search 134 = .ok (.getfield 167, 3) := dk_180 0 167 (dk_at dksX1_search_5 18 rfl rfl)
theorem dX1_search_137 : decode cX1_search 137 = .ok (.ifCond .lt 30, 3) := dk_155 0 30 (dk_at dksX1_search_5 21 rfl rfl)
theorem dX1_search_140 : decode cX1_search 140 = .ok (.aload_n 0, 1) := dk_42 (dk_at dksX1_search_6 0 rfl rfl)
theorem dX1_search_141 : decode cX1_search 141 = .ok (.getfield 56, 3) := dk_180 0 56 (dk_at dksX1_search_6 1 rfl rfl)
theorem dX1_search_144 : decode cX1_search 144 = .ok (.aload_n 0, 1) := dk_42 (dk_at dksX1_search_6 4 rfl rfl)
theorem dX1_search_145 : decode cX1_search 145 = .ok (.getfield 164, 3) := dk_180 0 164 (dk_at dksX1_search_6 5 rfl rfl)
theorem dX1_search_148 : decode cX1_search 148 = .ok (.iaload, 1) := dk_46 (dk_at dksX1_search_6 8 rfl rfl)
theorem dX1_search_149 : decode cX1_search 149 = .ok (.aload_n 0, 1) := dk_42 (dk_at dksX1_search_6 9 rfl rfl)
theorem dX1_search_150 : decode cX1_search 150 = .ok (.getfield 16, 3) := dk_180 0 16 (dk_at dksX1_search_6 10 rfl rfl)
theorem dX1_search_153 : decode cX1_search 153 = .ok (.iload_n 1, 1) := dk_27 (dk_at dksX1_search_6 13 rfl rfl)
theorem dX1_search_154 : decode cX1_search 154 = .ok (.iaload, 1) := dk_46 (dk_at dksX1_search_6 14 rfl rfl)
theorem dX1_search_155 : decode cX1_search 155 = .ok (.iadd, 1) := dk_96 (dk_at dksX1_search_6 15 rfl rfl)
theorem dX1_search_156 : decode cX1_search 156 = .ok (.aload_n 0, 1) := dk_42 (dk_at dksX1_search_6 16 rfl rfl)
theorem dX1_search_157 : decode cX1_search 157 = .ok (.getfield 167, 3) := dk_180 0 167 (dk_at dksX1_search_6 17 rfl rfl)
theorem dX1_search_160 : decode cX1_search 160 = .ok (.if_icmp .le 7, 3) := dk_164 0 7 (dk_at dksX1_search_6 20 rfl rfl)
theorem dX1_search_163 : decode cX1_search 163 = .ok (.iconst (-1), 1) := dk_2 (dk_at dksX1_search_6 23 rfl rfl)
theorem dX1_search_164 : decode cX1_search 164 = .ok (.goto 4, 3) := dk_167 0 4 (dk_at dksX1_search_7 0 rfl rfl)
theorem dX1_search_167 : decode cX1_search 167 = .ok (.iload_n 2, 1) := dk_28 (dk_at dksX1_search_7 3 rfl rfl)
theorem dX1_search_168 : decode cX1_search 168 = .ok (.istore_n 2, 1) := dk_61 (dk_at dksX1_search_7 4 rfl rfl)
theorem dX1_search_169 : decode cX1_search 169 = .ok (.iload_n 1, 1) := dk_27 (dk_at dksX1_search_7 5 rfl rfl)
theorem dX1_search_170 : decode cX1_search 170 = .ok (.iload_n 2, 1) := dk_28 (dk_at dksX1_search_7 6 rfl rfl)
theorem dX1_search_171 : decode cX1_search 171 = .ok (.ifCond .ge 7, 3) := dk_156 0 7 (dk_at dksX1_search_7 7 rfl rfl)
theorem dX1_search_174 : decode cX1_search 174 = .ok (.iconst 1, 1) := dk_4 (dk_at dksX1_search_7 10 rfl rfl)
theorem dX1_search_175 : decode cX1_search 175 = .ok (.goto 4, 3) := dk_167 0 4 (dk_at dksX1_search_7 11 rfl rfl)
theorem dX1_search_178 : decode cX1_search 178 = .ok (.iconst 0, 1) := dk_3 (dk_at dksX1_search_7 14 rfl rfl)
theorem dX1_search_179 : decode cX1_search 179 = .ok (.iadd, 1) := dk_96 (dk_at dksX1_search_7 15 rfl rfl)
theorem dX1_search_180 : decode cX1_search 180 = .ok (.istore_n 1, 1) := dk_60 (dk_at dksX1_search_7 16 rfl rfl)
theorem dX1_search_181 : decode cX1_search 181 = .ok (.goto (-91), 3) := dk_167 255 165 (dk_at dksX1_search_7 17 rfl rfl)
theorem dX1_search_184 : decode cX1_search 184 = .ok (.iload_n 2, 1) := dk_28 (dk_at dksX1_search_7 20 rfl rfl)
theorem dX1_search_185 : decode cX1_search 185 = .ok (.ifCond .ge 16, 3) := dk_156 0 16 (dk_at dksX1_search_7 21 rfl rfl)
theorem dX1_search_188 : decode cX1_search 188 = .ok (.aload_n 0, 1) := dk_42 (dk_at dksX1_search_8 0 rfl rfl)
theorem dX1_search_189 : decode cX1_search 189 = .ok (.dup, 1) := dk_89 (dk_at dksX1_search_8 1 rfl rfl)
theorem dX1_search_190 : decode cX1_search 190 = .ok (.getfield 164, 3) := dk_180 0 164 (dk_at dksX1_search_8 2 rfl rfl)
theorem dX1_search_193 : decode cX1_search 193 = .ok (.iconst 1, 1) := dk_4 (dk_at dksX1_search_8 5 rfl rfl)
theorem dX1_search_194 : decode cX1_search 194 = .ok (.isub, 1) := dk_100 (dk_at dksX1_search_8 6 rfl rfl)
theorem dX1_search_195 : decode cX1_search 195 = .ok (.putfield 164, 3) := dk_181 0 164 (dk_at dksX1_search_8 7 rfl rfl)
theorem dX1_search_198 : decode cX1_search 198 = .ok (.goto 159, 3) := dk_167 0 159 (dk_at dksX1_search_8 10 rfl rfl)
theorem dX1_search_201 : decode cX1_search 201 = .ok (.aload_n 0, 1) := dk_42 (dk_at dksX1_search_8 13 rfl rfl)
theorem dX1_search_202 : decode cX1_search 202 = .ok (.getfield 176, 3) := dk_180 0 176 (dk_at dksX1_search_8 14 rfl rfl)
theorem dX1_search_205 : decode cX1_search 205 = .ok (.ldc 185, 2) := dk_18 185 (dk_at dksX1_search_8 17 rfl rfl)
theorem dX1_search_207 : decode cX1_search 207 = .ok (.if_icmp .ne 5, 3) := dk_160 0 5 (dk_at dksX1_search_8 19 rfl rfl)
theorem dX1_search_210 : decode cX1_search 210 = .ok (.iconst 0, 1) := dk_3 (dk_at dksX1_search_8 22 rfl rfl)
theorem dX1_search_211 : decode cX1_search 211 = .ok (.ireturn, 1) := dk_172 (dk_at dksX1_search_8 23 rfl rfl)
theorem dX1_search_212 : decode cX1_search 212 = .ok (.aload_n 0, 1) := dk_42 (dk_at dksX1_search_9 0 rfl rfl)
theorem dX1_search_213 : decode cX1_search 213 = .ok (.dup, 1) := dk_89 (dk_at dksX1_search_9 1 rfl rfl)
theorem dX1_search_214 : decode cX1_search 214 = .ok (.getfield 176, 3) := dk_180 0 176 (dk_at dksX1_search_9 2 rfl rfl)
theorem dX1_search_217 : decode cX1_search 217 = .ok (.iconst 1, 1) := dk_4 (dk_at dksX1_search_9 5 rfl rfl)
theorem dX1_search_218 : decode cX1_search 218 = .ok (.iadd, 1) := dk_96 (dk_at dksX1_search_9 6 rfl rfl)
theorem dX1_search_219 : decode cX1_search 219 = .ok (.putfield 176, 3) := dk_181 0 176 (dk_at dksX1_search_9 7 rfl rfl)
theorem dX1_search_222 : decode cX1_search 222 = .ok (.aload_n 0, 1) := dk_42 (dk_at dksX1_search_9 10 rfl rfl)
theorem dX1_search_223 : decode cX1_search 223 = .ok (.getfield 47, 3) := dk_180 0 47 (dk_at dksX1_search_9 11 rfl rfl)
theorem dX1_search_226 : decode cX1_search 226 = .ok (.aload_n 0, 1) := dk_42 (dk_at dksX1_search_9 14 rfl rfl)
theorem dX1_search_227 : decode cX1_search 227 = .ok (.getfield 164, 3) := dk_180 0 164 (dk_at dksX1_search_9 15 rfl rfl)
theorem dX1_search_230 : decode cX1_search 230 = .ok (.iload_n 1, 1) := dk_27 (dk_at dksX1_search_9 18 rfl rfl)
theorem dX1_search_231 : decode cX1_search 231 = .ok (.iastore, 1) := dk_79 (dk_at dksX1_search_9 19 rfl rfl)
theorem dX1_search_232 : decode cX1_search 232 = .ok (.aload_n 0, 1) := dk_42 (dk_at dksX1_search_9 20 rfl rfl)
theorem dX1_search_233 : decode cX1_search 233 = .ok (.dup, 1) := dk_89 (dk_at dksX1_search_9 21 rfl rfl)
theorem dX1_search_234 : decode cX1_search 234 = .ok (.getfield 164, 3) := dk_180 0 164 (dk_at dksX1_search_10 0 rfl rfl)
theorem dX1_search_237 : decode cX1_search 237 = .ok (.iconst 1, 1) := dk_4 (dk_at dksX1_search_10 3 rfl rfl)
theorem dX1_search_238 : decode cX1_search 238 = .ok (.iadd, 1) := dk_96 (dk_at dksX1_search_10 4 rfl rfl)
theorem dX1_search_239 : decode cX1_search 239 = .ok (.putfield 164, 3) := dk_181 0 164 (dk_at dksX1_search_10 5 rfl rfl)
theorem dX1_search_242 : decode cX1_search 242 = .ok (.aload_n 0, 1) := dk_42 (dk_at dksX1_search_10 8 rfl rfl)
theorem dX1_search_243 : decode cX1_search 243 = .ok (.getfield 50, 3) := dk_180 0 50 (dk_at dksX1_search_10 9 rfl rfl)
theorem dX1_search_246 : decode cX1_search 246 = .ok (.aload_n 0, 1) := dk_42 (dk_at dksX1_search_10 12 rfl rfl)
theorem dX1_search_247 : decode cX1_search 247 = .ok (.getfield 164, 3) := dk_180 0 164 (dk_at dksX1_search_10 13 rfl rfl)
theorem dX1_search_250 : decode cX1_search 250 = .ok (.iload_n 2, 1) := dk_28 (dk_at dksX1_search_10 16 rfl rfl)
theorem dX1_search_251 : decode cX1_search 251 = .ok (.iastore, 1) := dk_79 (dk_at dksX1_search_10 17 rfl rfl)
theorem dX1_search_252 : decode cX1_search 252 = .ok (.aload_n 0, 1) := dk_42 (dk_at dksX1_search_10 18 rfl rfl)
theorem dX1_search_253 : decode cX1_search 253 = .ok (.getfield 56, 3) := dk_180 0 56 (dk_at dksX1_search_10 19 rfl rfl)
theorem dX1_search_256 : decode cX1_search 256 = .ok (.aload_n 0, 1) := dk_42 (dk_at dksX1_search_10 22 rfl rfl)
theorem dX1_search_257 : decode cX1_search 257 = .ok (.getfield 164, 3) := dk_180 0 164 (dk_at dksX1_search_11 0 rfl rfl)
theorem dX1_search_260 : decode cX1_search 260 = .ok (.aload_n 0, 1) := dk_42 (dk_at dksX1_search_11 3 rfl rfl)
theorem dX1_search_261 : decode cX1_search 261 = .ok (.getfield 56, 3) := dk_180 0 56 (dk_at dksX1_search_11 4 rfl rfl)
theorem dX1_search_264 : decode cX1_search 264 = .ok (.aload_n 0, 1) := dk_42 (dk_at dksX1_search_11 7 rfl rfl)
theorem dX1_search_265 : decode cX1_search 265 = .ok (.getfield 164, 3) := dk_180 0 164 (dk_at dksX1_search_11 8 rfl rfl)
theorem dX1_search_268 : decode cX1_search 268 = .ok (.iconst 1, 1) := dk_4 (dk_at dksX1_search_11 11 rfl rfl)
theorem dX1_search_269 : decode cX1_search 269 = .ok (.isub, 1) := dk_100 (dk_at dksX1_search_11 12 rfl rfl)
theorem dX1_search_270 : decode cX1_search 270 = .ok (.iaload, 1) := dk_46 (dk_at dksX1_search_11 13 rfl rfl)
theorem dX1_search_271 : decode cX1_search 271 = .ok (.aload_n 0, 1) := dk_42 (dk_at dksX1_search_11 14 rfl rfl)
theorem dX1_search_272 : decode cX1_search 272 = .ok (.getfield 16, 3) := dk_180 0 16 (dk_at dksX1_search_11 15 rfl rfl)
theorem dX1_search_275 : decode cX1_search 275 = .ok (.iload_n 1, 1) := dk_27 (dk_at dksX1_search_11 18 rfl rfl)
theorem dX1_search_276 : decode cX1_search 276 = .ok (.iaload, 1) := dk_46 (dk_at dksX1_search_11 19 rfl rfl)
theorem dX1_search_277 : decode cX1_search 277 = .ok (.iadd, 1) := dk_96 (dk_at dksX1_search_11 20 rfl rfl)
theorem dX1_search_278 : decode cX1_search 278 = .ok (.iastore, 1) := dk_79 (dk_at dksX1_search_11 21 rfl rfl)
theorem dX1_search_279 : decode cX1_search 279 = .ok (.aload_n 0, 1) := dk_42 (dk_at dksX1_search_11 22 rfl rfl)
theorem dX1_search_280 : decode cX1_search 280 = .ok (.getfield 53, 3) := dk_180 0 53 (dk_at dksX1_search_12 0 rfl rfl)
theorem dX1_search_283 : decode cX1_search 283 = .ok (.aload_n 0, 1) := dk_42 (dk_at dksX1_search_12 3 rfl rfl)
theorem dX1_search_284 : decode cX1_search 284 = .ok (.getfield 164, 3) := dk_180 0 164 (dk_at dksX1_search_12 4 rfl rfl)
theorem dX1_search_287 : decode cX1_search 287 = .ok (.aload_n 0, 1) := dk_42 (dk_at dksX1_search_12 7 rfl rfl)
theorem dX1_search_288 : decode cX1_search 288 = .ok (.getfield 53, 3) := dk_180 0 53 (dk_at dksX1_search_12 8 rfl rfl)
theorem dX1_search_291 : decode cX1_search 291 = .ok (.aload_n 0, 1) := dk_42 (dk_at dksX1_search_12 11 rfl rfl)
theorem dX1_search_292 : decode cX1_search 292 = .ok (.getfield 164, 3) := dk_180 0 164 (dk_at dksX1_search_12 12 rfl rfl)
theorem dX1_search_295 : decode cX1_search 295 = .ok (.iconst 1, 1) := dk_4 (dk_at dksX1_search_12 15 rfl rfl)
theorem dX1_search_296 : decode cX1_search 296 = .ok (.isub, 1) := dk_100 (dk_at dksX1_search_12 16 rfl rfl)
theorem dX1_search_297 : decode cX1_search 297 = .ok (.iaload, 1) := dk_46 (dk_at dksX1_search_12 17 rfl rfl)
theorem dX1_search_298 : decode cX1_search 298 = .ok (.aload_n 0, 1) := dk_42 (dk_at dksX1_search_12 18 rfl rfl)
theorem dX1_search_299 : decode cX1_search 299 = .ok (.getfield 53, 3) := dk_180 0 53 (dk_at dksX1_search_12 19 rfl rfl)
theorem dX1_search_302 : decode cX1_search 302 = .ok (.aload_n 0, 1) := dk_42 (dk_at dksX1_search_12 22 rfl rfl)
theorem dX1_search_303 : decode cX1_search 303 = .ok (.getfield 164, 3) := dk_180 0 164 (dk_at dksX1_search_13 0 rfl rfl)
theorem dX1_search_306 : decode cX1_search 306 = .ok (.iconst 1, 1) := dk_4 (dk_at dksX1_search_13 3 rfl rfl)
theorem dX1_search_307 : decode cX1_search 307 = .ok (.isub, 1) := dk_100 (dk_at dksX1_search_13 4 rfl rfl)
theorem dX1_search_308 : decode cX1_search 308 = .ok (.iaload, 1) := dk_46 (dk_at dksX1_search_13 5 rfl rfl)
theorem dX1_search_309 : decode cX1_search 309 = .ok (.aload_n 0, 1) := dk_42 (dk_at dksX1_search_13 6 rfl rfl)
theorem dX1_search_310 : decode cX1_search 310 = .ok (.getfield 161, 3) := dk_180 0 161 (dk_at dksX1_search_13 7 rfl rfl)
theorem dX1_search_313 : decode cX1_search 313 = .ok (.if_icmp .ge 27, 3) := dk_162 0 27 (dk_at dksX1_search_13 10 rfl rfl)
theorem dX1_search_316 : decode cX1_search 316 = .ok (.aload_n 0, 1) := dk_42 (dk_at dksX1_search_13 13 rfl rfl)
theorem dX1_search_317 : decode cX1_search 317 = .ok (.getfield 41, 3) := dk_180 0 41 (dk_at dksX1_search_13 14 rfl rfl)
theorem dX1_search_320 : decode cX1_search 320 = .ok (.aload_n 0, 1) := dk_42 (dk_at dksX1_search_13 17 rfl rfl)
theorem dX1_search_321 : decode cX1_search 321 = .ok (.getfield 53, 3) := dk_180 0 53 (dk_at dksX1_search_13 18 rfl rfl)
theorem dX1_search_324 : decode cX1_search 324 = .ok (.aload_n 0, 1) := dk_42 (dk_at dksX1_search_13 21 rfl rfl)
theorem dX1_search_325 : decode cX1_search 325 = .ok (.getfield 164, 3) := dk_180 0 164 (dk_at dksX1_search_14 0 rfl rfl)
theorem dX1_search_328 : decode cX1_search 328 = .ok (.iconst 1, 1) := dk_4 (dk_at dksX1_search_14 3 rfl rfl)
theorem dX1_search_329 : decode cX1_search 329 = .ok (.isub, 1) := dk_100 (dk_at dksX1_search_14 4 rfl rfl)
theorem dX1_search_330 : decode cX1_search 330 = .ok (.iaload, 1) := dk_46 (dk_at dksX1_search_14 5 rfl rfl)
theorem dX1_search_331 : decode cX1_search 331 = .ok (.iaload, 1) := dk_46 (dk_at dksX1_search_14 6 rfl rfl)
theorem dX1_search_332 : decode cX1_search 332 = .ok (.iload_n 2, 1) := dk_28 (dk_at dksX1_search_14 7 rfl rfl)
theorem dX1_search_333 : decode cX1_search 333 = .ok (.if_icmp .ne 7, 3) := dk_160 0 7 (dk_at dksX1_search_14 8 rfl rfl)
theorem dX1_search_336 : decode cX1_search 336 = .ok (.iconst 1, 1) := dk_4 (dk_at dksX1_search_14 11 rfl rfl)
theorem dX1_search_337 : decode cX1_search 337 = .ok (.goto 4, 3) := dk_167 0 4 (dk_at dksX1_search_14 12 rfl rfl)
theorem dX1_search_340 : decode cX1_search 340 = .ok (.iconst 0, 1) := dk_3 (dk_at dksX1_search_14 15 rfl rfl)
theorem dX1_search_341 : decode cX1_search 341 = .ok (.iadd, 1) := dk_96 (dk_at dksX1_search_14 16 rfl rfl)
theorem dX1_search_342 : decode cX1_search 342 = .ok (.iastore, 1) := dk_79 (dk_at dksX1_search_14 17 rfl rfl)
theorem dX1_search_343 : decode cX1_search 343 = .ok (.aload_n 0, 1) := dk_42 (dk_at dksX1_search_14 18 rfl rfl)
theorem dX1_search_344 : decode cX1_search 344 = .ok (.getfield 47, 3) := dk_180 0 47 (dk_at dksX1_search_14 19 rfl rfl)
theorem dX1_search_347 : decode cX1_search 347 = .ok (.aload_n 0, 1) := dk_42 (dk_at dksX1_search_14 22 rfl rfl)
theorem dX1_search_348 : decode cX1_search 348 = .ok (.getfield 164, 3) := dk_180 0 164 (dk_at dksX1_search_15 0 rfl rfl)
theorem dX1_search_351 : decode cX1_search 351 = .ok (.iconst (-1), 1) := dk_2 (dk_at dksX1_search_15 3 rfl rfl)
theorem dX1_search_352 : decode cX1_search 352 = .ok (.iastore, 1) := dk_79 (dk_at dksX1_search_15 4 rfl rfl)
theorem dX1_search_353 : decode cX1_search 353 = .ok (.aload_n 0, 1) := dk_42 (dk_at dksX1_search_15 5 rfl rfl)
theorem dX1_search_354 : decode cX1_search 354 = .ok (.invokevirtual 186, 3) := dk_182 0 186 (dk_at dksX1_search_15 6 rfl rfl)
theorem dX1_search_357 : decode cX1_search 357 = .ok (.goto (-304), 3) := dk_167 254 208 (dk_at dksX1_search_15 9 rfl rfl)
theorem dX1_search_360 : decode cX1_search 360 = .ok (.iconst 1, 1) := dk_4 (dk_at dksX1_search_15 12 rfl rfl)
theorem dX1_search_361 : decode cX1_search 361 = .ok (.ireturn, 1) := dk_172 (dk_at dksX1_search_15 13 rfl rfl)
abbrev cX1_isIn : ByteArray := prog_12_method_25_code
def yX1_isIn : MethodName := ⟨RX1, "isIn", "(I)Z"⟩
def dkwX1_isIn_1 : List UInt8 := [160, 0, 7, 4, 167, 0, 4, 3, 61, 132, 3, 1, 167, 255, 225, 28, 172]
abbrev dktX1_isIn_1 : List UInt8 := dkwX1_isIn_1 ++ []
def dkwX1_isIn_0 : List UInt8 := [3, 61, 3, 62, 29, 42, 180, 0, 164, 162, 0, 29, 28, 154, 0, 13, 42, 180, 0, 47, 29, 46, 27]
abbrev dktX1_isIn_0 : List UInt8 := dkwX1_isIn_0 ++ dktX1_isIn_1
theorem dksX1_isIn_0 : cX1_isIn.data.toList.drop 0 = dktX1_isIn_0 := by decide +kernel
theorem dksX1_isIn_1 : cX1_isIn.data.toList.drop 23 = dktX1_isIn_1 := dk_seg dksX1_isIn_0 23 rfl rfl
theorem dX1_isIn_0 : decode cX1_isIn 0 = .ok (.iconst 0, 1) := dk_3 (dk_at dksX1_isIn_0 0 rfl rfl)
theorem dX1_isIn_1 : decode cX1_isIn 1 = .ok (.istore_n 2, 1) := dk_61 (dk_at dksX1_isIn_0 1 rfl rfl)
theorem dX1_isIn_2 : decode cX1_isIn 2 = .ok (.iconst 0, 1) := dk_3 (dk_at dksX1_isIn_0 2 rfl rfl)
theorem dX1_isIn_3 : decode cX1_isIn 3 = .ok (.istore_n 3, 1) := dk_62 (dk_at dksX1_isIn_0 3 rfl rfl)
theorem dX1_isIn_4 : decode cX1_isIn 4 = .ok (.iload_n 3, 1) := dk_29 (dk_at dksX1_isIn_0 4 rfl rfl)
theorem dX1_isIn_5 : decode cX1_isIn 5 = .ok (.aload_n 0, 1) := dk_42 (dk_at dksX1_isIn_0 5 rfl rfl)
theorem dX1_isIn_6 : decode cX1_isIn 6 = .ok (.getfield 164, 3) := dk_180 0 164 (dk_at dksX1_isIn_0 6 rfl rfl)
theorem dX1_isIn_9 : decode cX1_isIn 9 = .ok (.if_icmp .ge 29, 3) := dk_162 0 29 (dk_at dksX1_isIn_0 9 rfl rfl)
theorem dX1_isIn_12 : decode cX1_isIn 12 = .ok (.iload_n 2, 1) := dk_28 (dk_at dksX1_isIn_0 12 rfl rfl)
theorem dX1_isIn_13 : decode cX1_isIn 13 = .ok (.ifCond .ne 13, 3) := dk_154 0 13 (dk_at dksX1_isIn_0 13 rfl rfl)
theorem dX1_isIn_16 : decode cX1_isIn 16 = .ok (.aload_n 0, 1) := dk_42 (dk_at dksX1_isIn_0 16 rfl rfl)
theorem dX1_isIn_17 : decode cX1_isIn 17 = .ok (.getfield 47, 3) := dk_180 0 47 (dk_at dksX1_isIn_0 17 rfl rfl)
theorem dX1_isIn_20 : decode cX1_isIn 20 = .ok (.iload_n 3, 1) := dk_29 (dk_at dksX1_isIn_0 20 rfl rfl)
theorem dX1_isIn_21 : decode cX1_isIn 21 = .ok (.iaload, 1) := dk_46 (dk_at dksX1_isIn_0 21 rfl rfl)
theorem dX1_isIn_22 : decode cX1_isIn 22 = .ok (.iload_n 1, 1) := dk_27 (dk_at dksX1_isIn_0 22 rfl rfl)
theorem dX1_isIn_23 : decode cX1_isIn 23 = .ok (.if_icmp .ne 7, 3) := dk_160 0 7 (dk_at dksX1_isIn_1 0 rfl rfl)
theorem dX1_isIn_26 : decode cX1_isIn 26 = .ok (.iconst 1, 1) := dk_4 (dk_at dksX1_isIn_1 3 rfl rfl)
theorem dX1_isIn_27 : decode cX1_isIn 27 = .ok (.goto 4, 3) := dk_167 0 4 (dk_at dksX1_isIn_1 4 rfl rfl)
theorem dX1_isIn_30 : decode cX1_isIn 30 = .ok (.iconst 0, 1) := dk_3 (dk_at dksX1_isIn_1 7 rfl rfl)
theorem dX1_isIn_31 : decode cX1_isIn 31 = .ok (.istore_n 2, 1) := dk_61 (dk_at dksX1_isIn_1 8 rfl rfl)
theorem dX1_isIn_32 : decode cX1_isIn 32 = .ok (.iinc 3 1, 3) := dk_132 3 1 (dk_at dksX1_isIn_1 9 rfl rfl)
theorem dX1_isIn_35 : decode cX1_isIn 35 = .ok (.goto (-31), 3) := dk_167 255 225 (dk_at dksX1_isIn_1 12 rfl rfl)
theorem dX1_isIn_38 : decode cX1_isIn 38 = .ok (.iload_n 2, 1) := dk_28 (dk_at dksX1_isIn_1 15 rfl rfl)
theorem dX1_isIn_39 : decode cX1_isIn 39 = .ok (.ireturn, 1) := dk_172 (dk_at dksX1_isIn_1 16 rfl rfl)
abbrev cX1_leads : ByteArray := prog_12_method_12_code
def yX1_leads : MethodName := ⟨RX1, "leads", "(II)I"⟩
def dkwX1_leads_2 : List UInt8 := [160, 0, 22, 42, 180, 0, 19, 27, 46, 4, 159, 0, 12, 42, 180, 0, 7, 27, 46, 167, 0, 4, 2, 172]
abbrev dktX1_leads_2 : List UInt8 := dkwX1_leads_2 ++ []
def dkwX1_leads_1 : List UInt8 := [27, 46, 28, 160, 0, 12, 42, 180, 0, 13, 27, 46, 167, 0, 33, 42, 180, 0, 13, 27, 46, 28]
abbrev dktX1_leads_1 : List UInt8 := dkwX1_leads_1 ++ dktX1_leads_2
def dkwX1_leads_0 : List UInt8 := [42, 180, 0, 22, 27, 51, 154, 0, 12, 42, 180, 0, 26, 27, 51, 153, 0, 5, 2, 172, 42, 180, 0, 7]
abbrev dktX1_leads_0 : List UInt8 := dkwX1_leads_0 ++ dktX1_leads_1
theorem dksX1_leads_0 : cX1_leads.data.toList.drop 0 = dktX1_leads_0 := by decide +kernel
theorem dksX1_leads_1 : cX1_leads.data.toList.drop 24 = dktX1_leads_1 := dk_seg dksX1_leads_0 24 rfl rfl
theorem dksX1_leads_2 : cX1_leads.data.toList.drop 46 = dktX1_leads_2 := dk_seg dksX1_leads_1 22 rfl rfl
theorem dX1_leads_0 : decode cX1_leads 0 = .ok (.aload_n 0, 1) := dk_42 (dk_at dksX1_leads_0 0 rfl rfl)
theorem dX1_leads_1 : decode cX1_leads 1 = .ok (.getfield 22, 3) := dk_180 0 22 (dk_at dksX1_leads_0 1 rfl rfl)
theorem dX1_leads_4 : decode cX1_leads 4 = .ok (.iload_n 1, 1) := dk_27 (dk_at dksX1_leads_0 4 rfl rfl)
theorem dX1_leads_5 : decode cX1_leads 5 = .ok (.baload, 1) := dk_51 (dk_at dksX1_leads_0 5 rfl rfl)
theorem dX1_leads_6 : decode cX1_leads 6 = .ok (.ifCond .ne 12, 3) := dk_154 0 12 (dk_at dksX1_leads_0 6 rfl rfl)
theorem dX1_leads_9 : decode cX1_leads 9 = .ok (.aload_n 0, 1) := dk_42 (dk_at dksX1_leads_0 9 rfl rfl)
theorem dX1_leads_10 : decode cX1_leads 10 = .ok (.getfield 26, 3) := dk_180 0 26 (dk_at dksX1_leads_0 10 rfl rfl)
theorem dX1_leads_13 : decode cX1_leads 13 = .ok (.iload_n 1, 1) := dk_27 (dk_at dksX1_leads_0 13 rfl rfl)
theorem dX1_leads_14 : decode cX1_leads 14 = .ok (.baload, 1) := dk_51 (dk_at dksX1_leads_0 14 rfl rfl)
theorem dX1_leads_15 : decode cX1_leads 15 = .ok (.ifCond .eq 5, 3) := dk_153 0 5 (dk_at dksX1_leads_0 15 rfl rfl)
theorem dX1_leads_18 : decode cX1_leads 18 = .ok (.iconst (-1), 1) := dk_2 (dk_at dksX1_leads_0 18 rfl rfl)
theorem dX1_leads_19 : decode cX1_leads 19 = .ok (.ireturn, 1) := dk_172 (dk_at dksX1_leads_0 19 rfl rfl)
theorem dX1_leads_20 : decode cX1_leads 20 = .ok (.aload_n 0, 1) := dk_42 (dk_at dksX1_leads_0 20 rfl rfl)
theorem dX1_leads_21 : decode cX1_leads 21 = .ok (.getfield 7, 3) := dk_180 0 7 (dk_at dksX1_leads_0 21 rfl rfl)
theorem dX1_leads_24 : decode cX1_leads 24 = .ok (.iload_n 1, 1) := dk_27 (dk_at dksX1_leads_1 0 rfl rfl)
theorem dX1_leads_25 : decode cX1_leads 25 = .ok (.iaload, 1) := dk_46 (dk_at dksX1_leads_1 1 rfl rfl)
theorem dX1_leads_26 : decode cX1_leads 26 = .ok (.iload_n 2, 1) := dk_28 (dk_at dksX1_leads_1 2 rfl rfl)
theorem dX1_leads_27 : decode cX1_leads 27 = .ok (.if_icmp .ne 12, 3) := dk_160 0 12 (dk_at dksX1_leads_1 3 rfl rfl)
theorem dX1_leads_30 : decode cX1_leads 30 = .ok (.aload_n 0, 1) := dk_42 (dk_at dksX1_leads_1 6 rfl rfl)
theorem dX1_leads_31 : decode cX1_leads 31 = .ok (.getfield 13, 3) := dk_180 0 13 (dk_at dksX1_leads_1 7 rfl rfl)
theorem dX1_leads_34 : decode cX1_leads 34 = .ok (.iload_n 1, 1) := dk_27 (dk_at dksX1_leads_1 10 rfl rfl)
theorem dX1_leads_35 : decode cX1_leads 35 = .ok (.iaload, 1) := dk_46 (dk_at dksX1_leads_1 11 rfl rfl)
theorem dX1_leads_36 : decode cX1_leads 36 = .ok (.goto 33, 3) := dk_167 0 33 (dk_at dksX1_leads_1 12 rfl rfl)
theorem dX1_leads_39 : decode cX1_leads 39 = .ok (.aload_n 0, 1) := dk_42 (dk_at dksX1_leads_1 15 rfl rfl)
theorem dX1_leads_40 : decode cX1_leads 40 = .ok (.getfield 13, 3) := dk_180 0 13 (dk_at dksX1_leads_1 16 rfl rfl)
theorem dX1_leads_43 : decode cX1_leads 43 = .ok (.iload_n 1, 1) := dk_27 (dk_at dksX1_leads_1 19 rfl rfl)
theorem dX1_leads_44 : decode cX1_leads 44 = .ok (.iaload, 1) := dk_46 (dk_at dksX1_leads_1 20 rfl rfl)
theorem dX1_leads_45 : decode cX1_leads 45 = .ok (.iload_n 2, 1) := dk_28 (dk_at dksX1_leads_1 21 rfl rfl)
theorem dX1_leads_46 : decode cX1_leads 46 = .ok (.if_icmp .ne 22, 3) := dk_160 0 22 (dk_at dksX1_leads_2 0 rfl rfl)
theorem dX1_leads_49 : decode cX1_leads 49 = .ok (.aload_n 0, 1) := dk_42 (dk_at dksX1_leads_2 3 rfl rfl)
theorem dX1_leads_50 : decode cX1_leads 50 = .ok (.getfield 19, 3) := dk_180 0 19 (dk_at dksX1_leads_2 4 rfl rfl)
theorem dX1_leads_53 : decode cX1_leads 53 = .ok (.iload_n 1, 1) := dk_27 (dk_at dksX1_leads_2 7 rfl rfl)
theorem dX1_leads_54 : decode cX1_leads 54 = .ok (.iaload, 1) := dk_46 (dk_at dksX1_leads_2 8 rfl rfl)
theorem dX1_leads_55 : decode cX1_leads 55 = .ok (.iconst 1, 1) := dk_4 (dk_at dksX1_leads_2 9 rfl rfl)
theorem dX1_leads_56 : decode cX1_leads 56 = .ok (.if_icmp .eq 12, 3) := dk_159 0 12 (dk_at dksX1_leads_2 10 rfl rfl)
theorem dX1_leads_59 : decode cX1_leads 59 = .ok (.aload_n 0, 1) := dk_42 (dk_at dksX1_leads_2 13 rfl rfl)
theorem dX1_leads_60 : decode cX1_leads 60 = .ok (.getfield 7, 3) := dk_180 0 7 (dk_at dksX1_leads_2 14 rfl rfl)
theorem dX1_leads_63 : decode cX1_leads 63 = .ok (.iload_n 1, 1) := dk_27 (dk_at dksX1_leads_2 17 rfl rfl)
theorem dX1_leads_64 : decode cX1_leads 64 = .ok (.iaload, 1) := dk_46 (dk_at dksX1_leads_2 18 rfl rfl)
theorem dX1_leads_65 : decode cX1_leads 65 = .ok (.goto 4, 3) := dk_167 0 4 (dk_at dksX1_leads_2 19 rfl rfl)
theorem dX1_leads_68 : decode cX1_leads 68 = .ok (.iconst (-1), 1) := dk_2 (dk_at dksX1_leads_2 22 rfl rfl)
theorem dX1_leads_69 : decode cX1_leads 69 = .ok (.ireturn, 1) := dk_172 (dk_at dksX1_leads_2 23 rfl rfl)
abbrev cX1_judge : ByteArray := prog_12_method_26_code
def yX1_judge : MethodName := ⟨RX1, "judge", "()V"⟩
def dkwX1_judge_6 : List UInt8 := [181, 0, 173, 177]
abbrev dktX1_judge_6 : List UInt8 := dkwX1_judge_6 ++ []
def dkwX1_judge_5 : List UInt8 := [42, 180, 0, 56, 42, 180, 0, 164, 46, 42, 180, 0, 167, 160, 0, 13, 42, 89, 180, 0, 173, 4, 96]
abbrev dktX1_judge_5 : List UInt8 := dkwX1_judge_5 ++ dktX1_judge_6
def dkwX1_judge_4 : List UInt8 := [162, 0, 21, 42, 180, 0, 44, 27, 42, 180, 0, 47, 27, 46, 79, 132, 1, 1, 167, 255, 233, 167, 0, 29]
abbrev dktX1_judge_4 : List UInt8 := dkwX1_judge_4 ++ dktX1_judge_5
def dkwX1_judge_3 : List UInt8 := [46, 181, 0, 167, 42, 42, 180, 0, 164, 181, 0, 170, 42, 3, 181, 0, 173, 3, 60, 27, 42, 180, 0, 164]
abbrev dktX1_judge_3 : List UInt8 := dkwX1_judge_3 ++ dktX1_judge_4
def dkwX1_judge_2 : List UInt8 := [180, 0, 56, 42, 180, 0, 164, 46, 42, 180, 0, 167, 162, 0, 60, 42, 42, 180, 0, 56, 42, 180, 0, 164]
abbrev dktX1_judge_2 : List UInt8 := dkwX1_judge_2 ++ dktX1_judge_3
def dkwX1_judge_1 : List UInt8 := [46, 42, 180, 0, 41, 42, 180, 0, 161, 4, 100, 46, 159, 0, 4, 177, 42, 180, 0, 167, 155, 0, 19, 42]
abbrev dktX1_judge_1 : List UInt8 := dkwX1_judge_1 ++ dktX1_judge_2
def dkwX1_judge_0 : List UInt8 := [42, 180, 0, 53, 42, 180, 0, 164, 46, 42, 180, 0, 161, 161, 0, 26, 42, 180, 0, 50, 42, 180, 0, 164]
abbrev dktX1_judge_0 : List UInt8 := dkwX1_judge_0 ++ dktX1_judge_1
theorem dksX1_judge_0 : cX1_judge.data.toList.drop 0 = dktX1_judge_0 := by decide +kernel
theorem dksX1_judge_1 : cX1_judge.data.toList.drop 24 = dktX1_judge_1 := dk_seg dksX1_judge_0 24 rfl rfl
theorem dksX1_judge_2 : cX1_judge.data.toList.drop 48 = dktX1_judge_2 := dk_seg dksX1_judge_1 24 rfl rfl
theorem dksX1_judge_3 : cX1_judge.data.toList.drop 72 = dktX1_judge_3 := dk_seg dksX1_judge_2 24 rfl rfl
theorem dksX1_judge_4 : cX1_judge.data.toList.drop 96 = dktX1_judge_4 := dk_seg dksX1_judge_3 24 rfl rfl
theorem dksX1_judge_5 : cX1_judge.data.toList.drop 120 = dktX1_judge_5 := dk_seg dksX1_judge_4 24 rfl rfl
theorem dksX1_judge_6 : cX1_judge.data.toList.drop 143 = dktX1_judge_6 := dk_seg dksX1_judge_5 23 rfl rfl
theorem dX1_judge_0 : decode cX1_judge 0 = .ok (.aload_n 0, 1) := dk_42 (dk_at dksX1_judge_0 0 rfl rfl)
theorem dX1_judge_1 : decode cX1_judge 1 = .ok (.getfield 53, 3) := dk_180 0 53 (dk_at dksX1_judge_0 1 rfl rfl)
theorem dX1_judge_4 : decode cX1_judge 4 = .ok (.aload_n 0, 1) := dk_42 (dk_at dksX1_judge_0 4 rfl rfl)
theorem dX1_judge_5 : decode cX1_judge 5 = .ok (.getfield 164, 3) := dk_180 0 164 (dk_at dksX1_judge_0 5 rfl rfl)
theorem dX1_judge_8 : decode cX1_judge 8 = .ok (.iaload, 1) := dk_46 (dk_at dksX1_judge_0 8 rfl rfl)
theorem dX1_judge_9 : decode cX1_judge 9 = .ok (.aload_n 0, 1) := dk_42 (dk_at dksX1_judge_0 9 rfl rfl)
theorem dX1_judge_10 : decode cX1_judge 10 = .ok (.getfield 161, 3) := dk_180 0 161 (dk_at dksX1_judge_0 10 rfl rfl)
theorem dX1_judge_13 : decode cX1_judge 13 = .ok (.if_icmp .lt 26, 3) := dk_161 0 26 (dk_at dksX1_judge_0 13 rfl rfl)
theorem dX1_judge_16 : decode cX1_judge 16 = .ok (.aload_n 0, 1) := dk_42 (dk_at dksX1_judge_0 16 rfl rfl)
theorem dX1_judge_17 : decode cX1_judge 17 = .ok (.getfield 50, 3) := dk_180 0 50 (dk_at dksX1_judge_0 17 rfl rfl)
theorem dX1_judge_20 : decode cX1_judge 20 = .ok (.aload_n 0, 1) := dk_42 (dk_at dksX1_judge_0 20 rfl rfl)
theorem dX1_judge_21 : decode cX1_judge 21 = .ok (.getfield 164, 3) := dk_180 0 164 (dk_at dksX1_judge_0 21 rfl rfl)
theorem dX1_judge_24 : decode cX1_judge 24 = .ok (.iaload, 1) := dk_46 (dk_at dksX1_judge_1 0 rfl rfl)
theorem dX1_judge_25 : decode cX1_judge 25 = .ok (.aload_n 0, 1) := dk_42 (dk_at dksX1_judge_1 1 rfl rfl)
theorem dX1_judge_26 : decode cX1_judge 26 = .ok (.getfield 41, 3) := dk_180 0 41 (dk_at dksX1_judge_1 2 rfl rfl)
theorem dX1_judge_29 : decode cX1_judge 29 = .ok (.aload_n 0, 1) := dk_42 (dk_at dksX1_judge_1 5 rfl rfl)
theorem dX1_judge_30 : decode cX1_judge 30 = .ok (.getfield 161, 3) := dk_180 0 161 (dk_at dksX1_judge_1 6 rfl rfl)
theorem dX1_judge_33 : decode cX1_judge 33 = .ok (.iconst 1, 1) := dk_4 (dk_at dksX1_judge_1 9 rfl rfl)
theorem dX1_judge_34 : decode cX1_judge 34 = .ok (.isub, 1) := dk_100 (dk_at dksX1_judge_1 10 rfl rfl)
theorem dX1_judge_35 : decode cX1_judge 35 = .ok (.iaload, 1) := dk_46 (dk_at dksX1_judge_1 11 rfl rfl)
theorem dX1_judge_36 : decode cX1_judge 36 = .ok (.if_icmp .eq 4, 3) := dk_159 0 4 (dk_at dksX1_judge_1 12 rfl rfl)
theorem dX1_judge_39 : decode cX1_judge 39 = .ok (.return_, 1) := dk_177 (dk_at dksX1_judge_1 15 rfl rfl)
theorem dX1_judge_40 : decode cX1_judge 40 = .ok (.aload_n 0, 1) := dk_42 (dk_at dksX1_judge_1 16 rfl rfl)
theorem dX1_judge_41 : decode cX1_judge 41 = .ok (.getfield 167, 3) := dk_180 0 167 (dk_at dksX1_judge_1 17 rfl rfl)
theorem dX1_judge_44 : decode cX1_judge 44 = .ok (.ifCond .lt 19, 3) := dk_155 0 19 (dk_at dksX1_judge_1 20 rfl rfl)
theorem dX1_judge_47 : decode cX1_judge 47 = .ok (.aload_n 0, 1) := dk_42 (dk_at dksX1_judge_1 23 rfl rfl)
theorem dX1_judge_48 : decode cX1_judge 48 = .ok (.getfield 56, 3) := dk_180 0 56 (dk_at dksX1_judge_2 0 rfl rfl)
theorem dX1_judge_51 : decode cX1_judge 51 = .ok (.aload_n 0, 1) := dk_42 (dk_at dksX1_judge_2 3 rfl rfl)
theorem dX1_judge_52 : decode cX1_judge 52 = .ok (.getfield 164, 3) := dk_180 0 164 (dk_at dksX1_judge_2 4 rfl rfl)
theorem dX1_judge_55 : decode cX1_judge 55 = .ok (.iaload, 1) := dk_46 (dk_at dksX1_judge_2 7 rfl rfl)
theorem dX1_judge_56 : decode cX1_judge 56 = .ok (.aload_n 0, 1) := dk_42 (dk_at dksX1_judge_2 8 rfl rfl)
theorem dX1_judge_57 : decode cX1_judge 57 = .ok (.getfield 167, 3) := dk_180 0 167 (dk_at dksX1_judge_2 9 rfl rfl)
theorem dX1_judge_60 : decode cX1_judge 60 = .ok (.if_icmp .ge 60, 3) := dk_162 0 60 (dk_at dksX1_judge_2 12 rfl rfl)
theorem dX1_judge_63 : decode cX1_judge 63 = .ok (.aload_n 0, 1) := dk_42 (dk_at dksX1_judge_2 15 rfl rfl)
theorem dX1_judge_64 : decode cX1_judge 64 = .ok (.aload_n 0, 1) := dk_42 (dk_at dksX1_judge_2 16 rfl rfl)
theorem dX1_judge_65 : decode cX1_judge 65 = .ok (.getfield 56, 3) := dk_180 0 56 (dk_at dksX1_judge_2 17 rfl rfl)
theorem dX1_judge_68 : decode cX1_judge 68 = .ok (.aload_n 0, 1) := dk_42 (dk_at dksX1_judge_2 20 rfl rfl)
theorem dX1_judge_69 : decode cX1_judge 69 = .ok (.getfield 164, 3) := dk_180 0 164 (dk_at dksX1_judge_2 21 rfl rfl)
theorem dX1_judge_72 : decode cX1_judge 72 = .ok (.iaload, 1) := dk_46 (dk_at dksX1_judge_3 0 rfl rfl)
theorem dX1_judge_73 : decode cX1_judge 73 = .ok (.putfield 167, 3) := dk_181 0 167 (dk_at dksX1_judge_3 1 rfl rfl)
theorem dX1_judge_76 : decode cX1_judge 76 = .ok (.aload_n 0, 1) := dk_42 (dk_at dksX1_judge_3 4 rfl rfl)
theorem dX1_judge_77 : decode cX1_judge 77 = .ok (.aload_n 0, 1) := dk_42 (dk_at dksX1_judge_3 5 rfl rfl)
theorem dX1_judge_78 : decode cX1_judge 78 = .ok (.getfield 164, 3) := dk_180 0 164 (dk_at dksX1_judge_3 6 rfl rfl)
theorem dX1_judge_81 : decode cX1_judge 81 = .ok (.putfield 170, 3) := dk_181 0 170 (dk_at dksX1_judge_3 9 rfl rfl)
theorem dX1_judge_84 : decode cX1_judge 84 = .ok (.aload_n 0, 1) := dk_42 (dk_at dksX1_judge_3 12 rfl rfl)
theorem dX1_judge_85 : decode cX1_judge 85 = .ok (.iconst 0, 1) := dk_3 (dk_at dksX1_judge_3 13 rfl rfl)
theorem dX1_judge_86 : decode cX1_judge 86 = .ok (.putfield 173, 3) := dk_181 0 173 (dk_at dksX1_judge_3 14 rfl rfl)
theorem dX1_judge_89 : decode cX1_judge 89 = .ok (.iconst 0, 1) := dk_3 (dk_at dksX1_judge_3 17 rfl rfl)
theorem dX1_judge_90 : decode cX1_judge 90 = .ok (.istore_n 1, 1) := dk_60 (dk_at dksX1_judge_3 18 rfl rfl)
theorem dX1_judge_91 : decode cX1_judge 91 = .ok (.iload_n 1, 1) := dk_27 (dk_at dksX1_judge_3 19 rfl rfl)
theorem dX1_judge_92 : decode cX1_judge 92 = .ok (.aload_n 0, 1) := dk_42 (dk_at dksX1_judge_3 20 rfl rfl)
theorem dX1_judge_93 : decode cX1_judge 93 = .ok (.getfield 164, 3) := dk_180 0 164 (dk_at dksX1_judge_3 21 rfl rfl)
theorem dX1_judge_96 : decode cX1_judge 96 = .ok (.if_icmp .ge 21, 3) := dk_162 0 21 (dk_at dksX1_judge_4 0 rfl rfl)
theorem dX1_judge_99 : decode cX1_judge 99 = .ok (.aload_n 0, 1) := dk_42 (dk_at dksX1_judge_4 3 rfl rfl)
theorem dX1_judge_100 : decode cX1_judge 100 = .ok (.getfield 44, 3) := dk_180 0 44 (dk_at dksX1_judge_4 4 rfl rfl)
theorem dX1_judge_103 : decode cX1_judge 103 = .ok (.iload_n 1, 1) := dk_27 (dk_at dksX1_judge_4 7 rfl rfl)
theorem dX1_judge_104 : decode cX1_judge 104 = .ok (.aload_n 0, 1) := dk_42 (dk_at dksX1_judge_4 8 rfl rfl)
theorem dX1_judge_105 : decode cX1_judge 105 = .ok (.getfield 47, 3) := dk_180 0 47 (dk_at dksX1_judge_4 9 rfl rfl)
theorem dX1_judge_108 : decode cX1_judge 108 = .ok (.iload_n 1, 1) := dk_27 (dk_at dksX1_judge_4 12 rfl rfl)
theorem dX1_judge_109 : decode cX1_judge 109 = .ok (.iaload, 1) := dk_46 (dk_at dksX1_judge_4 13 rfl rfl)
theorem dX1_judge_110 : decode cX1_judge 110 = .ok (.iastore, 1) := dk_79 (dk_at dksX1_judge_4 14 rfl rfl)
theorem dX1_judge_111 : decode cX1_judge 111 = .ok (.iinc 1 1, 3) := dk_132 1 1 (dk_at dksX1_judge_4 15 rfl rfl)
theorem dX1_judge_114 : decode cX1_judge 114 = .ok (.goto (-23), 3) := dk_167 255 233 (dk_at dksX1_judge_4 18 rfl rfl)
theorem dX1_judge_117 : decode cX1_judge 117 = .ok (.goto 29, 3) := dk_167 0 29 (dk_at dksX1_judge_4 21 rfl rfl)
theorem dX1_judge_120 : decode cX1_judge 120 = .ok (.aload_n 0, 1) := dk_42 (dk_at dksX1_judge_5 0 rfl rfl)
theorem dX1_judge_121 : decode cX1_judge 121 = .ok (.getfield 56, 3) := dk_180 0 56 (dk_at dksX1_judge_5 1 rfl rfl)
theorem dX1_judge_124 : decode cX1_judge 124 = .ok (.aload_n 0, 1) := dk_42 (dk_at dksX1_judge_5 4 rfl rfl)
theorem dX1_judge_125 : decode cX1_judge 125 = .ok (.getfield 164, 3) := dk_180 0 164 (dk_at dksX1_judge_5 5 rfl rfl)
theorem dX1_judge_128 : decode cX1_judge 128 = .ok (.iaload, 1) := dk_46 (dk_at dksX1_judge_5 8 rfl rfl)
theorem dX1_judge_129 : decode cX1_judge 129 = .ok (.aload_n 0, 1) := dk_42 (dk_at dksX1_judge_5 9 rfl rfl)
theorem dX1_judge_130 : decode cX1_judge 130 = .ok (.getfield 167, 3) := dk_180 0 167 (dk_at dksX1_judge_5 10 rfl rfl)
theorem dX1_judge_133 : decode cX1_judge 133 = .ok (.if_icmp .ne 13, 3) := dk_160 0 13 (dk_at dksX1_judge_5 13 rfl rfl)
theorem dX1_judge_136 : decode cX1_judge 136 = .ok (.aload_n 0, 1) := dk_42 (dk_at dksX1_judge_5 16 rfl rfl)
theorem dX1_judge_137 : decode cX1_judge 137 = .ok (.dup, 1) := dk_89 (dk_at dksX1_judge_5 17 rfl rfl)
theorem dX1_judge_138 : decode cX1_judge 138 = .ok (.getfield 173, 3) := dk_180 0 173 (dk_at dksX1_judge_5 18 rfl rfl)
theorem dX1_judge_141 : decode cX1_judge 141 = .ok (.iconst 1, 1) := dk_4 (dk_at dksX1_judge_5 21 rfl rfl)
theorem dX1_judge_142 : decode cX1_judge 142 = .ok (.iadd, 1) := dk_96 (dk_at dksX1_judge_5 22 rfl rfl)
theorem dX1_judge_143 : decode cX1_judge 143 = .ok (.putfield 173, 3) := dk_181 0 173 (dk_at dksX1_judge_6 0 rfl rfl)
theorem dX1_judge_146 : decode cX1_judge 146 = .ok (.return_, 1) := dk_177 (dk_at dksX1_judge_6 3 rfl rfl)
abbrev cX1_lay : ByteArray := prog_12_method_29_code
def yX1_lay : MethodName := ⟨RX1, "lay", "()I"⟩
def dkwX1_lay_5 : List UInt8 := [180, 0, 95, 172]
abbrev dktX1_lay_5 : List UInt8 := dkwX1_lay_5 ++ []
def dkwX1_lay_4 : List UInt8 := [162, 0, 23, 42, 180, 0, 86, 27, 3, 79, 42, 180, 0, 92, 27, 3, 79, 132, 1, 1, 167, 255, 233, 42]
abbrev dktX1_lay_4 : List UInt8 := dkwX1_lay_4 ++ dktX1_lay_5
def dkwX1_lay_3 : List UInt8 := [167, 255, 233, 42, 3, 181, 0, 196, 42, 3, 181, 0, 199, 42, 3, 181, 0, 202, 3, 60, 27, 16, 64]
abbrev dktX1_lay_3 : List UInt8 := dkwX1_lay_3 ++ dktX1_lay_4
def dkwX1_lay_2 : List UInt8 := [27, 42, 180, 0, 170, 162, 0, 21, 42, 180, 0, 59, 27, 42, 180, 0, 44, 27, 46, 79, 132, 1, 1]
abbrev dktX1_lay_2 : List UInt8 := dkwX1_lay_2 ++ dktX1_lay_3
def dkwX1_lay_1 : List UInt8 := [156, 0, 6, 16, 247, 172, 42, 42, 180, 0, 170, 181, 0, 95, 42, 42, 180, 0, 167, 181, 0, 193, 3, 60]
abbrev dktX1_lay_1 : List UInt8 := dkwX1_lay_1 ++ dktX1_lay_2
def dkwX1_lay_0 : List UInt8 := [42, 180, 0, 161, 154, 0, 6, 16, 253, 172, 42, 182, 0, 189, 154, 0, 6, 16, 250, 172, 42, 180, 0, 167]
abbrev dktX1_lay_0 : List UInt8 := dkwX1_lay_0 ++ dktX1_lay_1
theorem dksX1_lay_0 : cX1_lay.data.toList.drop 0 = dktX1_lay_0 := by decide +kernel
theorem dksX1_lay_1 : cX1_lay.data.toList.drop 24 = dktX1_lay_1 := dk_seg dksX1_lay_0 24 rfl rfl
theorem dksX1_lay_2 : cX1_lay.data.toList.drop 48 = dktX1_lay_2 := dk_seg dksX1_lay_1 24 rfl rfl
theorem dksX1_lay_3 : cX1_lay.data.toList.drop 71 = dktX1_lay_3 := dk_seg dksX1_lay_2 23 rfl rfl
theorem dksX1_lay_4 : cX1_lay.data.toList.drop 94 = dktX1_lay_4 := dk_seg dksX1_lay_3 23 rfl rfl
theorem dksX1_lay_5 : cX1_lay.data.toList.drop 118 = dktX1_lay_5 := dk_seg dksX1_lay_4 24 rfl rfl
theorem dX1_lay_0 : decode cX1_lay 0 = .ok (.aload_n 0, 1) := dk_42 (dk_at dksX1_lay_0 0 rfl rfl)
theorem dX1_lay_1 : decode cX1_lay 1 = .ok (.getfield 161, 3) := dk_180 0 161 (dk_at dksX1_lay_0 1 rfl rfl)
theorem dX1_lay_4 : decode cX1_lay 4 = .ok (.ifCond .ne 6, 3) := dk_154 0 6 (dk_at dksX1_lay_0 4 rfl rfl)
theorem dX1_lay_7 : decode cX1_lay 7 = .ok (.bipush (-3), 2) := dk_16 253 (dk_at dksX1_lay_0 7 rfl rfl)
theorem dX1_lay_9 : decode cX1_lay 9 = .ok (.ireturn, 1) := dk_172 (dk_at dksX1_lay_0 9 rfl rfl)
theorem dX1_lay_10 : decode cX1_lay 10 = .ok (.aload_n 0, 1) := dk_42 (dk_at dksX1_lay_0 10 rfl rfl)
theorem dX1_lay_11 : decode cX1_lay 11 = .ok (.invokevirtual 189, 3) := dk_182 0 189 (dk_at dksX1_lay_0 11 rfl rfl)
theorem dX1_lay_14 : decode cX1_lay 14 = .ok (.ifCond .ne 6, 3) := dk_154 0 6 (dk_at dksX1_lay_0 14 rfl rfl)
theorem dX1_lay_17 : decode cX1_lay 17 = .ok (.bipush (-6), 2) := dk_16 250 (dk_at dksX1_lay_0 17 rfl rfl)
theorem dX1_lay_19 : decode cX1_lay 19 = .ok (.ireturn, 1) := dk_172 (dk_at dksX1_lay_0 19 rfl rfl)
theorem dX1_lay_20 : decode cX1_lay 20 = .ok (.aload_n 0, 1) := dk_42 (dk_at dksX1_lay_0 20 rfl rfl)
theorem dX1_lay_21 : decode cX1_lay 21 = .ok (.getfield 167, 3) := dk_180 0 167 (dk_at dksX1_lay_0 21 rfl rfl)
theorem dX1_lay_24 : decode cX1_lay 24 = .ok (.ifCond .ge 6, 3) := dk_156 0 6 (dk_at dksX1_lay_1 0 rfl rfl)
theorem dX1_lay_27 : decode cX1_lay 27 = .ok (.bipush (-9), 2) := dk_16 247 (dk_at dksX1_lay_1 3 rfl rfl)
theorem dX1_lay_29 : decode cX1_lay 29 = .ok (.ireturn, 1) := dk_172 (dk_at dksX1_lay_1 5 rfl rfl)
theorem dX1_lay_30 : decode cX1_lay 30 = .ok (.aload_n 0, 1) := dk_42 (dk_at dksX1_lay_1 6 rfl rfl)
theorem dX1_lay_31 : decode cX1_lay 31 = .ok (.aload_n 0, 1) := dk_42 (dk_at dksX1_lay_1 7 rfl rfl)
theorem dX1_lay_32 : decode cX1_lay 32 = .ok (.getfield 170, 3) := dk_180 0 170 (dk_at dksX1_lay_1 8 rfl rfl)
theorem dX1_lay_35 : decode cX1_lay 35 = .ok (.putfield 95, 3) := dk_181 0 95 (dk_at dksX1_lay_1 11 rfl rfl)
theorem dX1_lay_38 : decode cX1_lay 38 = .ok (.aload_n 0, 1) := dk_42 (dk_at dksX1_lay_1 14 rfl rfl)
theorem dX1_lay_39 : decode cX1_lay 39 = .ok (.aload_n 0, 1) := dk_42 (dk_at dksX1_lay_1 15 rfl rfl)
theorem dX1_lay_40 : decode cX1_lay 40 = .ok (.getfield 167, 3) := dk_180 0 167 (dk_at dksX1_lay_1 16 rfl rfl)
theorem dX1_lay_43 : decode cX1_lay 43 = .ok (.putfield 193, 3) := dk_181 0 193 (dk_at dksX1_lay_1 19 rfl rfl)
theorem dX1_lay_46 : decode cX1_lay 46 = .ok (.iconst 0, 1) := dk_3 (dk_at dksX1_lay_1 22 rfl rfl)
theorem dX1_lay_47 : decode cX1_lay 47 = .ok (.istore_n 1, 1) := dk_60 (dk_at dksX1_lay_1 23 rfl rfl)
theorem dX1_lay_48 : decode cX1_lay 48 = .ok (.iload_n 1, 1) := dk_27 (dk_at dksX1_lay_2 0 rfl rfl)
theorem dX1_lay_49 : decode cX1_lay 49 = .ok (.aload_n 0, 1) := dk_42 (dk_at dksX1_lay_2 1 rfl rfl)
theorem dX1_lay_50 : decode cX1_lay 50 = .ok (.getfield 170, 3) := dk_180 0 170 (dk_at dksX1_lay_2 2 rfl rfl)
theorem dX1_lay_53 : decode cX1_lay 53 = .ok (.if_icmp .ge 21, 3) := dk_162 0 21 (dk_at dksX1_lay_2 5 rfl rfl)
theorem dX1_lay_56 : decode cX1_lay 56 = .ok (.aload_n 0, 1) := dk_42 (dk_at dksX1_lay_2 8 rfl rfl)
theorem dX1_lay_57 : decode cX1_lay 57 = .ok (.getfield 59, 3) := dk_180 0 59 (dk_at dksX1_lay_2 9 rfl rfl)
theorem dX1_lay_60 : decode cX1_lay 60 = .ok (.iload_n 1, 1) := dk_27 (dk_at dksX1_lay_2 12 rfl rfl)
theorem dX1_lay_61 : decode cX1_lay 61 = .ok (.aload_n 0, 1) := dk_42 (dk_at dksX1_lay_2 13 rfl rfl)
theorem dX1_lay_62 : decode cX1_lay 62 = .ok (.getfield 44, 3) := dk_180 0 44 (dk_at dksX1_lay_2 14 rfl rfl)
theorem dX1_lay_65 : decode cX1_lay 65 = .ok (.iload_n 1, 1) := dk_27 (dk_at dksX1_lay_2 17 rfl rfl)
theorem dX1_lay_66 : decode cX1_lay 66 = .ok (.iaload, 1) := dk_46 (dk_at dksX1_lay_2 18 rfl rfl)
theorem dX1_lay_67 : decode cX1_lay 67 = .ok (.iastore, 1) := dk_79 (dk_at dksX1_lay_2 19 rfl rfl)
theorem dX1_lay_68 : decode cX1_lay 68 = .ok (.iinc 1 1, 3) := dk_132 1 1 (dk_at dksX1_lay_2 20 rfl rfl)
theorem dX1_lay_71 : decode cX1_lay 71 = .ok (.goto (-23), 3) := dk_167 255 233 (dk_at dksX1_lay_3 0 rfl rfl)
theorem dX1_lay_74 : decode cX1_lay 74 = .ok (.aload_n 0, 1) := dk_42 (dk_at dksX1_lay_3 3 rfl rfl)
theorem dX1_lay_75 : decode cX1_lay 75 = .ok (.iconst 0, 1) := dk_3 (dk_at dksX1_lay_3 4 rfl rfl)
theorem dX1_lay_76 : decode cX1_lay 76 = .ok (.putfield 196, 3) := dk_181 0 196 (dk_at dksX1_lay_3 5 rfl rfl)
theorem dX1_lay_79 : decode cX1_lay 79 = .ok (.aload_n 0, 1) := dk_42 (dk_at dksX1_lay_3 8 rfl rfl)
theorem dX1_lay_80 : decode cX1_lay 80 = .ok (.iconst 0, 1) := dk_3 (dk_at dksX1_lay_3 9 rfl rfl)
theorem dX1_lay_81 : decode cX1_lay 81 = .ok (.putfield 199, 3) := dk_181 0 199 (dk_at dksX1_lay_3 10 rfl rfl)
theorem dX1_lay_84 : decode cX1_lay 84 = .ok (.aload_n 0, 1) := dk_42 (dk_at dksX1_lay_3 13 rfl rfl)
theorem dX1_lay_85 : decode cX1_lay 85 = .ok (.iconst 0, 1) := dk_3 (dk_at dksX1_lay_3 14 rfl rfl)
theorem dX1_lay_86 : decode cX1_lay 86 = .ok (.putfield 202, 3) := dk_181 0 202 (dk_at dksX1_lay_3 15 rfl rfl)
theorem dX1_lay_89 : decode cX1_lay 89 = .ok (.iconst 0, 1) := dk_3 (dk_at dksX1_lay_3 18 rfl rfl)
theorem dX1_lay_90 : decode cX1_lay 90 = .ok (.istore_n 1, 1) := dk_60 (dk_at dksX1_lay_3 19 rfl rfl)
theorem dX1_lay_91 : decode cX1_lay 91 = .ok (.iload_n 1, 1) := dk_27 (dk_at dksX1_lay_3 20 rfl rfl)
theorem dX1_lay_92 : decode cX1_lay 92 = .ok (.bipush 64, 2) := dk_16 64 (dk_at dksX1_lay_3 21 rfl rfl)
theorem dX1_lay_94 : decode cX1_lay 94 = .ok (.if_icmp .ge 23, 3) := dk_162 0 23 (dk_at dksX1_lay_4 0 rfl rfl)
theorem dX1_lay_97 : decode cX1_lay 97 = .ok (.aload_n 0, 1) := dk_42 (dk_at dksX1_lay_4 3 rfl rfl)
theorem dX1_lay_98 : decode cX1_lay 98 = .ok (.getfield 86, 3) := dk_180 0 86 (dk_at dksX1_lay_4 4 rfl rfl)
theorem dX1_lay_101 : decode cX1_lay 101 = .ok (.iload_n 1, 1) := dk_27 (dk_at dksX1_lay_4 7 rfl rfl)
theorem dX1_lay_102 : decode cX1_lay 102 = .ok (.iconst 0, 1) := dk_3 (dk_at dksX1_lay_4 8 rfl rfl)
theorem dX1_lay_103 : decode cX1_lay 103 = .ok (.iastore, 1) := dk_79 (dk_at dksX1_lay_4 9 rfl rfl)
theorem dX1_lay_104 : decode cX1_lay 104 = .ok (.aload_n 0, 1) := dk_42 (dk_at dksX1_lay_4 10 rfl rfl)
theorem dX1_lay_105 : decode cX1_lay 105 = .ok (.getfield 92, 3) := dk_180 0 92 (dk_at dksX1_lay_4 11 rfl rfl)
theorem dX1_lay_108 : decode cX1_lay 108 = .ok (.iload_n 1, 1) := dk_27 (dk_at dksX1_lay_4 14 rfl rfl)
theorem dX1_lay_109 : decode cX1_lay 109 = .ok (.iconst 0, 1) := dk_3 (dk_at dksX1_lay_4 15 rfl rfl)
theorem dX1_lay_110 : decode cX1_lay 110 = .ok (.iastore, 1) := dk_79 (dk_at dksX1_lay_4 16 rfl rfl)
theorem dX1_lay_111 : decode cX1_lay 111 = .ok (.iinc 1 1, 3) := dk_132 1 1 (dk_at dksX1_lay_4 17 rfl rfl)
theorem dX1_lay_114 : decode cX1_lay 114 = .ok (.goto (-23), 3) := dk_167 255 233 (dk_at dksX1_lay_4 20 rfl rfl)
theorem dX1_lay_117 : decode cX1_lay 117 = .ok (.aload_n 0, 1) := dk_42 (dk_at dksX1_lay_4 23 rfl rfl)
theorem dX1_lay_118 : decode cX1_lay 118 = .ok (.getfield 95, 3) := dk_180 0 95 (dk_at dksX1_lay_5 0 rfl rfl)
theorem dX1_lay_121 : decode cX1_lay 121 = .ok (.ireturn, 1) := dk_172 (dk_at dksX1_lay_5 3 rfl rfl)
abbrev cX1_laid : ByteArray := prog_12_method_30_code
def yX1_laid : MethodName := ⟨RX1, "laid", "(I)I"⟩
def dkwX1_laid_1 : List UInt8 := [167, 0, 4, 2, 172]
abbrev dktX1_laid_1 : List UInt8 := dkwX1_laid_1 ++ []
def dkwX1_laid_0 : List UInt8 := [27, 133, 9, 42, 180, 0, 95, 133, 10, 101, 184, 0, 111, 153, 0, 12, 42, 180, 0, 59, 27, 46]
abbrev dktX1_laid_0 : List UInt8 := dkwX1_laid_0 ++ dktX1_laid_1
theorem dksX1_laid_0 : cX1_laid.data.toList.drop 0 = dktX1_laid_0 := by decide +kernel
theorem dksX1_laid_1 : cX1_laid.data.toList.drop 22 = dktX1_laid_1 := dk_seg dksX1_laid_0 22 rfl rfl
theorem dX1_laid_0 : decode cX1_laid 0 = .ok (.iload_n 1, 1) := dk_27 (dk_at dksX1_laid_0 0 rfl rfl)
theorem dX1_laid_1 : decode cX1_laid 1 = .ok (.i2l, 1) := dk_133 (dk_at dksX1_laid_0 1 rfl rfl)
theorem dX1_laid_2 : decode cX1_laid 2 = .ok (.lconst 0, 1) := dk_9 (dk_at dksX1_laid_0 2 rfl rfl)
theorem dX1_laid_3 : decode cX1_laid 3 = .ok (.aload_n 0, 1) := dk_42 (dk_at dksX1_laid_0 3 rfl rfl)
theorem dX1_laid_4 : decode cX1_laid 4 = .ok (.getfield 95, 3) := dk_180 0 95 (dk_at dksX1_laid_0 4 rfl rfl)
theorem dX1_laid_7 : decode cX1_laid 7 = .ok (.i2l, 1) := dk_133 (dk_at dksX1_laid_0 7 rfl rfl)
theorem dX1_laid_8 : decode cX1_laid 8 = .ok (.lconst 1, 1) := dk_10 (dk_at dksX1_laid_0 8 rfl rfl)
theorem dX1_laid_9 : decode cX1_laid 9 = .ok (.lsub, 1) := dk_101 (dk_at dksX1_laid_0 9 rfl rfl)
theorem dX1_laid_10 : decode cX1_laid 10 = .ok (.invokestatic 111, 3) := dk_184 0 111 (dk_at dksX1_laid_0 10 rfl rfl)
theorem dX1_laid_13 : decode cX1_laid 13 = .ok (.ifCond .eq 12, 3) := dk_153 0 12 (dk_at dksX1_laid_0 13 rfl rfl)
theorem dX1_laid_16 : decode cX1_laid 16 = .ok (.aload_n 0, 1) := dk_42 (dk_at dksX1_laid_0 16 rfl rfl)
theorem dX1_laid_17 : decode cX1_laid 17 = .ok (.getfield 59, 3) := dk_180 0 59 (dk_at dksX1_laid_0 17 rfl rfl)
theorem dX1_laid_20 : decode cX1_laid 20 = .ok (.iload_n 1, 1) := dk_27 (dk_at dksX1_laid_0 20 rfl rfl)
theorem dX1_laid_21 : decode cX1_laid 21 = .ok (.iaload, 1) := dk_46 (dk_at dksX1_laid_0 21 rfl rfl)
theorem dX1_laid_22 : decode cX1_laid 22 = .ok (.goto 4, 3) := dk_167 0 4 (dk_at dksX1_laid_1 0 rfl rfl)
theorem dX1_laid_25 : decode cX1_laid 25 = .ok (.iconst (-1), 1) := dk_2 (dk_at dksX1_laid_1 3 rfl rfl)
theorem dX1_laid_26 : decode cX1_laid 26 = .ok (.ireturn, 1) := dk_172 (dk_at dksX1_laid_1 4 rfl rfl)
abbrev cX1_proof : ByteArray := prog_12_method_33_code
def yX1_proof : MethodName := ⟨RX1, "proof", "(IIII)J"⟩
def dkwX1_proof_2 : List UInt8 := [158, 0, 12, 42, 21, 5, 182, 0, 144, 167, 0, 11, 42, 27, 29, 21, 4, 182, 0, 212, 173]
abbrev dktX1_proof_2 : List UInt8 := dkwX1_proof_2 ++ []
def dkwX1_proof_1 : List UInt8 := [42, 180, 0, 161, 154, 0, 7, 184, 0, 104, 173, 42, 27, 28, 29, 21, 4, 182, 0, 154, 54, 5, 21, 5]
abbrev dktX1_proof_1 : List UInt8 := dkwX1_proof_1 ++ dktX1_proof_2
def dkwX1_proof_0 : List UInt8 := [42, 3, 181, 0, 101, 27, 184, 0, 137, 154, 0, 22, 28, 133, 9, 20, 0, 123, 184, 0, 111, 153, 0, 10]
abbrev dktX1_proof_0 : List UInt8 := dkwX1_proof_0 ++ dktX1_proof_1
theorem dksX1_proof_0 : cX1_proof.data.toList.drop 0 = dktX1_proof_0 := by decide +kernel
theorem dksX1_proof_1 : cX1_proof.data.toList.drop 24 = dktX1_proof_1 := dk_seg dksX1_proof_0 24 rfl rfl
theorem dksX1_proof_2 : cX1_proof.data.toList.drop 48 = dktX1_proof_2 := dk_seg dksX1_proof_1 24 rfl rfl
theorem dX1_proof_0 : decode cX1_proof 0 = .ok (.aload_n 0, 1) := dk_42 (dk_at dksX1_proof_0 0 rfl rfl)
theorem dX1_proof_1 : decode cX1_proof 1 = .ok (.iconst 0, 1) := dk_3 (dk_at dksX1_proof_0 1 rfl rfl)
theorem dX1_proof_2 : decode cX1_proof 2 = .ok (.putfield 101, 3) := dk_181 0 101 (dk_at dksX1_proof_0 2 rfl rfl)
theorem dX1_proof_5 : decode cX1_proof 5 = .ok (.iload_n 1, 1) := dk_27 (dk_at dksX1_proof_0 5 rfl rfl)
theorem dX1_proof_6 : decode cX1_proof 6 = .ok (.invokestatic 137, 3) := dk_184 0 137 (dk_at dksX1_proof_0 6 rfl rfl)
theorem dX1_proof_9 : decode cX1_proof 9 = .ok (.ifCond .ne 22, 3) := dk_154 0 22 (dk_at dksX1_proof_0 9 rfl rfl)
theorem dX1_proof_12 : decode cX1_proof 12 = .ok (.iload_n 2, 1) := dk_28 (dk_at dksX1_proof_0 12 rfl rfl)
theorem dX1_proof_13 : decode cX1_proof 13 = .ok (.i2l, 1) := dk_133 (dk_at dksX1_proof_0 13 rfl rfl)
theorem dX1_proof_14 : decode cX1_proof 14 = .ok (.lconst 0, 1) := dk_9 (dk_at dksX1_proof_0 14 rfl rfl)
theorem dX1_proof_15 : decode cX1_proof 15 = .ok (.ldc2_w 123, 3) := dk_20 0 123 (dk_at dksX1_proof_0 15 rfl rfl)
theorem dX1_proof_18 : decode cX1_proof 18 = .ok (.invokestatic 111, 3) := dk_184 0 111 (dk_at dksX1_proof_0 18 rfl rfl)
theorem dX1_proof_21 : decode cX1_proof 21 = .ok (.ifCond .eq 10, 3) := dk_153 0 10 (dk_at dksX1_proof_0 21 rfl rfl)
theorem dX1_proof_24 : decode cX1_proof 24 = .ok (.aload_n 0, 1) := dk_42 (dk_at dksX1_proof_1 0 rfl rfl)
theorem dX1_proof_25 : decode cX1_proof 25 = .ok (.getfield 161, 3) := dk_180 0 161 (dk_at dksX1_proof_1 1 rfl rfl)
theorem dX1_proof_28 : decode cX1_proof 28 = .ok (.ifCond .ne 7, 3) := dk_154 0 7 (dk_at dksX1_proof_1 4 rfl rfl)
theorem dX1_proof_31 : decode cX1_proof 31 = .ok (.invokestatic 104, 3) := dk_184 0 104 (dk_at dksX1_proof_1 7 rfl rfl)
theorem dX1_proof_34 : decode cX1_proof 34 = .ok (.lreturn, 1) := dk_173 (dk_at dksX1_proof_1 10 rfl rfl)
theorem dX1_proof_35 : decode cX1_proof 35 = .ok (.aload_n 0, 1) := dk_42 (dk_at dksX1_proof_1 11 rfl rfl)
theorem dX1_proof_36 : decode cX1_proof 36 = .ok (.iload_n 1, 1) := dk_27 (dk_at dksX1_proof_1 12 rfl rfl)
theorem dX1_proof_37 : decode cX1_proof 37 = .ok (.iload_n 2, 1) := dk_28 (dk_at dksX1_proof_1 13 rfl rfl)
theorem dX1_proof_38 : decode cX1_proof 38 = .ok (.iload_n 3, 1) := dk_29 (dk_at dksX1_proof_1 14 rfl rfl)
theorem dX1_proof_39 : decode cX1_proof 39 = .ok (.iload 4, 2) := dk_21 4 (dk_at dksX1_proof_1 15 rfl rfl)
theorem dX1_proof_41 : decode cX1_proof 41 = .ok (.invokevirtual 154, 3) := dk_182 0 154 (dk_at dksX1_proof_1 17 rfl rfl)
theorem dX1_proof_44 : decode cX1_proof 44 = .ok (.istore 5, 2) := dk_54 5 (dk_at dksX1_proof_1 20 rfl rfl)
theorem dX1_proof_46 : decode cX1_proof 46 = .ok (.iload 5, 2) := dk_21 5 (dk_at dksX1_proof_1 22 rfl rfl)
theorem dX1_proof_48 : decode cX1_proof 48 = .ok (.ifCond .le 12, 3) := dk_158 0 12 (dk_at dksX1_proof_2 0 rfl rfl)
theorem dX1_proof_51 : decode cX1_proof 51 = .ok (.aload_n 0, 1) := dk_42 (dk_at dksX1_proof_2 3 rfl rfl)
theorem dX1_proof_52 : decode cX1_proof 52 = .ok (.iload 5, 2) := dk_21 5 (dk_at dksX1_proof_2 4 rfl rfl)
theorem dX1_proof_54 : decode cX1_proof 54 = .ok (.invokevirtual 144, 3) := dk_182 0 144 (dk_at dksX1_proof_2 6 rfl rfl)
theorem dX1_proof_57 : decode cX1_proof 57 = .ok (.goto 11, 3) := dk_167 0 11 (dk_at dksX1_proof_2 9 rfl rfl)
theorem dX1_proof_60 : decode cX1_proof 60 = .ok (.aload_n 0, 1) := dk_42 (dk_at dksX1_proof_2 12 rfl rfl)
theorem dX1_proof_61 : decode cX1_proof 61 = .ok (.iload_n 1, 1) := dk_27 (dk_at dksX1_proof_2 13 rfl rfl)
theorem dX1_proof_62 : decode cX1_proof 62 = .ok (.iload_n 3, 1) := dk_29 (dk_at dksX1_proof_2 14 rfl rfl)
theorem dX1_proof_63 : decode cX1_proof 63 = .ok (.iload 4, 2) := dk_21 4 (dk_at dksX1_proof_2 15 rfl rfl)
theorem dX1_proof_65 : decode cX1_proof 65 = .ok (.invokevirtual 212, 3) := dk_182 0 212 (dk_at dksX1_proof_2 17 rfl rfl)
theorem dX1_proof_68 : decode cX1_proof 68 = .ok (.lreturn, 1) := dk_173 (dk_at dksX1_proof_2 20 rfl rfl)
abbrev cX1_proved : ByteArray := prog_12_method_32_code
def yX1_proved : MethodName := ⟨RX1, "proved", "(III)J"⟩
def dkwX1_proved_7 : List UInt8 := [42, 180, 0, 161, 4, 100, 46, 159, 0, 9, 20, 0, 210, 167, 0, 5, 22, 6, 173]
abbrev dktX1_proved_7 : List UInt8 := dkwX1_proved_7 ++ []
def dkwX1_proved_6 : List UInt8 := [153, 0, 34, 29, 16, 10, 163, 0, 28, 21, 5, 42, 180, 0, 161, 161, 0, 19, 21, 4, 42, 180, 0, 41]
abbrev dktX1_proved_6 : List UInt8 := dkwX1_proved_6 ++ dktX1_proved_7
def dkwX1_proved_5 : List UInt8 := [54, 5, 22, 6, 42, 180, 0, 16, 21, 9, 46, 133, 97, 55, 6, 132, 8, 1, 167, 255, 136, 29]
abbrev dktX1_proved_5 : List UInt8 := dkwX1_proved_5 ++ dktX1_proved_6
def dkwX1_proved_4 : List UInt8 := [180, 0, 161, 162, 0, 19, 42, 180, 0, 41, 21, 5, 46, 21, 4, 160, 0, 7, 4, 167, 0, 4, 3, 96]
abbrev dktX1_proved_4 : List UInt8 := dkwX1_proved_4 ++ dktX1_proved_5
def dkwX1_proved_3 : List UInt8 := [54, 10, 21, 10, 156, 0, 11, 20, 0, 208, 21, 8, 133, 101, 173, 21, 10, 54, 4, 21, 5, 21, 5, 42]
abbrev dktX1_proved_3 : List UInt8 := dkwX1_proved_3 ++ dktX1_proved_4
def dkwX1_proved_2 : List UInt8 := [42, 27, 28, 21, 8, 182, 0, 205, 153, 0, 7, 2, 167, 0, 11, 42, 21, 9, 21, 4, 182, 0, 182]
abbrev dktX1_proved_2 : List UInt8 := dkwX1_proved_2 ++ dktX1_proved_3
def dkwX1_proved_1 : List UInt8 := [180, 0, 35, 16, 32, 27, 104, 28, 96, 21, 8, 96, 46, 54, 9, 42, 21, 9, 182, 0, 125, 154, 0, 14]
abbrev dktX1_proved_1 : List UInt8 := dkwX1_proved_1 ++ dktX1_proved_2
def dkwX1_proved_0 : List UInt8 := [42, 180, 0, 41, 3, 46, 54, 4, 4, 54, 5, 9, 55, 6, 3, 54, 8, 21, 8, 29, 162, 0, 120, 42]
abbrev dktX1_proved_0 : List UInt8 := dkwX1_proved_0 ++ dktX1_proved_1
theorem dksX1_proved_0 : cX1_proved.data.toList.drop 0 = dktX1_proved_0 := by decide +kernel
theorem dksX1_proved_1 : cX1_proved.data.toList.drop 24 = dktX1_proved_1 := dk_seg dksX1_proved_0 24 rfl rfl
theorem dksX1_proved_2 : cX1_proved.data.toList.drop 48 = dktX1_proved_2 := dk_seg dksX1_proved_1 24 rfl rfl
theorem dksX1_proved_3 : cX1_proved.data.toList.drop 71 = dktX1_proved_3 := dk_seg dksX1_proved_2 23 rfl rfl
theorem dksX1_proved_4 : cX1_proved.data.toList.drop 95 = dktX1_proved_4 := dk_seg dksX1_proved_3 24 rfl rfl
theorem dksX1_proved_5 : cX1_proved.data.toList.drop 119 = dktX1_proved_5 := dk_seg dksX1_proved_4 24 rfl rfl
theorem dksX1_proved_6 : cX1_proved.data.toList.drop 141 = dktX1_proved_6 := dk_seg dksX1_proved_5 22 rfl rfl
theorem dksX1_proved_7 : cX1_proved.data.toList.drop 165 = dktX1_proved_7 := dk_seg dksX1_proved_6 24 rfl rfl
theorem dX1_proved_0 : decode cX1_proved 0 = .ok (.aload_n 0, 1) := dk_42 (dk_at dksX1_proved_0 0 rfl rfl)
theorem dX1_proved_1 : decode cX1_proved 1 = .ok (.getfield 41, 3) := dk_180 0 41 (dk_at dksX1_proved_0 1 rfl rfl)
theorem dX1_proved_4 : decode cX1_proved 4 = .ok (.iconst 0, 1) := dk_3 (dk_at dksX1_proved_0 4 rfl rfl)
theorem dX1_proved_5 : decode cX1_proved 5 = .ok (.iaload, 1) := dk_46 (dk_at dksX1_proved_0 5 rfl rfl)
theorem dX1_proved_6 : decode cX1_proved 6 = .ok (.istore 4, 2) := dk_54 4 (dk_at dksX1_proved_0 6 rfl rfl)
theorem dX1_proved_8 : decode cX1_proved 8 = .ok (.iconst 1, 1) := dk_4 (dk_at dksX1_proved_0 8 rfl rfl)
theorem dX1_proved_9 : decode cX1_proved 9 = .ok (.istore 5, 2) := dk_54 5 (dk_at dksX1_proved_0 9 rfl rfl)
theorem dX1_proved_11 : decode cX1_proved 11 = .ok (.lconst 0, 1) := dk_9 (dk_at dksX1_proved_0 11 rfl rfl)
theorem dX1_proved_12 : decode cX1_proved 12 = .ok (.lstore 6, 2) := dk_55 6 (dk_at dksX1_proved_0 12 rfl rfl)
theorem dX1_proved_14 : decode cX1_proved 14 = .ok (.iconst 0, 1) := dk_3 (dk_at dksX1_proved_0 14 rfl rfl)
theorem dX1_proved_15 : decode cX1_proved 15 = .ok (.istore 8, 2) := dk_54 8 (dk_at dksX1_proved_0 15 rfl rfl)
theorem dX1_proved_17 : decode cX1_proved 17 = .ok (.iload 8, 2) := dk_21 8 (dk_at dksX1_proved_0 17 rfl rfl)
theorem dX1_proved_19 : decode cX1_proved 19 = .ok (.iload_n 3, 1) := dk_29 (dk_at dksX1_proved_0 19 rfl rfl)
theorem dX1_proved_20 : decode cX1_proved 20 = .ok (.if_icmp .ge 120, 3) := dk_162 0 120 (dk_at dksX1_proved_0 20 rfl rfl)
theorem dX1_proved_23 : decode cX1_proved 23 = .ok (.aload_n 0, 1) := dk_42 (dk_at dksX1_proved_0 23 rfl rfl)
theorem dX1_proved_24 : decode cX1_proved 24 = .ok (.getfield 35, 3) := dk_180 0 35 (dk_at dksX1_proved_1 0 rfl rfl)
theorem dX1_proved_27 : decode cX1_proved 27 = .ok (.bipush 32, 2) := dk_16 32 (dk_at dksX1_proved_1 3 rfl rfl)
theorem dX1_proved_29 : decode cX1_proved 29 = .ok (.iload_n 1, 1) := dk_27 (dk_at dksX1_proved_1 5 rfl rfl)
theorem dX1_proved_30 : decode cX1_proved 30 = .ok (.imul, 1) := dk_104 (dk_at dksX1_proved_1 6 rfl rfl)
theorem dX1_proved_31 : decode cX1_proved 31 = .ok (.iload_n 2, 1) := dk_28 (dk_at dksX1_proved_1 7 rfl rfl)
theorem dX1_proved_32 : decode cX1_proved 32 = .ok (.iadd, 1) := dk_96 (dk_at dksX1_proved_1 8 rfl rfl)
theorem dX1_proved_33 : decode cX1_proved 33 = .ok (.iload 8, 2) := dk_21 8 (dk_at dksX1_proved_1 9 rfl rfl)
theorem dX1_proved_35 : decode cX1_proved 35 = .ok (.iadd, 1) := dk_96 (dk_at dksX1_proved_1 11 rfl rfl)
theorem dX1_proved_36 : decode cX1_proved 36 = .ok (.iaload, 1) := dk_46 (dk_at dksX1_proved_1 12 rfl rfl)
theorem dX1_proved_37 : decode cX1_proved 37 = .ok (.istore 9, 2) := dk_54 9 (dk_at dksX1_proved_1 13 rfl rfl)
theorem dX1_proved_39 : decode cX1_proved 39 = .ok (.aload_n 0, 1) := dk_42 (dk_at dksX1_proved_1 15 rfl rfl)
theorem dX1_proved_40 : decode cX1_proved 40 = .ok (.iload 9, 2) := dk_21 9 (dk_at dksX1_proved_1 16 rfl rfl)
theorem dX1_proved_42 : decode cX1_proved 42 = .ok (.invokevirtual 125, 3) := dk_182 0 125 (dk_at dksX1_proved_1 18 rfl rfl)
theorem dX1_proved_45 : decode cX1_proved 45 = .ok (.ifCond .ne 14, 3) := dk_154 0 14 (dk_at dksX1_proved_1 21 rfl rfl)
theorem dX1_proved_48 : decode cX1_proved 48 = .ok (.aload_n 0, 1) := dk_42 (dk_at dksX1_proved_2 0 rfl rfl)
theorem dX1_proved_49 : decode cX1_proved 49 = .ok (.iload_n 1, 1) := dk_27 (dk_at dksX1_proved_2 1 rfl rfl)
theorem dX1_proved_50 : decode cX1_proved 50 = .ok (.iload_n 2, 1) := dk_28 (dk_at dksX1_proved_2 2 rfl rfl)
theorem dX1_proved_51 : decode cX1_proved 51 = .ok (.iload 8, 2) := dk_21 8 (dk_at dksX1_proved_2 3 rfl rfl)
theorem dX1_proved_53 : decode cX1_proved 53 = .ok (.invokevirtual 205, 3) := dk_182 0 205 (dk_at dksX1_proved_2 5 rfl rfl)
theorem dX1_proved_56 : decode cX1_proved 56 = .ok (.ifCond .eq 7, 3) := dk_153 0 7 (dk_at dksX1_proved_2 8 rfl rfl)
theorem dX1_proved_59 : decode cX1_proved 59 = .ok (.iconst (-1), 1) := dk_2 (dk_at dksX1_proved_2 11 rfl rfl)
theorem dX1_proved_60 : decode cX1_proved 60 = .ok (.goto 11, 3) := dk_167 0 11 (dk_at dksX1_proved_2 12 rfl rfl)
theorem dX1_proved_63 : decode cX1_proved 63 = .ok (.aload_n 0, 1) := dk_42 (dk_at dksX1_proved_2 15 rfl rfl)
theorem dX1_proved_64 : decode cX1_proved 64 = .ok (.iload 9, 2) := dk_21 9 (dk_at dksX1_proved_2 16 rfl rfl)
theorem dX1_proved_66 : decode cX1_proved 66 = .ok (.iload 4, 2) := dk_21 4 (dk_at dksX1_proved_2 18 rfl rfl)
theorem dX1_proved_68 : decode cX1_proved 68 = .ok (.invokevirtual 182, 3) := dk_182 0 182 (dk_at dksX1_proved_2 20 rfl rfl)
theorem dX1_proved_71 : decode cX1_proved 71 = .ok (.istore 10, 2) := dk_54 10 (dk_at dksX1_proved_3 0 rfl rfl)
theorem dX1_proved_73 : decode cX1_proved 73 = .ok (.iload 10, 2) := dk_21 10 (dk_at dksX1_proved_3 2 rfl rfl)
theorem dX1_proved_75 : decode cX1_proved 75 = .ok (.ifCond .ge 11, 3) := dk_156 0 11 (dk_at dksX1_proved_3 4 rfl rfl)
theorem dX1_proved_78 : decode cX1_proved 78 = .ok (.ldc2_w 208, 3) := dk_20 0 208 (dk_at dksX1_proved_3 7 rfl rfl)
theorem dX1_proved_81 : decode cX1_proved 81 = .ok (.iload 8, 2) := dk_21 8 (dk_at dksX1_proved_3 10 rfl rfl)
theorem dX1_proved_83 : decode cX1_proved 83 = .ok (.i2l, 1) := dk_133 (dk_at dksX1_proved_3 12 rfl rfl)
theorem dX1_proved_84 : decode cX1_proved 84 = .ok (.lsub, 1) := dk_101 (dk_at dksX1_proved_3 13 rfl rfl)
theorem dX1_proved_85 : decode cX1_proved 85 = .ok (.lreturn, 1) := dk_173 (dk_at dksX1_proved_3 14 rfl rfl)
theorem dX1_proved_86 : decode cX1_proved 86 = .ok (.iload 10, 2) := dk_21 10 (dk_at dksX1_proved_3 15 rfl rfl)
theorem dX1_proved_88 : decode cX1_proved 88 = .ok (.istore 4, 2) := dk_54 4 (dk_at dksX1_proved_3 17 rfl rfl)
theorem dX1_proved_90 : decode cX1_proved 90 = .ok (.iload 5, 2) := dk_21 5 (dk_at dksX1_proved_3 19 rfl rfl)
theorem dX1_proved_92 : decode cX1_proved 92 = .ok (.iload 5, 2) := dk_21 5 (dk_at dksX1_proved_3 21 rfl rfl)
theorem dX1_proved_94 : decode cX1_proved 94 = .ok (.aload_n 0, 1) := dk_42 (dk_at dksX1_proved_3 23 rfl rfl)
theorem dX1_proved_95 : decode cX1_proved 95 = .ok (.getfield 161, 3) := dk_180 0 161 (dk_at dksX1_proved_4 0 rfl rfl)
theorem dX1_proved_98 : decode cX1_proved 98 = .ok (.if_icmp .ge 19, 3) := dk_162 0 19 (dk_at dksX1_proved_4 3 rfl rfl)
theorem dX1_proved_101 : decode cX1_proved 101 = .ok (.aload_n 0, 1) := dk_42 (dk_at dksX1_proved_4 6 rfl rfl)
theorem dX1_proved_102 : decode cX1_proved 102 = .ok (.getfield 41, 3) := dk_180 0 41 (dk_at dksX1_proved_4 7 rfl rfl)
theorem dX1_proved_105 : decode cX1_proved 105 = .ok (.iload 5, 2) := dk_21 5 (dk_at dksX1_proved_4 10 rfl rfl)
theorem dX1_proved_107 : decode cX1_proved 107 = .ok (.iaload, 1) := dk_46 (dk_at dksX1_proved_4 12 rfl rfl)
theorem dX1_proved_108 : decode cX1_proved 108 = .ok (.iload 4, 2) := dk_21 4 (dk_at dksX1_proved_4 13 rfl rfl)
theorem dX1_proved_110 : decode cX1_proved 110 = .ok (.if_icmp .ne 7, 3) := dk_160 0 7 (dk_at dksX1_proved_4 15 rfl rfl)
theorem dX1_proved_113 : decode cX1_proved 113 = .ok (.iconst 1, 1) := dk_4 (dk_at dksX1_proved_4 18 rfl rfl)
theorem dX1_proved_114 : decode cX1_proved 114 = .ok (.goto 4, 3) := dk_167 0 4 (dk_at dksX1_proved_4 19 rfl rfl)
theorem dX1_proved_117 : decode cX1_proved 117 = .ok (.iconst 0, 1) := dk_3 (dk_at dksX1_proved_4 22 rfl rfl)
theorem dX1_proved_118 : decode cX1_proved 118 = .ok (.iadd, 1) := dk_96 (dk_at dksX1_proved_4 23 rfl rfl)
theorem dX1_proved_119 : decode cX1_proved 119 = .ok (.istore 5, 2) := dk_54 5 (dk_at dksX1_proved_5 0 rfl rfl)
theorem dX1_proved_121 : decode cX1_proved 121 = .ok (.lload 6, 2) := dk_22 6 (dk_at dksX1_proved_5 2 rfl rfl)
theorem dX1_proved_123 : decode cX1_proved 123 = .ok (.aload_n 0, 1) := dk_42 (dk_at dksX1_proved_5 4 rfl rfl)
theorem dX1_proved_124 : decode cX1_proved 124 = .ok (.getfield 16, 3) := dk_180 0 16 (dk_at dksX1_proved_5 5 rfl rfl)
theorem dX1_proved_127 : decode cX1_proved 127 = .ok (.iload 9, 2) := dk_21 9 (dk_at dksX1_proved_5 8 rfl rfl)
theorem dX1_proved_129 : decode cX1_proved 129 = .ok (.iaload, 1) := dk_46 (dk_at dksX1_proved_5 10 rfl rfl)
theorem dX1_proved_130 : decode cX1_proved 130 = .ok (.i2l, 1) := dk_133 (dk_at dksX1_proved_5 11 rfl rfl)
theorem dX1_proved_131 : decode cX1_proved 131 = .ok (.ladd, 1) := dk_97 (dk_at dksX1_proved_5 12 rfl rfl)
theorem dX1_proved_132 : decode cX1_proved 132 = .ok (.lstore 6, 2) := dk_55 6 (dk_at dksX1_proved_5 13 rfl rfl)
theorem dX1_proved_134 : decode cX1_proved 134 = .ok (.iinc 8 1, 3) := dk_132 8 1 (dk_at dksX1_proved_5 15 rfl rfl)
theorem dX1_proved_137 : decode cX1_proved 137 = .ok (.goto (-120), 3) := dk_167 255 136 (dk_at dksX1_proved_5 18 rfl rfl)
theorem dX1_proved_140 : decode cX1_proved 140 = .ok (.iload_n 3, 1) := dk_29 (dk_at dksX1_proved_5 21 rfl rfl)
theorem dX1_proved_141 : decode cX1_proved 141 = .ok (.ifCond .eq 34, 3) := dk_153 0 34 (dk_at dksX1_proved_6 0 rfl rfl)
theorem dX1_proved_144 : decode cX1_proved 144 = .ok (.iload_n 3, 1) := dk_29 (dk_at dksX1_proved_6 3 rfl rfl)
theorem dX1_proved_145 : decode cX1_proved 145 = .ok (.bipush 10, 2) := dk_16 10 (dk_at dksX1_proved_6 4 rfl rfl)
theorem dX1_proved_147 : decode cX1_proved 147 = .ok (.if_icmp .gt 28, 3) := dk_163 0 28 (dk_at dksX1_proved_6 6 rfl rfl)
theorem dX1_proved_150 : decode cX1_proved 150 = .ok (.iload 5, 2) := dk_21 5 (dk_at dksX1_proved_6 9 rfl rfl)
theorem dX1_proved_152 : decode cX1_proved 152 = .ok (.aload_n 0, 1) := dk_42 (dk_at dksX1_proved_6 11 rfl rfl)
theorem dX1_proved_153 : decode cX1_proved 153 = .ok (.getfield 161, 3) := dk_180 0 161 (dk_at dksX1_proved_6 12 rfl rfl)
theorem dX1_proved_156 : decode cX1_proved 156 = .ok (.if_icmp .lt 19, 3) := dk_161 0 19 (dk_at dksX1_proved_6 15 rfl rfl)
theorem dX1_proved_159 : decode cX1_proved 159 = .ok (.iload 4, 2) := dk_21 4 (dk_at dksX1_proved_6 18 rfl rfl)
theorem dX1_proved_161 : decode cX1_proved 161 = .ok (.aload_n 0, 1) := dk_42 (dk_at dksX1_proved_6 20 rfl rfl)
theorem dX1_proved_162 : decode cX1_proved 162 = .ok (.getfield 41, 3) := dk_180 0 41 (dk_at dksX1_proved_6 21 rfl rfl)
theorem dX1_proved_165 : decode cX1_proved 165 = .ok (.aload_n 0, 1) := dk_42 (dk_at dksX1_proved_7 0 rfl rfl)
theorem dX1_proved_166 : decode cX1_proved 166 = .ok (.getfield 161, 3) := dk_180 0 161 (dk_at dksX1_proved_7 1 rfl rfl)
theorem dX1_proved_169 : decode cX1_proved 169 = .ok (.iconst 1, 1) := dk_4 (dk_at dksX1_proved_7 4 rfl rfl)
theorem dX1_proved_170 : decode cX1_proved 170 = .ok (.isub, 1) := dk_100 (dk_at dksX1_proved_7 5 rfl rfl)
theorem dX1_proved_171 : decode cX1_proved 171 = .ok (.iaload, 1) := dk_46 (dk_at dksX1_proved_7 6 rfl rfl)
theorem dX1_proved_172 : decode cX1_proved 172 = .ok (.if_icmp .eq 9, 3) := dk_159 0 9 (dk_at dksX1_proved_7 7 rfl rfl)
theorem dX1_proved_175 : decode cX1_proved 175 = .ok (.ldc2_w 210, 3) := dk_20 0 210 (dk_at dksX1_proved_7 10 rfl rfl)
theorem dX1_proved_178 : decode cX1_proved 178 = .ok (.goto 5, 3) := dk_167 0 5 (dk_at dksX1_proved_7 13 rfl rfl)
theorem dX1_proved_181 : decode cX1_proved 181 = .ok (.lload 6, 2) := dk_22 6 (dk_at dksX1_proved_7 16 rfl rfl)
theorem dX1_proved_183 : decode cX1_proved 183 = .ok (.lreturn, 1) := dk_173 (dk_at dksX1_proved_7 18 rfl rfl)
abbrev cX1_wasAhead : ByteArray := prog_12_method_31_code
def yX1_wasAhead : MethodName := ⟨RX1, "wasAhead", "(III)Z"⟩
def dkwX1_wasAhead_2 : List UInt8 := [167, 0, 4, 3, 54, 4, 132, 5, 1, 167, 255, 205, 21, 4, 172]
abbrev dktX1_wasAhead_2 : List UInt8 := dkwX1_wasAhead_2 ++ []
def dkwX1_wasAhead_1 : List UInt8 := [104, 28, 96, 21, 5, 96, 46, 42, 180, 0, 35, 16, 32, 27, 104, 28, 96, 29, 96, 46, 160, 0, 7, 4]
abbrev dktX1_wasAhead_1 : List UInt8 := dkwX1_wasAhead_1 ++ dktX1_wasAhead_2
def dkwX1_wasAhead_0 : List UInt8 := [3, 54, 4, 3, 54, 5, 21, 5, 29, 162, 0, 51, 21, 4, 154, 0, 33, 42, 180, 0, 35, 16, 32, 27]
abbrev dktX1_wasAhead_0 : List UInt8 := dkwX1_wasAhead_0 ++ dktX1_wasAhead_1
theorem dksX1_wasAhead_0 : cX1_wasAhead.data.toList.drop 0 = dktX1_wasAhead_0 := by decide +kernel
theorem dksX1_wasAhead_1 : cX1_wasAhead.data.toList.drop 24 = dktX1_wasAhead_1 := dk_seg dksX1_wasAhead_0 24 rfl rfl
theorem dksX1_wasAhead_2 : cX1_wasAhead.data.toList.drop 48 = dktX1_wasAhead_2 := dk_seg dksX1_wasAhead_1 24 rfl rfl
theorem dX1_wasAhead_0 : decode cX1_wasAhead 0 = .ok (.iconst 0, 1) := dk_3 (dk_at dksX1_wasAhead_0 0 rfl rfl)
theorem dX1_wasAhead_1 : decode cX1_wasAhead 1 = .ok (.istore 4, 2) := dk_54 4 (dk_at dksX1_wasAhead_0 1 rfl rfl)
theorem dX1_wasAhead_3 : decode cX1_wasAhead 3 = .ok (.iconst 0, 1) := dk_3 (dk_at dksX1_wasAhead_0 3 rfl rfl)
theorem dX1_wasAhead_4 : decode cX1_wasAhead 4 = .ok (.istore 5, 2) := dk_54 5 (dk_at dksX1_wasAhead_0 4 rfl rfl)
theorem dX1_wasAhead_6 : decode cX1_wasAhead 6 = .ok (.iload 5, 2) := dk_21 5 (dk_at dksX1_wasAhead_0 6 rfl rfl)
theorem dX1_wasAhead_8 : decode cX1_wasAhead 8 = .ok (.iload_n 3, 1) := dk_29 (dk_at dksX1_wasAhead_0 8 rfl rfl)
theorem dX1_wasAhead_9 : decode cX1_wasAhead 9 = .ok (.if_icmp .ge 51, 3) := dk_162 0 51 (dk_at dksX1_wasAhead_0 9 rfl rfl)
theorem dX1_wasAhead_12 : decode cX1_wasAhead 12 = .ok (.iload 4, 2) := dk_21 4 (dk_at dksX1_wasAhead_0 12 rfl rfl)
theorem dX1_wasAhead_14 : decode cX1_wasAhead 14 = .ok (.ifCond .ne 33, 3) := dk_154 0 33 (dk_at dksX1_wasAhead_0 14 rfl rfl)
theorem dX1_wasAhead_17 : decode cX1_wasAhead 17 = .ok (.aload_n 0, 1) := dk_42 (dk_at dksX1_wasAhead_0 17 rfl rfl)
theorem dX1_wasAhead_18 : decode cX1_wasAhead 18 = .ok (.getfield 35, 3) := dk_180 0 35 (dk_at dksX1_wasAhead_0 18 rfl rfl)
theorem dX1_wasAhead_21 : decode cX1_wasAhead 21 = .ok (.bipush 32, 2) := dk_16 32 (dk_at dksX1_wasAhead_0 21 rfl rfl)
theorem dX1_wasAhead_23 : decode cX1_wasAhead 23 = .ok (.iload_n 1, 1) := dk_27 (dk_at dksX1_wasAhead_0 23 rfl rfl)
theorem dX1_wasAhead_24 : decode cX1_wasAhead 24 = .ok (.imul, 1) := dk_104 (dk_at dksX1_wasAhead_1 0 rfl rfl)
theorem dX1_wasAhead_25 : decode cX1_wasAhead 25 = .ok (.iload_n 2, 1) := dk_28 (dk_at dksX1_wasAhead_1 1 rfl rfl)
theorem dX1_wasAhead_26 : decode cX1_wasAhead 26 = .ok (.iadd, 1) := dk_96 (dk_at dksX1_wasAhead_1 2 rfl rfl)
theorem dX1_wasAhead_27 : decode cX1_wasAhead 27 = .ok (.iload 5, 2) := dk_21 5 (dk_at dksX1_wasAhead_1 3 rfl rfl)
theorem dX1_wasAhead_29 : decode cX1_wasAhead 29 = .ok (.iadd, 1) := dk_96 (dk_at dksX1_wasAhead_1 5 rfl rfl)
theorem dX1_wasAhead_30 : decode cX1_wasAhead 30 = .ok (.iaload, 1) := dk_46 (dk_at dksX1_wasAhead_1 6 rfl rfl)
theorem dX1_wasAhead_31 : decode cX1_wasAhead 31 = .ok (.aload_n 0, 1) := dk_42 (dk_at dksX1_wasAhead_1 7 rfl rfl)
theorem dX1_wasAhead_32 : decode cX1_wasAhead 32 = .ok (.getfield 35, 3) := dk_180 0 35 (dk_at dksX1_wasAhead_1 8 rfl rfl)
theorem dX1_wasAhead_35 : decode cX1_wasAhead 35 = .ok (.bipush 32, 2) := dk_16 32 (dk_at dksX1_wasAhead_1 11 rfl rfl)
theorem dX1_wasAhead_37 : decode cX1_wasAhead 37 = .ok (.iload_n 1, 1) := dk_27 (dk_at dksX1_wasAhead_1 13 rfl rfl)
theorem dX1_wasAhead_38 : decode cX1_wasAhead 38 = .ok (.imul, 1) := dk_104 (dk_at dksX1_wasAhead_1 14 rfl rfl)
theorem dX1_wasAhead_39 : decode cX1_wasAhead 39 = .ok (.iload_n 2, 1) := dk_28 (dk_at dksX1_wasAhead_1 15 rfl rfl)
theorem dX1_wasAhead_40 : decode cX1_wasAhead 40 = .ok (.iadd, 1) := dk_96 (dk_at dksX1_wasAhead_1 16 rfl rfl)
theorem dX1_wasAhead_41 : decode cX1_wasAhead 41 = .ok (.iload_n 3, 1) := dk_29 (dk_at dksX1_wasAhead_1 17 rfl rfl)
theorem dX1_wasAhead_42 : decode cX1_wasAhead 42 = .ok (.iadd, 1) := dk_96 (dk_at dksX1_wasAhead_1 18 rfl rfl)
theorem dX1_wasAhead_43 : decode cX1_wasAhead 43 = .ok (.iaload, 1) := dk_46 (dk_at dksX1_wasAhead_1 19 rfl rfl)
theorem dX1_wasAhead_44 : decode cX1_wasAhead 44 = .ok (.if_icmp .ne 7, 3) := dk_160 0 7 (dk_at dksX1_wasAhead_1 20 rfl rfl)
theorem dX1_wasAhead_47 : decode cX1_wasAhead 47 = .ok (.iconst 1, 1) := dk_4 (dk_at dksX1_wasAhead_1 23 rfl rfl)
theorem dX1_wasAhead_48 : decode cX1_wasAhead 48 = .ok (.goto 4, 3) := dk_167 0 4 (dk_at dksX1_wasAhead_2 0 rfl rfl)
theorem dX1_wasAhead_51 : decode cX1_wasAhead 51 = .ok (.iconst 0, 1) := dk_3 (dk_at dksX1_wasAhead_2 3 rfl rfl)
theorem dX1_wasAhead_52 : decode cX1_wasAhead 52 = .ok (.istore 4, 2) := dk_54 4 (dk_at dksX1_wasAhead_2 4 rfl rfl)
theorem dX1_wasAhead_54 : decode cX1_wasAhead 54 = .ok (.iinc 5 1, 3) := dk_132 5 1 (dk_at dksX1_wasAhead_2 6 rfl rfl)
theorem dX1_wasAhead_57 : decode cX1_wasAhead 57 = .ok (.goto (-51), 3) := dk_167 255 205 (dk_at dksX1_wasAhead_2 9 rfl rfl)
theorem dX1_wasAhead_60 : decode cX1_wasAhead 60 = .ok (.iload 4, 2) := dk_21 4 (dk_at dksX1_wasAhead_2 12 rfl rfl)
theorem dX1_wasAhead_62 : decode cX1_wasAhead 62 = .ok (.ireturn, 1) := dk_172 (dk_at dksX1_wasAhead_2 14 rfl rfl)
abbrev cX1_speed : ByteArray := prog_12_method_34_code
def yX1_speed : MethodName := ⟨RX1, "speed", "(II)I"⟩
def dkwX1_speed_3 : List UInt8 := [28, 79, 42, 89, 180, 0, 196, 4, 96, 181, 0, 196, 42, 180, 0, 196, 172]
abbrev dktX1_speed_3 : List UInt8 := dkwX1_speed_3 ++ []
def dkwX1_speed_2 : List UInt8 := [160, 0, 6, 16, 252, 172, 42, 180, 0, 62, 42, 180, 0, 196, 27, 79, 42, 180, 0, 65, 42, 180, 0, 196]
abbrev dktX1_speed_2 : List UInt8 := dkwX1_speed_2 ++ dktX1_speed_3
def dkwX1_speed_1 : List UInt8 := [172, 27, 133, 9, 42, 180, 0, 193, 133, 184, 0, 111, 154, 0, 6, 16, 254, 172, 42, 180, 0, 196, 16, 8]
abbrev dktX1_speed_1 : List UInt8 := dkwX1_speed_1 ++ dktX1_speed_2
def dkwX1_speed_0 : List UInt8 := [28, 133, 10, 20, 0, 216, 184, 0, 111, 154, 0, 6, 16, 254, 172, 42, 180, 0, 95, 154, 0, 6, 16, 253]
abbrev dktX1_speed_0 : List UInt8 := dkwX1_speed_0 ++ dktX1_speed_1
theorem dksX1_speed_0 : cX1_speed.data.toList.drop 0 = dktX1_speed_0 := by decide +kernel
theorem dksX1_speed_1 : cX1_speed.data.toList.drop 24 = dktX1_speed_1 := dk_seg dksX1_speed_0 24 rfl rfl
theorem dksX1_speed_2 : cX1_speed.data.toList.drop 48 = dktX1_speed_2 := dk_seg dksX1_speed_1 24 rfl rfl
theorem dksX1_speed_3 : cX1_speed.data.toList.drop 72 = dktX1_speed_3 := dk_seg dksX1_speed_2 24 rfl rfl
theorem dX1_speed_0 : decode cX1_speed 0 = .ok (.iload_n 2, 1) := dk_28 (dk_at dksX1_speed_0 0 rfl rfl)
theorem dX1_speed_1 : decode cX1_speed 1 = .ok (.i2l, 1) := dk_133 (dk_at dksX1_speed_0 1 rfl rfl)
theorem dX1_speed_2 : decode cX1_speed 2 = .ok (.lconst 1, 1) := dk_10 (dk_at dksX1_speed_0 2 rfl rfl)
theorem dX1_speed_3 : decode cX1_speed 3 = .ok (.ldc2_w 216, 3) := dk_20 0 216 (dk_at dksX1_speed_0 3 rfl rfl)
theorem dX1_speed_6 : decode cX1_speed 6 = .ok (.invokestatic 111, 3) := dk_184 0 111 (dk_at dksX1_speed_0 6 rfl rfl)
theorem dX1_speed_9 : decode cX1_speed 9 = .ok (.ifCond .ne 6, 3) := dk_154 0 6 (dk_at dksX1_speed_0 9 rfl rfl)
theorem dX1_speed_12 : decode cX1_speed 12 = .ok (.bipush (-2), 2) := dk_16 254 (dk_at dksX1_speed_0 12 rfl rfl)
theorem dX1_speed_14 : decode cX1_speed 14 = .ok (.ireturn, 1) := dk_172 (dk_at dksX1_speed_0 14 rfl rfl)
theorem dX1_speed_15 : decode cX1_speed 15 = .ok (.aload_n 0, 1) := dk_42 (dk_at dksX1_speed_0 15 rfl rfl)
theorem dX1_speed_16 : decode cX1_speed 16 = .ok (.getfield 95, 3) := dk_180 0 95 (dk_at dksX1_speed_0 16 rfl rfl)
theorem dX1_speed_19 : decode cX1_speed 19 = .ok (.ifCond .ne 6, 3) := dk_154 0 6 (dk_at dksX1_speed_0 19 rfl rfl)
theorem dX1_speed_22 : decode cX1_speed 22 = .ok (.bipush (-3), 2) := dk_16 253 (dk_at dksX1_speed_0 22 rfl rfl)
theorem dX1_speed_24 : decode cX1_speed 24 = .ok (.ireturn, 1) := dk_172 (dk_at dksX1_speed_1 0 rfl rfl)
theorem dX1_speed_25 : decode cX1_speed 25 = .ok (.iload_n 1, 1) := dk_27 (dk_at dksX1_speed_1 1 rfl rfl)
theorem dX1_speed_26 : decode cX1_speed 26 = .ok (.i2l, 1) := dk_133 (dk_at dksX1_speed_1 2 rfl rfl)
theorem dX1_speed_27 : decode cX1_speed 27 = .ok (.lconst 0, 1) := dk_9 (dk_at dksX1_speed_1 3 rfl rfl)
theorem dX1_speed_28 : decode cX1_speed 28 = .ok (.aload_n 0, 1) := dk_42 (dk_at dksX1_speed_1 4 rfl rfl)
theorem dX1_speed_29 : decode cX1_speed 29 = .ok (.getfield 193, 3) := dk_180 0 193 (dk_at dksX1_speed_1 5 rfl rfl)
theorem dX1_speed_32 : decode cX1_speed 32 = .ok (.i2l, 1) := dk_133 (dk_at dksX1_speed_1 8 rfl rfl)
theorem dX1_speed_33 : decode cX1_speed 33 = .ok (.invokestatic 111, 3) := dk_184 0 111 (dk_at dksX1_speed_1 9 rfl rfl)
theorem dX1_speed_36 : decode cX1_speed 36 = .ok (.ifCond .ne 6, 3) := dk_154 0 6 (dk_at dksX1_speed_1 12 rfl rfl)
theorem dX1_speed_39 : decode cX1_speed 39 = .ok (.bipush (-2), 2) := dk_16 254 (dk_at dksX1_speed_1 15 rfl rfl)
theorem dX1_speed_41 : decode cX1_speed 41 = .ok (.ireturn, 1) := dk_172 (dk_at dksX1_speed_1 17 rfl rfl)
theorem dX1_speed_42 : decode cX1_speed 42 = .ok (.aload_n 0, 1) := dk_42 (dk_at dksX1_speed_1 18 rfl rfl)
theorem dX1_speed_43 : decode cX1_speed 43 = .ok (.getfield 196, 3) := dk_180 0 196 (dk_at dksX1_speed_1 19 rfl rfl)
theorem dX1_speed_46 : decode cX1_speed 46 = .ok (.bipush 8, 2) := dk_16 8 (dk_at dksX1_speed_1 22 rfl rfl)
theorem dX1_speed_48 : decode cX1_speed 48 = .ok (.if_icmp .ne 6, 3) := dk_160 0 6 (dk_at dksX1_speed_2 0 rfl rfl)
theorem dX1_speed_51 : decode cX1_speed 51 = .ok (.bipush (-4), 2) := dk_16 252 (dk_at dksX1_speed_2 3 rfl rfl)
theorem dX1_speed_53 : decode cX1_speed 53 = .ok (.ireturn, 1) := dk_172 (dk_at dksX1_speed_2 5 rfl rfl)
theorem dX1_speed_54 : decode cX1_speed 54 = .ok (.aload_n 0, 1) := dk_42 (dk_at dksX1_speed_2 6 rfl rfl)
theorem dX1_speed_55 : decode cX1_speed 55 = .ok (.getfield 62, 3) := dk_180 0 62 (dk_at dksX1_speed_2 7 rfl rfl)
theorem dX1_speed_58 : decode cX1_speed 58 = .ok (.aload_n 0, 1) := dk_42 (dk_at dksX1_speed_2 10 rfl rfl)
theorem dX1_speed_59 : decode cX1_speed 59 = .ok (.getfield 196, 3) := dk_180 0 196 (dk_at dksX1_speed_2 11 rfl rfl)
theorem dX1_speed_62 : decode cX1_speed 62 = .ok (.iload_n 1, 1) := dk_27 (dk_at dksX1_speed_2 14 rfl rfl)
theorem dX1_speed_63 : decode cX1_speed 63 = .ok (.iastore, 1) := dk_79 (dk_at dksX1_speed_2 15 rfl rfl)
theorem dX1_speed_64 : decode cX1_speed 64 = .ok (.aload_n 0, 1) := dk_42 (dk_at dksX1_speed_2 16 rfl rfl)
theorem dX1_speed_65 : decode cX1_speed 65 = .ok (.getfield 65, 3) := dk_180 0 65 (dk_at dksX1_speed_2 17 rfl rfl)
theorem dX1_speed_68 : decode cX1_speed 68 = .ok (.aload_n 0, 1) := dk_42 (dk_at dksX1_speed_2 20 rfl rfl)
theorem dX1_speed_69 : decode cX1_speed 69 = .ok (.getfield 196, 3) := dk_180 0 196 (dk_at dksX1_speed_2 21 rfl rfl)
theorem dX1_speed_72 : decode cX1_speed 72 = .ok (.iload_n 2, 1) := dk_28 (dk_at dksX1_speed_3 0 rfl rfl)
theorem dX1_speed_73 : decode cX1_speed 73 = .ok (.iastore, 1) := dk_79 (dk_at dksX1_speed_3 1 rfl rfl)
theorem dX1_speed_74 : decode cX1_speed 74 = .ok (.aload_n 0, 1) := dk_42 (dk_at dksX1_speed_3 2 rfl rfl)
theorem dX1_speed_75 : decode cX1_speed 75 = .ok (.dup, 1) := dk_89 (dk_at dksX1_speed_3 3 rfl rfl)
theorem dX1_speed_76 : decode cX1_speed 76 = .ok (.getfield 196, 3) := dk_180 0 196 (dk_at dksX1_speed_3 4 rfl rfl)
theorem dX1_speed_79 : decode cX1_speed 79 = .ok (.iconst 1, 1) := dk_4 (dk_at dksX1_speed_3 7 rfl rfl)
theorem dX1_speed_80 : decode cX1_speed 80 = .ok (.iadd, 1) := dk_96 (dk_at dksX1_speed_3 8 rfl rfl)
theorem dX1_speed_81 : decode cX1_speed 81 = .ok (.putfield 196, 3) := dk_181 0 196 (dk_at dksX1_speed_3 9 rfl rfl)
theorem dX1_speed_84 : decode cX1_speed 84 = .ok (.aload_n 0, 1) := dk_42 (dk_at dksX1_speed_3 12 rfl rfl)
theorem dX1_speed_85 : decode cX1_speed 85 = .ok (.getfield 196, 3) := dk_180 0 196 (dk_at dksX1_speed_3 13 rfl rfl)
theorem dX1_speed_88 : decode cX1_speed 88 = .ok (.ireturn, 1) := dk_172 (dk_at dksX1_speed_3 16 rfl rfl)
abbrev cX1_due : ByteArray := prog_12_method_37_code
def yX1_due : MethodName := ⟨RX1, "due", "(I)J"⟩
def dkwX1_due_1 : List UInt8 := [182, 0, 223, 167, 0, 6, 184, 0, 104, 173]
abbrev dktX1_due_1 : List UInt8 := dkwX1_due_1 ++ []
def dkwX1_due_0 : List UInt8 := [42, 182, 0, 220, 153, 0, 25, 27, 133, 9, 42, 180, 0, 193, 133, 184, 0, 111, 153, 0, 11, 42, 27]
abbrev dktX1_due_0 : List UInt8 := dkwX1_due_0 ++ dktX1_due_1
theorem dksX1_due_0 : cX1_due.data.toList.drop 0 = dktX1_due_0 := by decide +kernel
theorem dksX1_due_1 : cX1_due.data.toList.drop 23 = dktX1_due_1 := dk_seg dksX1_due_0 23 rfl rfl
theorem dX1_due_0 : decode cX1_due 0 = .ok (.aload_n 0, 1) := dk_42 (dk_at dksX1_due_0 0 rfl rfl)
theorem dX1_due_1 : decode cX1_due 1 = .ok (.invokevirtual 220, 3) := dk_182 0 220 (dk_at dksX1_due_0 1 rfl rfl)
theorem dX1_due_4 : decode cX1_due 4 = .ok (.ifCond .eq 25, 3) := dk_153 0 25 (dk_at dksX1_due_0 4 rfl rfl)
theorem dX1_due_7 : decode cX1_due 7 = .ok (.iload_n 1, 1) := dk_27 (dk_at dksX1_due_0 7 rfl rfl)
theorem dX1_due_8 : decode cX1_due 8 = .ok (.i2l, 1) := dk_133 (dk_at dksX1_due_0 8 rfl rfl)
theorem dX1_due_9 : decode cX1_due 9 = .ok (.lconst 0, 1) := dk_9 (dk_at dksX1_due_0 9 rfl rfl)
theorem dX1_due_10 : decode cX1_due 10 = .ok (.aload_n 0, 1) := dk_42 (dk_at dksX1_due_0 10 rfl rfl)
theorem dX1_due_11 : decode cX1_due 11 = .ok (.getfield 193, 3) := dk_180 0 193 (dk_at dksX1_due_0 11 rfl rfl)
theorem dX1_due_14 : decode cX1_due 14 = .ok (.i2l, 1) := dk_133 (dk_at dksX1_due_0 14 rfl rfl)
theorem dX1_due_15 : decode cX1_due 15 = .ok (.invokestatic 111, 3) := dk_184 0 111 (dk_at dksX1_due_0 15 rfl rfl)
theorem dX1_due_18 : decode cX1_due 18 = .ok (.ifCond .eq 11, 3) := dk_153 0 11 (dk_at dksX1_due_0 18 rfl rfl)
theorem dX1_due_21 : decode cX1_due 21 = .ok (.aload_n 0, 1) := dk_42 (dk_at dksX1_due_0 21 rfl rfl)
theorem dX1_due_22 : decode cX1_due 22 = .ok (.iload_n 1, 1) := dk_27 (dk_at dksX1_due_0 22 rfl rfl)
theorem dX1_due_23 : decode cX1_due 23 = .ok (.invokevirtual 223, 3) := dk_182 0 223 (dk_at dksX1_due_1 0 rfl rfl)
theorem dX1_due_26 : decode cX1_due 26 = .ok (.goto 6, 3) := dk_167 0 6 (dk_at dksX1_due_1 3 rfl rfl)
theorem dX1_due_29 : decode cX1_due 29 = .ok (.invokestatic 104, 3) := dk_184 0 104 (dk_at dksX1_due_1 6 rfl rfl)
theorem dX1_due_32 : decode cX1_due 32 = .ok (.lreturn, 1) := dk_173 (dk_at dksX1_due_1 9 rfl rfl)
abbrev cX1_hasDue : ByteArray := prog_12_method_35_code
def yX1_hasDue : MethodName := ⟨RX1, "hasDue", "()Z"⟩
def dkwX1_hasDue_2 : List UInt8 := [158, 0, 7, 4, 167, 0, 4, 3, 172]
abbrev dktX1_hasDue_2 : List UInt8 := dkwX1_hasDue_2 ++ []
def dkwX1_hasDue_1 : List UInt8 := [154, 0, 7, 4, 167, 0, 4, 3, 60, 132, 2, 1, 167, 255, 226, 27, 153, 0, 14, 42, 180, 0, 95]
abbrev dktX1_hasDue_1 : List UInt8 := dkwX1_hasDue_1 ++ dktX1_hasDue_2
def dkwX1_hasDue_0 : List UInt8 := [3, 60, 3, 61, 28, 42, 180, 0, 196, 162, 0, 28, 27, 154, 0, 12, 42, 180, 0, 62, 28, 46]
abbrev dktX1_hasDue_0 : List UInt8 := dkwX1_hasDue_0 ++ dktX1_hasDue_1
theorem dksX1_hasDue_0 : cX1_hasDue.data.toList.drop 0 = dktX1_hasDue_0 := by decide +kernel
theorem dksX1_hasDue_1 : cX1_hasDue.data.toList.drop 22 = dktX1_hasDue_1 := dk_seg dksX1_hasDue_0 22 rfl rfl
theorem dksX1_hasDue_2 : cX1_hasDue.data.toList.drop 45 = dktX1_hasDue_2 := dk_seg dksX1_hasDue_1 23 rfl rfl
theorem dX1_hasDue_0 : decode cX1_hasDue 0 = .ok (.iconst 0, 1) := dk_3 (dk_at dksX1_hasDue_0 0 rfl rfl)
theorem dX1_hasDue_1 : decode cX1_hasDue 1 = .ok (.istore_n 1, 1) := dk_60 (dk_at dksX1_hasDue_0 1 rfl rfl)
theorem dX1_hasDue_2 : decode cX1_hasDue 2 = .ok (.iconst 0, 1) := dk_3 (dk_at dksX1_hasDue_0 2 rfl rfl)
theorem dX1_hasDue_3 : decode cX1_hasDue 3 = .ok (.istore_n 2, 1) := dk_61 (dk_at dksX1_hasDue_0 3 rfl rfl)
theorem dX1_hasDue_4 : decode cX1_hasDue 4 = .ok (.iload_n 2, 1) := dk_28 (dk_at dksX1_hasDue_0 4 rfl rfl)
theorem dX1_hasDue_5 : decode cX1_hasDue 5 = .ok (.aload_n 0, 1) := dk_42 (dk_at dksX1_hasDue_0 5 rfl rfl)
theorem dX1_hasDue_6 : decode cX1_hasDue 6 = .ok (.getfield 196, 3) := dk_180 0 196 (dk_at dksX1_hasDue_0 6 rfl rfl)
theorem dX1_hasDue_9 : decode cX1_hasDue 9 = .ok (.if_icmp .ge 28, 3) := dk_162 0 28 (dk_at dksX1_hasDue_0 9 rfl rfl)
theorem dX1_hasDue_12 : decode cX1_hasDue 12 = .ok (.iload_n 1, 1) := dk_27 (dk_at dksX1_hasDue_0 12 rfl rfl)
theorem dX1_hasDue_13 : decode cX1_hasDue 13 = .ok (.ifCond .ne 12, 3) := dk_154 0 12 (dk_at dksX1_hasDue_0 13 rfl rfl)
theorem dX1_hasDue_16 : decode cX1_hasDue 16 = .ok (.aload_n 0, 1) := dk_42 (dk_at dksX1_hasDue_0 16 rfl rfl)
theorem dX1_hasDue_17 : decode cX1_hasDue 17 = .ok (.getfield 62, 3) := dk_180 0 62 (dk_at dksX1_hasDue_0 17 rfl rfl)
theorem dX1_hasDue_20 : decode cX1_hasDue 20 = .ok (.iload_n 2, 1) := dk_28 (dk_at dksX1_hasDue_0 20 rfl rfl)
theorem dX1_hasDue_21 : decode cX1_hasDue 21 = .ok (.iaload, 1) := dk_46 (dk_at dksX1_hasDue_0 21 rfl rfl)
theorem dX1_hasDue_22 : decode cX1_hasDue 22 = .ok (.ifCond .ne 7, 3) := dk_154 0 7 (dk_at dksX1_hasDue_1 0 rfl rfl)
theorem dX1_hasDue_25 : decode cX1_hasDue 25 = .ok (.iconst 1, 1) := dk_4 (dk_at dksX1_hasDue_1 3 rfl rfl)
theorem dX1_hasDue_26 : decode cX1_hasDue 26 = .ok (.goto 4, 3) := dk_167 0 4 (dk_at dksX1_hasDue_1 4 rfl rfl)
theorem dX1_hasDue_29 : decode cX1_hasDue 29 = .ok (.iconst 0, 1) := dk_3 (dk_at dksX1_hasDue_1 7 rfl rfl)
theorem dX1_hasDue_30 : decode cX1_hasDue 30 = .ok (.istore_n 1, 1) := dk_60 (dk_at dksX1_hasDue_1 8 rfl rfl)
theorem dX1_hasDue_31 : decode cX1_hasDue 31 = .ok (.iinc 2 1, 3) := dk_132 2 1 (dk_at dksX1_hasDue_1 9 rfl rfl)
theorem dX1_hasDue_34 : decode cX1_hasDue 34 = .ok (.goto (-30), 3) := dk_167 255 226 (dk_at dksX1_hasDue_1 12 rfl rfl)
theorem dX1_hasDue_37 : decode cX1_hasDue 37 = .ok (.iload_n 1, 1) := dk_27 (dk_at dksX1_hasDue_1 15 rfl rfl)
theorem dX1_hasDue_38 : decode cX1_hasDue 38 = .ok (.ifCond .eq 14, 3) := dk_153 0 14 (dk_at dksX1_hasDue_1 16 rfl rfl)
theorem dX1_hasDue_41 : decode cX1_hasDue 41 = .ok (.aload_n 0, 1) := dk_42 (dk_at dksX1_hasDue_1 19 rfl rfl)
theorem dX1_hasDue_42 : decode cX1_hasDue 42 = .ok (.getfield 95, 3) := dk_180 0 95 (dk_at dksX1_hasDue_1 20 rfl rfl)
theorem dX1_hasDue_45 : decode cX1_hasDue 45 = .ok (.ifCond .le 7, 3) := dk_158 0 7 (dk_at dksX1_hasDue_2 0 rfl rfl)
theorem dX1_hasDue_48 : decode cX1_hasDue 48 = .ok (.iconst 1, 1) := dk_4 (dk_at dksX1_hasDue_2 3 rfl rfl)
theorem dX1_hasDue_49 : decode cX1_hasDue 49 = .ok (.goto 4, 3) := dk_167 0 4 (dk_at dksX1_hasDue_2 4 rfl rfl)
theorem dX1_hasDue_52 : decode cX1_hasDue 52 = .ok (.iconst 0, 1) := dk_3 (dk_at dksX1_hasDue_2 7 rfl rfl)
theorem dX1_hasDue_53 : decode cX1_hasDue 53 = .ok (.ireturn, 1) := dk_172 (dk_at dksX1_hasDue_2 8 rfl rfl)
abbrev cX1_dueAt : ByteArray := prog_12_method_36_code
def yX1_dueAt : MethodName := ⟨RX1, "dueAt", "(I)J"⟩
def dkwX1_dueAt_5 : List UInt8 := [21, 6, 54, 4, 167, 255, 141, 32, 173]
abbrev dktX1_dueAt_5 : List UInt8 := dkwX1_dueAt_5 ++ []
def dkwX1_dueAt_4 : List UInt8 := [132, 7, 1, 167, 255, 180, 32, 20, 0, 218, 21, 6, 21, 4, 100, 133, 105, 21, 5, 133, 109, 97, 65]
abbrev dktX1_dueAt_4 : List UInt8 := dkwX1_dueAt_4 ++ dktX1_dueAt_5
def dkwX1_dueAt_3 : List UInt8 := [21, 7, 46, 21, 6, 162, 0, 13, 42, 180, 0, 62, 21, 7, 46, 167, 0, 5, 21, 6, 54, 6]
abbrev dktX1_dueAt_3 : List UInt8 := dkwX1_dueAt_3 ++ dktX1_dueAt_4
def dkwX1_dueAt_2 : List UInt8 := [46, 167, 0, 5, 21, 5, 54, 5, 42, 180, 0, 62, 21, 7, 46, 21, 4, 164, 0, 25, 42, 180, 0, 62]
abbrev dktX1_dueAt_2 : List UInt8 := dkwX1_dueAt_2 ++ dktX1_dueAt_3
def dkwX1_dueAt_1 : List UInt8 := [180, 0, 196, 162, 0, 73, 42, 180, 0, 62, 21, 7, 46, 21, 4, 160, 0, 13, 42, 180, 0, 65, 21, 7]
abbrev dktX1_dueAt_1 : List UInt8 := dkwX1_dueAt_1 ++ dktX1_dueAt_2
def dkwX1_dueAt_0 : List UInt8 := [9, 65, 3, 54, 4, 21, 4, 27, 162, 0, 115, 3, 54, 5, 27, 54, 6, 3, 54, 7, 21, 7, 42]
abbrev dktX1_dueAt_0 : List UInt8 := dkwX1_dueAt_0 ++ dktX1_dueAt_1
theorem dksX1_dueAt_0 : cX1_dueAt.data.toList.drop 0 = dktX1_dueAt_0 := by decide +kernel
theorem dksX1_dueAt_1 : cX1_dueAt.data.toList.drop 23 = dktX1_dueAt_1 := dk_seg dksX1_dueAt_0 23 rfl rfl
theorem dksX1_dueAt_2 : cX1_dueAt.data.toList.drop 47 = dktX1_dueAt_2 := dk_seg dksX1_dueAt_1 24 rfl rfl
theorem dksX1_dueAt_3 : cX1_dueAt.data.toList.drop 71 = dktX1_dueAt_3 := dk_seg dksX1_dueAt_2 24 rfl rfl
theorem dksX1_dueAt_4 : cX1_dueAt.data.toList.drop 93 = dktX1_dueAt_4 := dk_seg dksX1_dueAt_3 22 rfl rfl
theorem dksX1_dueAt_5 : cX1_dueAt.data.toList.drop 116 = dktX1_dueAt_5 := dk_seg dksX1_dueAt_4 23 rfl rfl
theorem dX1_dueAt_0 : decode cX1_dueAt 0 = .ok (.lconst 0, 1) := dk_9 (dk_at dksX1_dueAt_0 0 rfl rfl)
theorem dX1_dueAt_1 : decode cX1_dueAt 1 = .ok (.lstore_n 2, 1) := dk_65 (dk_at dksX1_dueAt_0 1 rfl rfl)
theorem dX1_dueAt_2 : decode cX1_dueAt 2 = .ok (.iconst 0, 1) := dk_3 (dk_at dksX1_dueAt_0 2 rfl rfl)
theorem dX1_dueAt_3 : decode cX1_dueAt 3 = .ok (.istore 4, 2) := dk_54 4 (dk_at dksX1_dueAt_0 3 rfl rfl)
theorem dX1_dueAt_5 : decode cX1_dueAt 5 = .ok (.iload 4, 2) := dk_21 4 (dk_at dksX1_dueAt_0 5 rfl rfl)
theorem dX1_dueAt_7 : decode cX1_dueAt 7 = .ok (.iload_n 1, 1) := dk_27 (dk_at dksX1_dueAt_0 7 rfl rfl)
theorem dX1_dueAt_8 : decode cX1_dueAt 8 = .ok (.if_icmp .ge 115, 3) := dk_162 0 115 (dk_at dksX1_dueAt_0 8 rfl rfl)
theorem dX1_dueAt_11 : decode cX1_dueAt 11 = .ok (.iconst 0, 1) := dk_3 (dk_at dksX1_dueAt_0 11 rfl rfl)
theorem dX1_dueAt_12 : decode cX1_dueAt 12 = .ok (.istore 5, 2) := dk_54 5 (dk_at dksX1_dueAt_0 12 rfl rfl)
theorem dX1_dueAt_14 : decode cX1_dueAt 14 = .ok (.iload_n 1, 1) := dk_27 (dk_at dksX1_dueAt_0 14 rfl rfl)
theorem dX1_dueAt_15 : decode cX1_dueAt 15 = .ok (.istore 6, 2) := dk_54 6 (dk_at dksX1_dueAt_0 15 rfl rfl)
theorem dX1_dueAt_17 : decode cX1_dueAt 17 = .ok (.iconst 0, 1) := dk_3 (dk_at dksX1_dueAt_0 17 rfl rfl)
theorem dX1_dueAt_18 : decode cX1_dueAt 18 = .ok (.istore 7, 2) := dk_54 7 (dk_at dksX1_dueAt_0 18 rfl rfl)
theorem dX1_dueAt_20 : decode cX1_dueAt 20 = .ok (.iload 7, 2) := dk_21 7 (dk_at dksX1_dueAt_0 20 rfl rfl)
theorem dX1_dueAt_22 : decode cX1_dueAt 22 = .ok (.aload_n 0, 1) := dk_42 (dk_at dksX1_dueAt_0 22 rfl rfl)
theorem dX1_dueAt_23 : decode cX1_dueAt 23 = .ok (.getfield 196, 3) := dk_180 0 196 (dk_at dksX1_dueAt_1 0 rfl rfl)
theorem dX1_dueAt_26 : decode cX1_dueAt 26 = .ok (.if_icmp .ge 73, 3) := dk_162 0 73 (dk_at dksX1_dueAt_1 3 rfl rfl)
theorem dX1_dueAt_29 : decode cX1_dueAt 29 = .ok (.aload_n 0, 1) := dk_42 (dk_at dksX1_dueAt_1 6 rfl rfl)
theorem dX1_dueAt_30 : decode cX1_dueAt 30 = .ok (.getfield 62, 3) := dk_180 0 62 (dk_at dksX1_dueAt_1 7 rfl rfl)
theorem dX1_dueAt_33 : decode cX1_dueAt 33 = .ok (.iload 7, 2) := dk_21 7 (dk_at dksX1_dueAt_1 10 rfl rfl)
theorem dX1_dueAt_35 : decode cX1_dueAt 35 = .ok (.iaload, 1) := dk_46 (dk_at dksX1_dueAt_1 12 rfl rfl)
theorem dX1_dueAt_36 : decode cX1_dueAt 36 = .ok (.iload 4, 2) := dk_21 4 (dk_at dksX1_dueAt_1 13 rfl rfl)
theorem dX1_dueAt_38 : decode cX1_dueAt 38 = .ok (.if_icmp .ne 13, 3) := dk_160 0 13 (dk_at dksX1_dueAt_1 15 rfl rfl)
theorem dX1_dueAt_41 : decode cX1_dueAt 41 = .ok (.aload_n 0, 1) := dk_42 (dk_at dksX1_dueAt_1 18 rfl rfl)
theorem dX1_dueAt_42 : decode cX1_dueAt 42 = .ok (.getfield 65, 3) := dk_180 0 65 (dk_at dksX1_dueAt_1 19 rfl rfl)
theorem dX1_dueAt_45 : decode cX1_dueAt 45 = .ok (.iload 7, 2) := dk_21 7 (dk_at dksX1_dueAt_1 22 rfl rfl)
theorem dX1_dueAt_47 : decode cX1_dueAt 47 = .ok (.iaload, 1) := dk_46 (dk_at dksX1_dueAt_2 0 rfl rfl)
theorem dX1_dueAt_48 : decode cX1_dueAt 48 = .ok (.goto 5, 3) := dk_167 0 5 (dk_at dksX1_dueAt_2 1 rfl rfl)
theorem dX1_dueAt_51 : decode cX1_dueAt 51 = .ok (.iload 5, 2) := dk_21 5 (dk_at dksX1_dueAt_2 4 rfl rfl)
theorem dX1_dueAt_53 : decode cX1_dueAt 53 = .ok (.istore 5, 2) := dk_54 5 (dk_at dksX1_dueAt_2 6 rfl rfl)
theorem dX1_dueAt_55 : decode cX1_dueAt 55 = .ok (.aload_n 0, 1) := dk_42 (dk_at dksX1_dueAt_2 8 rfl rfl)
theorem dX1_dueAt_56 : decode cX1_dueAt 56 = .ok (.getfield 62, 3) := dk_180 0 62 (dk_at dksX1_dueAt_2 9 rfl rfl)
theorem dX1_dueAt_59 : decode cX1_dueAt 59 = .ok (.iload 7, 2) := dk_21 7 (dk_at dksX1_dueAt_2 12 rfl rfl)
theorem dX1_dueAt_61 : decode cX1_dueAt 61 = .ok (.iaload, 1) := dk_46 (dk_at dksX1_dueAt_2 14 rfl rfl)
theorem dX1_dueAt_62 : decode cX1_dueAt 62 = .ok (.iload 4, 2) := dk_21 4 (dk_at dksX1_dueAt_2 15 rfl rfl)
theorem dX1_dueAt_64 : decode cX1_dueAt 64 = .ok (.if_icmp .le 25, 3) := dk_164 0 25 (dk_at dksX1_dueAt_2 17 rfl rfl)
theorem dX1_dueAt_67 : decode cX1_dueAt 67 = .ok (.aload_n 0, 1) := dk_42 (dk_at dksX1_dueAt_2 20 rfl rfl)
theorem dX1_dueAt_68 : decode cX1_dueAt 68 = .ok (.getfield 62, 3) := dk_180 0 62 (dk_at dksX1_dueAt_2 21 rfl rfl)
theorem dX1_dueAt_71 : decode cX1_dueAt 71 = .ok (.iload 7, 2) := dk_21 7 (dk_at dksX1_dueAt_3 0 rfl rfl)
theorem dX1_dueAt_73 : decode cX1_dueAt 73 = .ok (.iaload, 1) := dk_46 (dk_at dksX1_dueAt_3 2 rfl rfl)
theorem dX1_dueAt_74 : decode cX1_dueAt 74 = .ok (.iload 6, 2) := dk_21 6 (dk_at dksX1_dueAt_3 3 rfl rfl)
theorem dX1_dueAt_76 : decode cX1_dueAt 76 = .ok (.if_icmp .ge 13, 3) := dk_162 0 13 (dk_at dksX1_dueAt_3 5 rfl rfl)
theorem dX1_dueAt_79 : decode cX1_dueAt 79 = .ok (.aload_n 0, 1) := dk_42 (dk_at dksX1_dueAt_3 8 rfl rfl)
theorem dX1_dueAt_80 : decode cX1_dueAt 80 = .ok (.getfield 62, 3) := dk_180 0 62 (dk_at dksX1_dueAt_3 9 rfl rfl)
theorem dX1_dueAt_83 : decode cX1_dueAt 83 = .ok (.iload 7, 2) := dk_21 7 (dk_at dksX1_dueAt_3 12 rfl rfl)
theorem dX1_dueAt_85 : decode cX1_dueAt 85 = .ok (.iaload, 1) := dk_46 (dk_at dksX1_dueAt_3 14 rfl rfl)
theorem dX1_dueAt_86 : decode cX1_dueAt 86 = .ok (.goto 5, 3) := dk_167 0 5 (dk_at dksX1_dueAt_3 15 rfl rfl)
theorem dX1_dueAt_89 : decode cX1_dueAt 89 = .ok (.iload 6, 2) := dk_21 6 (dk_at dksX1_dueAt_3 18 rfl rfl)
theorem dX1_dueAt_91 : decode cX1_dueAt 91 = .ok (.istore 6, 2) := dk_54 6 (dk_at dksX1_dueAt_3 20 rfl rfl)
theorem dX1_dueAt_93 : decode cX1_dueAt 93 = .ok (.iinc 7 1, 3) := dk_132 7 1 (dk_at dksX1_dueAt_4 0 rfl rfl)
theorem dX1_dueAt_96 : decode cX1_dueAt 96 = .ok (.goto (-76), 3) := dk_167 255 180 (dk_at dksX1_dueAt_4 3 rfl rfl)
theorem dX1_dueAt_99 : decode cX1_dueAt 99 = .ok (.lload_n 2, 1) := dk_32 (dk_at dksX1_dueAt_4 6 rfl rfl)
theorem dX1_dueAt_100 : decode cX1_dueAt 100 = .ok (.ldc2_w 218, 3) := dk_20 0 218 (dk_at dksX1_dueAt_4 7 rfl rfl)
theorem dX1_dueAt_103 : decode cX1_dueAt 103 = .ok (.iload 6, 2) := dk_21 6 (dk_at dksX1_dueAt_4 10 rfl rfl)
theorem dX1_dueAt_105 : decode cX1_dueAt 105 = .ok (.iload 4, 2) := dk_21 4 (dk_at dksX1_dueAt_4 12 rfl rfl)
theorem dX1_dueAt_107 : decode cX1_dueAt 107 = .ok (.isub, 1) := dk_100 (dk_at dksX1_dueAt_4 14 rfl rfl)
theorem dX1_dueAt_108 : decode cX1_dueAt 108 = .ok (.i2l, 1) := dk_133 (dk_at dksX1_dueAt_4 15 rfl rfl)
theorem dX1_dueAt_109 : decode cX1_dueAt 109 = .ok (.lmul, 1) := dk_105 (dk_at dksX1_dueAt_4 16 rfl rfl)
theorem dX1_dueAt_110 : decode cX1_dueAt 110 = .ok (.iload 5, 2) := dk_21 5 (dk_at dksX1_dueAt_4 17 rfl rfl)
theorem dX1_dueAt_112 : decode cX1_dueAt 112 = .ok (.i2l, 1) := dk_133 (dk_at dksX1_dueAt_4 19 rfl rfl)
theorem dX1_dueAt_113 : decode cX1_dueAt 113 = .ok (.ldiv, 1) := dk_109 (dk_at dksX1_dueAt_4 20 rfl rfl)
theorem dX1_dueAt_114 : decode cX1_dueAt 114 = .ok (.ladd, 1) := dk_97 (dk_at dksX1_dueAt_4 21 rfl rfl)
theorem dX1_dueAt_115 : decode cX1_dueAt 115 = .ok (.lstore_n 2, 1) := dk_65 (dk_at dksX1_dueAt_4 22 rfl rfl)
theorem dX1_dueAt_116 : decode cX1_dueAt 116 = .ok (.iload 6, 2) := dk_21 6 (dk_at dksX1_dueAt_5 0 rfl rfl)
theorem dX1_dueAt_118 : decode cX1_dueAt 118 = .ok (.istore 4, 2) := dk_54 4 (dk_at dksX1_dueAt_5 2 rfl rfl)
theorem dX1_dueAt_120 : decode cX1_dueAt 120 = .ok (.goto (-115), 3) := dk_167 255 141 (dk_at dksX1_dueAt_5 4 rfl rfl)
theorem dX1_dueAt_123 : decode cX1_dueAt 123 = .ok (.lload_n 2, 1) := dk_32 (dk_at dksX1_dueAt_5 7 rfl rfl)
theorem dX1_dueAt_124 : decode cX1_dueAt 124 = .ok (.lreturn, 1) := dk_173 (dk_at dksX1_dueAt_5 8 rfl rfl)
abbrev cX1_roadAt : ByteArray := prog_12_method_38_code
def yX1_roadAt : MethodName := ⟨RX1, "roadAt", "(I)I"⟩
def dkwX1_roadAt_3 : List UInt8 := [180, 0, 59, 42, 180, 0, 95, 4, 100, 46, 172]
abbrev dktX1_roadAt_3 : List UInt8 := dkwX1_roadAt_3 ++ []
def dkwX1_roadAt_2 : List UInt8 := [29, 46, 46, 96, 61, 27, 28, 162, 0, 10, 42, 180, 0, 59, 29, 46, 172, 132, 3, 1, 167, 255, 219, 42]
abbrev dktX1_roadAt_2 : List UInt8 := dkwX1_roadAt_2 ++ dktX1_roadAt_3
def dkwX1_roadAt_1 : List UInt8 := [16, 254, 172, 3, 61, 3, 62, 29, 42, 180, 0, 95, 162, 0, 35, 28, 42, 180, 0, 16, 42, 180, 0, 59]
abbrev dktX1_roadAt_1 : List UInt8 := dkwX1_roadAt_1 ++ dktX1_roadAt_2
def dkwX1_roadAt_0 : List UInt8 := [42, 180, 0, 95, 154, 0, 6, 16, 253, 172, 27, 133, 9, 42, 180, 0, 193, 133, 184, 0, 111, 154, 0, 6]
abbrev dktX1_roadAt_0 : List UInt8 := dkwX1_roadAt_0 ++ dktX1_roadAt_1
theorem dksX1_roadAt_0 : cX1_roadAt.data.toList.drop 0 = dktX1_roadAt_0 := by decide +kernel
theorem dksX1_roadAt_1 : cX1_roadAt.data.toList.drop 24 = dktX1_roadAt_1 := dk_seg dksX1_roadAt_0 24 rfl rfl
theorem dksX1_roadAt_2 : cX1_roadAt.data.toList.drop 48 = dktX1_roadAt_2 := dk_seg dksX1_roadAt_1 24 rfl rfl
theorem dksX1_roadAt_3 : cX1_roadAt.data.toList.drop 72 = dktX1_roadAt_3 := dk_seg dksX1_roadAt_2 24 rfl rfl
theorem dX1_roadAt_0 : decode cX1_roadAt 0 = .ok (.aload_n 0, 1) := dk_42 (dk_at dksX1_roadAt_0 0 rfl rfl)
theorem dX1_roadAt_1 : decode cX1_roadAt 1 = .ok (.getfield 95, 3) := dk_180 0 95 (dk_at dksX1_roadAt_0 1 rfl rfl)
theorem dX1_roadAt_4 : decode cX1_roadAt 4 = .ok (.ifCond .ne 6, 3) := dk_154 0 6 (dk_at dksX1_roadAt_0 4 rfl rfl)
theorem dX1_roadAt_7 : decode cX1_roadAt 7 = .ok (.bipush (-3), 2) := dk_16 253 (dk_at dksX1_roadAt_0 7 rfl rfl)
theorem dX1_roadAt_9 : decode cX1_roadAt 9 = .ok (.ireturn, 1) := dk_172 (dk_at dksX1_roadAt_0 9 rfl rfl)
theorem dX1_roadAt_10 : decode cX1_roadAt 10 = .ok (.iload_n 1, 1) := dk_27 (dk_at dksX1_roadAt_0 10 rfl rfl)
theorem dX1_roadAt_11 : decode cX1_roadAt 11 = .ok (.i2l, 1) := dk_133 (dk_at dksX1_roadAt_0 11 rfl rfl)
theorem dX1_roadAt_12 : decode cX1_roadAt 12 = .ok (.lconst 0, 1) := dk_9 (dk_at dksX1_roadAt_0 12 rfl rfl)
theorem dX1_roadAt_13 : decode cX1_roadAt 13 = .ok (.aload_n 0, 1) := dk_42 (dk_at dksX1_roadAt_0 13 rfl rfl)
theorem dX1_roadAt_14 : decode cX1_roadAt 14 = .ok (.getfield 193, 3) := dk_180 0 193 (dk_at dksX1_roadAt_0 14 rfl rfl)
theorem dX1_roadAt_17 : decode cX1_roadAt 17 = .ok (.i2l, 1) := dk_133 (dk_at dksX1_roadAt_0 17 rfl rfl)
theorem dX1_roadAt_18 : decode cX1_roadAt 18 = .ok (.invokestatic 111, 3) := dk_184 0 111 (dk_at dksX1_roadAt_0 18 rfl rfl)
theorem dX1_roadAt_21 : decode cX1_roadAt 21 = .ok (.ifCond .ne 6, 3) := dk_154 0 6 (dk_at dksX1_roadAt_0 21 rfl rfl)
theorem dX1_roadAt_24 : decode cX1_roadAt 24 = .ok (.bipush (-2), 2) := dk_16 254 (dk_at dksX1_roadAt_1 0 rfl rfl)
theorem dX1_roadAt_26 : decode cX1_roadAt 26 = .ok (.ireturn, 1) := dk_172 (dk_at dksX1_roadAt_1 2 rfl rfl)
theorem dX1_roadAt_27 : decode cX1_roadAt 27 = .ok (.iconst 0, 1) := dk_3 (dk_at dksX1_roadAt_1 3 rfl rfl)
theorem dX1_roadAt_28 : decode cX1_roadAt 28 = .ok (.istore_n 2, 1) := dk_61 (dk_at dksX1_roadAt_1 4 rfl rfl)
theorem dX1_roadAt_29 : decode cX1_roadAt 29 = .ok (.iconst 0, 1) := dk_3 (dk_at dksX1_roadAt_1 5 rfl rfl)
theorem dX1_roadAt_30 : decode cX1_roadAt 30 = .ok (.istore_n 3, 1) := dk_62 (dk_at dksX1_roadAt_1 6 rfl rfl)
theorem dX1_roadAt_31 : decode cX1_roadAt 31 = .ok (.iload_n 3, 1) := dk_29 (dk_at dksX1_roadAt_1 7 rfl rfl)
theorem dX1_roadAt_32 : decode cX1_roadAt 32 = .ok (.aload_n 0, 1) := dk_42 (dk_at dksX1_roadAt_1 8 rfl rfl)
theorem dX1_roadAt_33 : decode cX1_roadAt 33 = .ok (.getfield 95, 3) := dk_180 0 95 (dk_at dksX1_roadAt_1 9 rfl rfl)
theorem dX1_roadAt_36 : decode cX1_roadAt 36 = .ok (.if_icmp .ge 35, 3) := dk_162 0 35 (dk_at dksX1_roadAt_1 12 rfl rfl)
theorem dX1_roadAt_39 : decode cX1_roadAt 39 = .ok (.iload_n 2, 1) := dk_28 (dk_at dksX1_roadAt_1 15 rfl rfl)
theorem dX1_roadAt_40 : decode cX1_roadAt 40 = .ok (.aload_n 0, 1) := dk_42 (dk_at dksX1_roadAt_1 16 rfl rfl)
theorem dX1_roadAt_41 : decode cX1_roadAt 41 = .ok (.getfield 16, 3) := dk_180 0 16 (dk_at dksX1_roadAt_1 17 rfl rfl)
theorem dX1_roadAt_44 : decode cX1_roadAt 44 = .ok (.aload_n 0, 1) := dk_42 (dk_at dksX1_roadAt_1 20 rfl rfl)
theorem dX1_roadAt_45 : decode cX1_roadAt 45 = .ok (.getfield 59, 3) := dk_180 0 59 (dk_at dksX1_roadAt_1 21 rfl rfl)
theorem dX1_roadAt_48 : decode cX1_roadAt 48 = .ok (.iload_n 3, 1) := dk_29 (dk_at dksX1_roadAt_2 0 rfl rfl)
theorem dX1_roadAt_49 : decode cX1_roadAt 49 = .ok (.iaload, 1) := dk_46 (dk_at dksX1_roadAt_2 1 rfl rfl)
theorem dX1_roadAt_50 : decode cX1_roadAt 50 = .ok (.iaload, 1) := dk_46 (dk_at dksX1_roadAt_2 2 rfl rfl)
theorem dX1_roadAt_51 : decode cX1_roadAt 51 = .ok (.iadd, 1) := dk_96 (dk_at dksX1_roadAt_2 3 rfl rfl)
theorem dX1_roadAt_52 : decode cX1_roadAt 52 = .ok (.istore_n 2, 1) := dk_61 (dk_at dksX1_roadAt_2 4 rfl rfl)
theorem dX1_roadAt_53 : decode cX1_roadAt 53 = .ok (.iload_n 1, 1) := dk_27 (dk_at dksX1_roadAt_2 5 rfl rfl)
theorem dX1_roadAt_54 : decode cX1_roadAt 54 = .ok (.iload_n 2, 1) := dk_28 (dk_at dksX1_roadAt_2 6 rfl rfl)
theorem dX1_roadAt_55 : decode cX1_roadAt 55 = .ok (.if_icmp .ge 10, 3) := dk_162 0 10 (dk_at dksX1_roadAt_2 7 rfl rfl)
theorem dX1_roadAt_58 : decode cX1_roadAt 58 = .ok (.aload_n 0, 1) := dk_42 (dk_at dksX1_roadAt_2 10 rfl rfl)
theorem dX1_roadAt_59 : decode cX1_roadAt 59 = .ok (.getfield 59, 3) := dk_180 0 59 (dk_at dksX1_roadAt_2 11 rfl rfl)
theorem dX1_roadAt_62 : decode cX1_roadAt 62 = .ok (.iload_n 3, 1) := dk_29 (dk_at dksX1_roadAt_2 14 rfl rfl)
theorem dX1_roadAt_63 : decode cX1_roadAt 63 = .ok (.iaload, 1) := dk_46 (dk_at dksX1_roadAt_2 15 rfl rfl)
theorem dX1_roadAt_64 : decode cX1_roadAt 64 = .ok (.ireturn, 1) := dk_172 (dk_at dksX1_roadAt_2 16 rfl rfl)
theorem dX1_roadAt_65 : decode cX1_roadAt 65 = .ok (.iinc 3 1, 3) := dk_132 3 1 (dk_at dksX1_roadAt_2 17 rfl rfl)
theorem dX1_roadAt_68 : decode cX1_roadAt 68 = .ok (.goto (-37), 3) := dk_167 255 219 (dk_at dksX1_roadAt_2 20 rfl rfl)
theorem dX1_roadAt_71 : decode cX1_roadAt 71 = .ok (.aload_n 0, 1) := dk_42 (dk_at dksX1_roadAt_2 23 rfl rfl)
theorem dX1_roadAt_72 : decode cX1_roadAt 72 = .ok (.getfield 59, 3) := dk_180 0 59 (dk_at dksX1_roadAt_3 0 rfl rfl)
theorem dX1_roadAt_75 : decode cX1_roadAt 75 = .ok (.aload_n 0, 1) := dk_42 (dk_at dksX1_roadAt_3 3 rfl rfl)
theorem dX1_roadAt_76 : decode cX1_roadAt 76 = .ok (.getfield 95, 3) := dk_180 0 95 (dk_at dksX1_roadAt_3 4 rfl rfl)
theorem dX1_roadAt_79 : decode cX1_roadAt 79 = .ok (.iconst 1, 1) := dk_4 (dk_at dksX1_roadAt_3 7 rfl rfl)
theorem dX1_roadAt_80 : decode cX1_roadAt 80 = .ok (.isub, 1) := dk_100 (dk_at dksX1_roadAt_3 8 rfl rfl)
theorem dX1_roadAt_81 : decode cX1_roadAt 81 = .ok (.iaload, 1) := dk_46 (dk_at dksX1_roadAt_3 9 rfl rfl)
theorem dX1_roadAt_82 : decode cX1_roadAt 82 = .ok (.ireturn, 1) := dk_172 (dk_at dksX1_roadAt_3 10 rfl rfl)
abbrev cX1_control : ByteArray := prog_12_method_40_code
def yX1_control : MethodName := ⟨RX1, "control", "(I)I"⟩
def dkwX1_control_4 : List UInt8 := [180, 0, 199, 3, 84, 42, 89, 180, 0, 199, 4, 96, 181, 0, 199, 42, 180, 0, 199, 4, 100, 172]
abbrev dktX1_control_4 : List UInt8 := dkwX1_control_4 ++ []
def dkwX1_control_3 : List UInt8 := [180, 0, 68, 42, 180, 0, 199, 27, 79, 42, 180, 0, 71, 42, 180, 0, 199, 3, 84, 42, 180, 0, 74, 42]
abbrev dktX1_control_3 : List UInt8 := dkwX1_control_3 ++ dktX1_control_4
def dkwX1_control_2 : List UInt8 := [16, 253, 172, 132, 2, 1, 167, 255, 232, 42, 180, 0, 199, 16, 8, 160, 0, 6, 16, 252, 172, 42]
abbrev dktX1_control_2 : List UInt8 := dkwX1_control_2 ++ dktX1_control_3
def dkwX1_control_1 : List UInt8 := [16, 254, 172, 3, 61, 28, 42, 180, 0, 199, 162, 0, 22, 42, 180, 0, 68, 28, 46, 27, 160, 0, 6]
abbrev dktX1_control_1 : List UInt8 := dkwX1_control_1 ++ dktX1_control_2
def dkwX1_control_0 : List UInt8 := [42, 180, 0, 95, 154, 0, 6, 16, 253, 172, 27, 133, 10, 42, 180, 0, 193, 133, 184, 0, 111, 154, 0, 6]
abbrev dktX1_control_0 : List UInt8 := dkwX1_control_0 ++ dktX1_control_1
theorem dksX1_control_0 : cX1_control.data.toList.drop 0 = dktX1_control_0 := by decide +kernel
theorem dksX1_control_1 : cX1_control.data.toList.drop 24 = dktX1_control_1 := dk_seg dksX1_control_0 24 rfl rfl
theorem dksX1_control_2 : cX1_control.data.toList.drop 47 = dktX1_control_2 := dk_seg dksX1_control_1 23 rfl rfl
theorem dksX1_control_3 : cX1_control.data.toList.drop 69 = dktX1_control_3 := dk_seg dksX1_control_2 22 rfl rfl
theorem dksX1_control_4 : cX1_control.data.toList.drop 93 = dktX1_control_4 := dk_seg dksX1_control_3 24 rfl rfl
theorem dX1_control_0 : decode cX1_control 0 = .ok (.aload_n 0, 1) := dk_42 (dk_at dksX1_control_0 0 rfl rfl)
theorem dX1_control_1 : decode cX1_control 1 = .ok (.getfield 95, 3) := dk_180 0 95 (dk_at dksX1_control_0 1 rfl rfl)
theorem dX1_control_4 : decode cX1_control 4 = .ok (.ifCond .ne 6, 3) := dk_154 0 6 (dk_at dksX1_control_0 4 rfl rfl)
theorem dX1_control_7 : decode cX1_control 7 = .ok (.bipush (-3), 2) := dk_16 253 (dk_at dksX1_control_0 7 rfl rfl)
theorem dX1_control_9 : decode cX1_control 9 = .ok (.ireturn, 1) := dk_172 (dk_at dksX1_control_0 9 rfl rfl)
theorem dX1_control_10 : decode cX1_control 10 = .ok (.iload_n 1, 1) := dk_27 (dk_at dksX1_control_0 10 rfl rfl)
theorem dX1_control_11 : decode cX1_control 11 = .ok (.i2l, 1) := dk_133 (dk_at dksX1_control_0 11 rfl rfl)
theorem dX1_control_12 : decode cX1_control 12 = .ok (.lconst 1, 1) := dk_10 (dk_at dksX1_control_0 12 rfl rfl)
theorem dX1_control_13 : decode cX1_control 13 = .ok (.aload_n 0, 1) := dk_42 (dk_at dksX1_control_0 13 rfl rfl)
theorem dX1_control_14 : decode cX1_control 14 = .ok (.getfield 193, 3) := dk_180 0 193 (dk_at dksX1_control_0 14 rfl rfl)
theorem dX1_control_17 : decode cX1_control 17 = .ok (.i2l, 1) := dk_133 (dk_at dksX1_control_0 17 rfl rfl)
theorem dX1_control_18 : decode cX1_control 18 = .ok (.invokestatic 111, 3) := dk_184 0 111 (dk_at dksX1_control_0 18 rfl rfl)
theorem dX1_control_21 : decode cX1_control 21 = .ok (.ifCond .ne 6, 3) := dk_154 0 6 (dk_at dksX1_control_0 21 rfl rfl)
theorem dX1_control_24 : decode cX1_control 24 = .ok (.bipush (-2), 2) := dk_16 254 (dk_at dksX1_control_1 0 rfl rfl)
theorem dX1_control_26 : decode cX1_control 26 = .ok (.ireturn, 1) := dk_172 (dk_at dksX1_control_1 2 rfl rfl)
theorem dX1_control_27 : decode cX1_control 27 = .ok (.iconst 0, 1) := dk_3 (dk_at dksX1_control_1 3 rfl rfl)
theorem dX1_control_28 : decode cX1_control 28 = .ok (.istore_n 2, 1) := dk_61 (dk_at dksX1_control_1 4 rfl rfl)
theorem dX1_control_29 : decode cX1_control 29 = .ok (.iload_n 2, 1) := dk_28 (dk_at dksX1_control_1 5 rfl rfl)
theorem dX1_control_30 : decode cX1_control 30 = .ok (.aload_n 0, 1) := dk_42 (dk_at dksX1_control_1 6 rfl rfl)
theorem dX1_control_31 : decode cX1_control 31 = .ok (.getfield 199, 3) := dk_180 0 199 (dk_at dksX1_control_1 7 rfl rfl)
theorem dX1_control_34 : decode cX1_control 34 = .ok (.if_icmp .ge 22, 3) := dk_162 0 22 (dk_at dksX1_control_1 10 rfl rfl)
theorem dX1_control_37 : decode cX1_control 37 = .ok (.aload_n 0, 1) := dk_42 (dk_at dksX1_control_1 13 rfl rfl)
theorem dX1_control_38 : decode cX1_control 38 = .ok (.getfield 68, 3) := dk_180 0 68 (dk_at dksX1_control_1 14 rfl rfl)
theorem dX1_control_41 : decode cX1_control 41 = .ok (.iload_n 2, 1) := dk_28 (dk_at dksX1_control_1 17 rfl rfl)
theorem dX1_control_42 : decode cX1_control 42 = .ok (.iaload, 1) := dk_46 (dk_at dksX1_control_1 18 rfl rfl)
theorem dX1_control_43 : decode cX1_control 43 = .ok (.iload_n 1, 1) := dk_27 (dk_at dksX1_control_1 19 rfl rfl)
theorem dX1_control_44 : decode cX1_control 44 = .ok (.if_icmp .ne 6, 3) := dk_160 0 6 (dk_at dksX1_control_1 20 rfl rfl)
theorem dX1_control_47 : decode cX1_control 47 = .ok (.bipush (-3), 2) := dk_16 253 (dk_at dksX1_control_2 0 rfl rfl)
theorem dX1_control_49 : decode cX1_control 49 = .ok (.ireturn, 1) := dk_172 (dk_at dksX1_control_2 2 rfl rfl)
theorem dX1_control_50 : decode cX1_control 50 = .ok (.iinc 2 1, 3) := dk_132 2 1 (dk_at dksX1_control_2 3 rfl rfl)
theorem dX1_control_53 : decode cX1_control 53 = .ok (.goto (-24), 3) := dk_167 255 232 (dk_at dksX1_control_2 6 rfl rfl)
theorem dX1_control_56 : decode cX1_control 56 = .ok (.aload_n 0, 1) := dk_42 (dk_at dksX1_control_2 9 rfl rfl)
theorem dX1_control_57 : decode cX1_control 57 = .ok (.getfield 199, 3) := dk_180 0 199 (dk_at dksX1_control_2 10 rfl rfl)
theorem dX1_control_60 : decode cX1_control 60 = .ok (.bipush 8, 2) := dk_16 8 (dk_at dksX1_control_2 13 rfl rfl)
theorem dX1_control_62 : decode cX1_control 62 = .ok (.if_icmp .ne 6, 3) := dk_160 0 6 (dk_at dksX1_control_2 15 rfl rfl)
theorem dX1_control_65 : decode cX1_control 65 = .ok (.bipush (-4), 2) := dk_16 252 (dk_at dksX1_control_2 18 rfl rfl)
theorem dX1_control_67 : decode cX1_control 67 = .ok (.ireturn, 1) := dk_172 (dk_at dksX1_control_2 20 rfl rfl)
theorem dX1_control_68 : decode cX1_control 68 = .ok (.aload_n 0, 1) := dk_42 (dk_at dksX1_control_2 21 rfl rfl)
theorem dX1_control_69 : decode cX1_control 69 = .ok (.getfield 68, 3) := dk_180 0 68 (dk_at dksX1_control_3 0 rfl rfl)
theorem dX1_control_72 : decode cX1_control 72 = .ok (.aload_n 0, 1) := dk_42 (dk_at dksX1_control_3 3 rfl rfl)
theorem dX1_control_73 : decode cX1_control 73 = .ok (.getfield 199, 3) := dk_180 0 199 (dk_at dksX1_control_3 4 rfl rfl)
theorem dX1_control_76 : decode cX1_control 76 = .ok (.iload_n 1, 1) := dk_27 (dk_at dksX1_control_3 7 rfl rfl)
theorem dX1_control_77 : decode cX1_control 77 = .ok (.iastore, 1) := dk_79 (dk_at dksX1_control_3 8 rfl rfl)
theorem dX1_control_78 : decode cX1_control 78 = .ok (.aload_n 0, 1) := dk_42 (dk_at dksX1_control_3 9 rfl rfl)
theorem dX1_control_79 : decode cX1_control 79 = .ok (.getfield 71, 3) := dk_180 0 71 (dk_at dksX1_control_3 10 rfl rfl)
theorem dX1_control_82 : decode cX1_control 82 = .ok (.aload_n 0, 1) := dk_42 (dk_at dksX1_control_3 13 rfl rfl)
theorem dX1_control_83 : decode cX1_control 83 = .ok (.getfield 199, 3) := dk_180 0 199 (dk_at dksX1_control_3 14 rfl rfl)
theorem dX1_control_86 : decode cX1_control 86 = .ok (.iconst 0, 1) := dk_3 (dk_at dksX1_control_3 17 rfl rfl)
theorem dX1_control_87 : decode cX1_control 87 = .ok (.bastore, 1) := dk_84 (dk_at dksX1_control_3 18 rfl rfl)
theorem dX1_control_88 : decode cX1_control 88 = .ok (.aload_n 0, 1) := dk_42 (dk_at dksX1_control_3 19 rfl rfl)
theorem dX1_control_89 : decode cX1_control 89 = .ok (.getfield 74, 3) := dk_180 0 74 (dk_at dksX1_control_3 20 rfl rfl)
theorem dX1_control_92 : decode cX1_control 92 = .ok (.aload_n 0, 1) := dk_42 (dk_at dksX1_control_3 23 rfl rfl)
theorem dX1_control_93 : decode cX1_control 93 = .ok (.getfield 199, 3) := dk_180 0 199 (dk_at dksX1_control_4 0 rfl rfl)
theorem dX1_control_96 : decode cX1_control 96 = .ok (.iconst 0, 1) := dk_3 (dk_at dksX1_control_4 3 rfl rfl)
theorem dX1_control_97 : decode cX1_control 97 = .ok (.bastore, 1) := dk_84 (dk_at dksX1_control_4 4 rfl rfl)
theorem dX1_control_98 : decode cX1_control 98 = .ok (.aload_n 0, 1) := dk_42 (dk_at dksX1_control_4 5 rfl rfl)
theorem dX1_control_99 : decode cX1_control 99 = .ok (.dup, 1) := dk_89 (dk_at dksX1_control_4 6 rfl rfl)
theorem dX1_control_100 : decode cX1_control 100 = .ok (.getfield 199, 3) := dk_180 0 199 (dk_at dksX1_control_4 7 rfl rfl)
theorem dX1_control_103 : decode cX1_control 103 = .ok (.iconst 1, 1) := dk_4 (dk_at dksX1_control_4 10 rfl rfl)
theorem dX1_control_104 : decode cX1_control 104 = .ok (.iadd, 1) := dk_96 (dk_at dksX1_control_4 11 rfl rfl)
theorem dX1_control_105 : decode cX1_control 105 = .ok (.putfield 199, 3) := dk_181 0 199 (dk_at dksX1_control_4 12 rfl rfl)
theorem dX1_control_108 : decode cX1_control 108 = .ok (.aload_n 0, 1) := dk_42 (dk_at dksX1_control_4 15 rfl rfl)
theorem dX1_control_109 : decode cX1_control 109 = .ok (.getfield 199, 3) := dk_180 0 199 (dk_at dksX1_control_4 16 rfl rfl)
theorem dX1_control_112 : decode cX1_control 112 = .ok (.iconst 1, 1) := dk_4 (dk_at dksX1_control_4 19 rfl rfl)
theorem dX1_control_113 : decode cX1_control 113 = .ok (.isub, 1) := dk_100 (dk_at dksX1_control_4 20 rfl rfl)
theorem dX1_control_114 : decode cX1_control 114 = .ok (.ireturn, 1) := dk_172 (dk_at dksX1_control_4 21 rfl rfl)
abbrev cX1_watch : ByteArray := prog_12_method_42_code
def yX1_watch : MethodName := ⟨RX1, "watch", "(IIIII)I"⟩
def dkwX1_watch_4 : List UInt8 := [180, 0, 77, 7, 27, 104, 6, 96, 21, 5, 79, 4, 172]
abbrev dktX1_watch_4 : List UInt8 := dkwX1_watch_4 ++ []
def dkwX1_watch_3 : List UInt8 := [42, 180, 0, 77, 7, 27, 104, 4, 96, 29, 79, 42, 180, 0, 77, 7, 27, 104, 5, 96, 21, 4, 79, 42]
abbrev dktX1_watch_3 : List UInt8 := dkwX1_watch_3 ++ dktX1_watch_4
def dkwX1_watch_2 : List UInt8 := [21, 5, 161, 0, 6, 16, 254, 172, 42, 180, 0, 74, 27, 4, 84, 42, 180, 0, 77, 7, 27, 104, 28, 79]
abbrev dktX1_watch_2 : List UInt8 := dkwX1_watch_2 ++ dktX1_watch_3
def dkwX1_watch_1 : List UInt8 := [21, 4, 184, 0, 231, 153, 0, 23, 21, 5, 184, 0, 231, 153, 0, 15, 28, 29, 162, 0, 10, 21, 4]
abbrev dktX1_watch_1 : List UInt8 := dkwX1_watch_1 ++ dktX1_watch_2
def dkwX1_watch_0 : List UInt8 := [42, 27, 182, 0, 228, 153, 0, 5, 2, 172, 28, 184, 0, 231, 153, 0, 38, 29, 184, 0, 231, 153, 0, 31]
abbrev dktX1_watch_0 : List UInt8 := dkwX1_watch_0 ++ dktX1_watch_1
theorem dksX1_watch_0 : cX1_watch.data.toList.drop 0 = dktX1_watch_0 := by decide +kernel
theorem dksX1_watch_1 : cX1_watch.data.toList.drop 24 = dktX1_watch_1 := dk_seg dksX1_watch_0 24 rfl rfl
theorem dksX1_watch_2 : cX1_watch.data.toList.drop 47 = dktX1_watch_2 := dk_seg dksX1_watch_1 23 rfl rfl
theorem dksX1_watch_3 : cX1_watch.data.toList.drop 71 = dktX1_watch_3 := dk_seg dksX1_watch_2 24 rfl rfl
theorem dksX1_watch_4 : cX1_watch.data.toList.drop 95 = dktX1_watch_4 := dk_seg dksX1_watch_3 24 rfl rfl
theorem dX1_watch_0 : decode cX1_watch 0 = .ok (.aload_n 0, 1) := dk_42 (dk_at dksX1_watch_0 0 rfl rfl)
theorem dX1_watch_1 : decode cX1_watch 1 = .ok (.iload_n 1, 1) := dk_27 (dk_at dksX1_watch_0 1 rfl rfl)
theorem dX1_watch_2 : decode cX1_watch 2 = .ok (.invokevirtual 228, 3) := dk_182 0 228 (dk_at dksX1_watch_0 2 rfl rfl)
theorem dX1_watch_5 : decode cX1_watch 5 = .ok (.ifCond .eq 5, 3) := dk_153 0 5 (dk_at dksX1_watch_0 5 rfl rfl)
theorem dX1_watch_8 : decode cX1_watch 8 = .ok (.iconst (-1), 1) := dk_2 (dk_at dksX1_watch_0 8 rfl rfl)
theorem dX1_watch_9 : decode cX1_watch 9 = .ok (.ireturn, 1) := dk_172 (dk_at dksX1_watch_0 9 rfl rfl)
theorem dX1_watch_10 : decode cX1_watch 10 = .ok (.iload_n 2, 1) := dk_28 (dk_at dksX1_watch_0 10 rfl rfl)
theorem dX1_watch_11 : decode cX1_watch 11 = .ok (.invokestatic 231, 3) := dk_184 0 231 (dk_at dksX1_watch_0 11 rfl rfl)
theorem dX1_watch_14 : decode cX1_watch 14 = .ok (.ifCond .eq 38, 3) := dk_153 0 38 (dk_at dksX1_watch_0 14 rfl rfl)
theorem dX1_watch_17 : decode cX1_watch 17 = .ok (.iload_n 3, 1) := dk_29 (dk_at dksX1_watch_0 17 rfl rfl)
theorem dX1_watch_18 : decode cX1_watch 18 = .ok (.invokestatic 231, 3) := dk_184 0 231 (dk_at dksX1_watch_0 18 rfl rfl)
theorem dX1_watch_21 : decode cX1_watch 21 = .ok (.ifCond .eq 31, 3) := dk_153 0 31 (dk_at dksX1_watch_0 21 rfl rfl)
theorem dX1_watch_24 : decode cX1_watch 24 = .ok (.iload 4, 2) := dk_21 4 (dk_at dksX1_watch_1 0 rfl rfl)
theorem dX1_watch_26 : decode cX1_watch 26 = .ok (.invokestatic 231, 3) := dk_184 0 231 (dk_at dksX1_watch_1 2 rfl rfl)
theorem dX1_watch_29 : decode cX1_watch 29 = .ok (.ifCond .eq 23, 3) := dk_153 0 23 (dk_at dksX1_watch_1 5 rfl rfl)
theorem dX1_watch_32 : decode cX1_watch 32 = .ok (.iload 5, 2) := dk_21 5 (dk_at dksX1_watch_1 8 rfl rfl)
theorem dX1_watch_34 : decode cX1_watch 34 = .ok (.invokestatic 231, 3) := dk_184 0 231 (dk_at dksX1_watch_1 10 rfl rfl)
theorem dX1_watch_37 : decode cX1_watch 37 = .ok (.ifCond .eq 15, 3) := dk_153 0 15 (dk_at dksX1_watch_1 13 rfl rfl)
theorem dX1_watch_40 : decode cX1_watch 40 = .ok (.iload_n 2, 1) := dk_28 (dk_at dksX1_watch_1 16 rfl rfl)
theorem dX1_watch_41 : decode cX1_watch 41 = .ok (.iload_n 3, 1) := dk_29 (dk_at dksX1_watch_1 17 rfl rfl)
theorem dX1_watch_42 : decode cX1_watch 42 = .ok (.if_icmp .ge 10, 3) := dk_162 0 10 (dk_at dksX1_watch_1 18 rfl rfl)
theorem dX1_watch_45 : decode cX1_watch 45 = .ok (.iload 4, 2) := dk_21 4 (dk_at dksX1_watch_1 21 rfl rfl)
theorem dX1_watch_47 : decode cX1_watch 47 = .ok (.iload 5, 2) := dk_21 5 (dk_at dksX1_watch_2 0 rfl rfl)
theorem dX1_watch_49 : decode cX1_watch 49 = .ok (.if_icmp .lt 6, 3) := dk_161 0 6 (dk_at dksX1_watch_2 2 rfl rfl)
theorem dX1_watch_52 : decode cX1_watch 52 = .ok (.bipush (-2), 2) := dk_16 254 (dk_at dksX1_watch_2 5 rfl rfl)
theorem dX1_watch_54 : decode cX1_watch 54 = .ok (.ireturn, 1) := dk_172 (dk_at dksX1_watch_2 7 rfl rfl)
theorem dX1_watch_55 : decode cX1_watch 55 = .ok (.aload_n 0, 1) := dk_42 (dk_at dksX1_watch_2 8 rfl rfl)
theorem dX1_watch_56 : decode cX1_watch 56 = .ok (.getfield 74, 3) := dk_180 0 74 (dk_at dksX1_watch_2 9 rfl rfl)
theorem dX1_watch_59 : decode cX1_watch 59 = .ok (.iload_n 1, 1) := dk_27 (dk_at dksX1_watch_2 12 rfl rfl)
theorem dX1_watch_60 : decode cX1_watch 60 = .ok (.iconst 1, 1) := dk_4 (dk_at dksX1_watch_2 13 rfl rfl)
theorem dX1_watch_61 : decode cX1_watch 61 = .ok (.bastore, 1) := dk_84 (dk_at dksX1_watch_2 14 rfl rfl)
theorem dX1_watch_62 : decode cX1_watch 62 = .ok (.aload_n 0, 1) := dk_42 (dk_at dksX1_watch_2 15 rfl rfl)
theorem dX1_watch_63 : decode cX1_watch 63 = .ok (.getfield 77, 3) := dk_180 0 77 (dk_at dksX1_watch_2 16 rfl rfl)
theorem dX1_watch_66 : decode cX1_watch 66 = .ok (.iconst 4, 1) := dk_7 (dk_at dksX1_watch_2 19 rfl rfl)
theorem dX1_watch_67 : decode cX1_watch 67 = .ok (.iload_n 1, 1) := dk_27 (dk_at dksX1_watch_2 20 rfl rfl)
theorem dX1_watch_68 : decode cX1_watch 68 = .ok (.imul, 1) := dk_104 (dk_at dksX1_watch_2 21 rfl rfl)
theorem dX1_watch_69 : decode cX1_watch 69 = .ok (.iload_n 2, 1) := dk_28 (dk_at dksX1_watch_2 22 rfl rfl)
theorem dX1_watch_70 : decode cX1_watch 70 = .ok (.iastore, 1) := dk_79 (dk_at dksX1_watch_2 23 rfl rfl)
theorem dX1_watch_71 : decode cX1_watch 71 = .ok (.aload_n 0, 1) := dk_42 (dk_at dksX1_watch_3 0 rfl rfl)
theorem dX1_watch_72 : decode cX1_watch 72 = .ok (.getfield 77, 3) := dk_180 0 77 (dk_at dksX1_watch_3 1 rfl rfl)
theorem dX1_watch_75 : decode cX1_watch 75 = .ok (.iconst 4, 1) := dk_7 (dk_at dksX1_watch_3 4 rfl rfl)
theorem dX1_watch_76 : decode cX1_watch 76 = .ok (.iload_n 1, 1) := dk_27 (dk_at dksX1_watch_3 5 rfl rfl)
theorem dX1_watch_77 : decode cX1_watch 77 = .ok (.imul, 1) := dk_104 (dk_at dksX1_watch_3 6 rfl rfl)
theorem dX1_watch_78 : decode cX1_watch 78 = .ok (.iconst 1, 1) := dk_4 (dk_at dksX1_watch_3 7 rfl rfl)
theorem dX1_watch_79 : decode cX1_watch 79 = .ok (.iadd, 1) := dk_96 (dk_at dksX1_watch_3 8 rfl rfl)
theorem dX1_watch_80 : decode cX1_watch 80 = .ok (.iload_n 3, 1) := dk_29 (dk_at dksX1_watch_3 9 rfl rfl)
theorem dX1_watch_81 : decode cX1_watch 81 = .ok (.iastore, 1) := dk_79 (dk_at dksX1_watch_3 10 rfl rfl)
theorem dX1_watch_82 : decode cX1_watch 82 = .ok (.aload_n 0, 1) := dk_42 (dk_at dksX1_watch_3 11 rfl rfl)
theorem dX1_watch_83 : decode cX1_watch 83 = .ok (.getfield 77, 3) := dk_180 0 77 (dk_at dksX1_watch_3 12 rfl rfl)
theorem dX1_watch_86 : decode cX1_watch 86 = .ok (.iconst 4, 1) := dk_7 (dk_at dksX1_watch_3 15 rfl rfl)
theorem dX1_watch_87 : decode cX1_watch 87 = .ok (.iload_n 1, 1) := dk_27 (dk_at dksX1_watch_3 16 rfl rfl)
theorem dX1_watch_88 : decode cX1_watch 88 = .ok (.imul, 1) := dk_104 (dk_at dksX1_watch_3 17 rfl rfl)
theorem dX1_watch_89 : decode cX1_watch 89 = .ok (.iconst 2, 1) := dk_5 (dk_at dksX1_watch_3 18 rfl rfl)
theorem dX1_watch_90 : decode cX1_watch 90 = .ok (.iadd, 1) := dk_96 (dk_at dksX1_watch_3 19 rfl rfl)
theorem dX1_watch_91 : decode cX1_watch 91 = .ok (.iload 4, 2) := dk_21 4 (dk_at dksX1_watch_3 20 rfl rfl)
theorem dX1_watch_93 : decode cX1_watch 93 = .ok (.iastore, 1) := dk_79 (dk_at dksX1_watch_3 22 rfl rfl)
theorem dX1_watch_94 : decode cX1_watch 94 = .ok (.aload_n 0, 1) := dk_42 (dk_at dksX1_watch_3 23 rfl rfl)
theorem dX1_watch_95 : decode cX1_watch 95 = .ok (.getfield 77, 3) := dk_180 0 77 (dk_at dksX1_watch_4 0 rfl rfl)
theorem dX1_watch_98 : decode cX1_watch 98 = .ok (.iconst 4, 1) := dk_7 (dk_at dksX1_watch_4 3 rfl rfl)
theorem dX1_watch_99 : decode cX1_watch 99 = .ok (.iload_n 1, 1) := dk_27 (dk_at dksX1_watch_4 4 rfl rfl)
theorem dX1_watch_100 : decode cX1_watch 100 = .ok (.imul, 1) := dk_104 (dk_at dksX1_watch_4 5 rfl rfl)
theorem dX1_watch_101 : decode cX1_watch 101 = .ok (.iconst 3, 1) := dk_6 (dk_at dksX1_watch_4 6 rfl rfl)
theorem dX1_watch_102 : decode cX1_watch 102 = .ok (.iadd, 1) := dk_96 (dk_at dksX1_watch_4 7 rfl rfl)
theorem dX1_watch_103 : decode cX1_watch 103 = .ok (.iload 5, 2) := dk_21 5 (dk_at dksX1_watch_4 8 rfl rfl)
theorem dX1_watch_105 : decode cX1_watch 105 = .ok (.iastore, 1) := dk_79 (dk_at dksX1_watch_4 10 rfl rfl)
theorem dX1_watch_106 : decode cX1_watch 106 = .ok (.iconst 1, 1) := dk_4 (dk_at dksX1_watch_4 11 rfl rfl)
theorem dX1_watch_107 : decode cX1_watch 107 = .ok (.ireturn, 1) := dk_172 (dk_at dksX1_watch_4 12 rfl rfl)
abbrev cX1_noControl : ByteArray := prog_12_method_39_code
def yX1_noControl : MethodName := ⟨RX1, "noControl", "(I)Z"⟩
def dkwX1_noControl_0 : List UInt8 := [27, 133, 9, 42, 180, 0, 199, 133, 10, 101, 184, 0, 111, 154, 0, 7, 4, 167, 0, 4, 3, 172]
abbrev dktX1_noControl_0 : List UInt8 := dkwX1_noControl_0 ++ []
theorem dksX1_noControl_0 : cX1_noControl.data.toList.drop 0 = dktX1_noControl_0 := by decide +kernel
theorem dX1_noControl_0 : decode cX1_noControl 0 = .ok (.iload_n 1, 1) := dk_27 (dk_at dksX1_noControl_0 0 rfl rfl)
theorem dX1_noControl_1 : decode cX1_noControl 1 = .ok (.i2l, 1) := dk_133 (dk_at dksX1_noControl_0 1 rfl rfl)
theorem dX1_noControl_2 : decode cX1_noControl 2 = .ok (.lconst 0, 1) := dk_9 (dk_at dksX1_noControl_0 2 rfl rfl)
theorem dX1_noControl_3 : decode cX1_noControl 3 = .ok (.aload_n 0, 1) := dk_42 (dk_at dksX1_noControl_0 3 rfl rfl)
theorem dX1_noControl_4 : decode cX1_noControl 4 = .ok (.getfield 199, 3) := dk_180 0 199 (dk_at dksX1_noControl_0 4 rfl rfl)
theorem dX1_noControl_7 : decode cX1_noControl 7 = .ok (.i2l, 1) := dk_133 (dk_at dksX1_noControl_0 7 rfl rfl)
theorem dX1_noControl_8 : decode cX1_noControl 8 = .ok (.lconst 1, 1) := dk_10 (dk_at dksX1_noControl_0 8 rfl rfl)
theorem dX1_noControl_9 : decode cX1_noControl 9 = .ok (.lsub, 1) := dk_101 (dk_at dksX1_noControl_0 9 rfl rfl)
theorem dX1_noControl_10 : decode cX1_noControl 10 = .ok (.invokestatic 111, 3) := dk_184 0 111 (dk_at dksX1_noControl_0 10 rfl rfl)
theorem dX1_noControl_13 : decode cX1_noControl 13 = .ok (.ifCond .ne 7, 3) := dk_154 0 7 (dk_at dksX1_noControl_0 13 rfl rfl)
theorem dX1_noControl_16 : decode cX1_noControl 16 = .ok (.iconst 1, 1) := dk_4 (dk_at dksX1_noControl_0 16 rfl rfl)
theorem dX1_noControl_17 : decode cX1_noControl 17 = .ok (.goto 4, 3) := dk_167 0 4 (dk_at dksX1_noControl_0 17 rfl rfl)
theorem dX1_noControl_20 : decode cX1_noControl 20 = .ok (.iconst 0, 1) := dk_3 (dk_at dksX1_noControl_0 20 rfl rfl)
theorem dX1_noControl_21 : decode cX1_noControl 21 = .ok (.ireturn, 1) := dk_172 (dk_at dksX1_noControl_0 21 rfl rfl)
abbrev cX1_isTime : ByteArray := prog_12_method_41_code
def yX1_isTime : MethodName := ⟨RX1, "isTime", "(I)Z"⟩
def dkwX1_isTime_0 : List UInt8 := [26, 133, 9, 20, 0, 226, 184, 0, 111, 172]
abbrev dktX1_isTime_0 : List UInt8 := dkwX1_isTime_0 ++ []
theorem dksX1_isTime_0 : cX1_isTime.data.toList.drop 0 = dktX1_isTime_0 := by decide +kernel
theorem dX1_isTime_0 : decode cX1_isTime 0 = .ok (.iload_n 0, 1) := dk_26 (dk_at dksX1_isTime_0 0 rfl rfl)
theorem dX1_isTime_1 : decode cX1_isTime 1 = .ok (.i2l, 1) := dk_133 (dk_at dksX1_isTime_0 1 rfl rfl)
theorem dX1_isTime_2 : decode cX1_isTime 2 = .ok (.lconst 0, 1) := dk_9 (dk_at dksX1_isTime_0 2 rfl rfl)
theorem dX1_isTime_3 : decode cX1_isTime 3 = .ok (.ldc2_w 226, 3) := dk_20 0 226 (dk_at dksX1_isTime_0 3 rfl rfl)
theorem dX1_isTime_6 : decode cX1_isTime 6 = .ok (.invokestatic 111, 3) := dk_184 0 111 (dk_at dksX1_isTime_0 6 rfl rfl)
theorem dX1_isTime_9 : decode cX1_isTime 9 = .ok (.ireturn, 1) := dk_172 (dk_at dksX1_isTime_0 9 rfl rfl)
abbrev cX1_right : ByteArray := prog_12_method_44_code
def yX1_right : MethodName := ⟨RX1, "right", "(II)J"⟩
def dkwX1_right_1 : List UInt8 := [133, 182, 0, 234, 173]
abbrev dktX1_right_1 : List UInt8 := dkwX1_right_1 ++ []
def dkwX1_right_0 : List UInt8 := [42, 27, 182, 0, 228, 154, 0, 10, 28, 184, 0, 231, 154, 0, 9, 184, 0, 104, 167, 0, 10, 42, 27, 28]
abbrev dktX1_right_0 : List UInt8 := dkwX1_right_0 ++ dktX1_right_1
theorem dksX1_right_0 : cX1_right.data.toList.drop 0 = dktX1_right_0 := by decide +kernel
theorem dksX1_right_1 : cX1_right.data.toList.drop 24 = dktX1_right_1 := dk_seg dksX1_right_0 24 rfl rfl
theorem dX1_right_0 : decode cX1_right 0 = .ok (.aload_n 0, 1) := dk_42 (dk_at dksX1_right_0 0 rfl rfl)
theorem dX1_right_1 : decode cX1_right 1 = .ok (.iload_n 1, 1) := dk_27 (dk_at dksX1_right_0 1 rfl rfl)
theorem dX1_right_2 : decode cX1_right 2 = .ok (.invokevirtual 228, 3) := dk_182 0 228 (dk_at dksX1_right_0 2 rfl rfl)
theorem dX1_right_5 : decode cX1_right 5 = .ok (.ifCond .ne 10, 3) := dk_154 0 10 (dk_at dksX1_right_0 5 rfl rfl)
theorem dX1_right_8 : decode cX1_right 8 = .ok (.iload_n 2, 1) := dk_28 (dk_at dksX1_right_0 8 rfl rfl)
theorem dX1_right_9 : decode cX1_right 9 = .ok (.invokestatic 231, 3) := dk_184 0 231 (dk_at dksX1_right_0 9 rfl rfl)
theorem dX1_right_12 : decode cX1_right 12 = .ok (.ifCond .ne 9, 3) := dk_154 0 9 (dk_at dksX1_right_0 12 rfl rfl)
theorem dX1_right_15 : decode cX1_right 15 = .ok (.invokestatic 104, 3) := dk_184 0 104 (dk_at dksX1_right_0 15 rfl rfl)
theorem dX1_right_18 : decode cX1_right 18 = .ok (.goto 10, 3) := dk_167 0 10 (dk_at dksX1_right_0 18 rfl rfl)
theorem dX1_right_21 : decode cX1_right 21 = .ok (.aload_n 0, 1) := dk_42 (dk_at dksX1_right_0 21 rfl rfl)
theorem dX1_right_22 : decode cX1_right 22 = .ok (.iload_n 1, 1) := dk_27 (dk_at dksX1_right_0 22 rfl rfl)
theorem dX1_right_23 : decode cX1_right 23 = .ok (.iload_n 2, 1) := dk_28 (dk_at dksX1_right_0 23 rfl rfl)
theorem dX1_right_24 : decode cX1_right 24 = .ok (.i2l, 1) := dk_133 (dk_at dksX1_right_1 0 rfl rfl)
theorem dX1_right_25 : decode cX1_right 25 = .ok (.invokevirtual 234, 3) := dk_182 0 234 (dk_at dksX1_right_1 1 rfl rfl)
theorem dX1_right_28 : decode cX1_right 28 = .ok (.lreturn, 1) := dk_173 (dk_at dksX1_right_1 4 rfl rfl)
abbrev cX1_rightAt : ByteArray := prog_12_method_43_code
def yX1_rightAt : MethodName := ⟨RX1, "rightAt", "(IJ)J"⟩
def dkwX1_rightAt_3 : List UInt8 := [97, 173]
abbrev dktX1_rightAt_3 : List UInt8 := dkwX1_rightAt_3 ++ []
def dkwX1_rightAt_2 : List UInt8 := [104, 4, 96, 46, 133, 22, 4, 101, 105, 42, 180, 0, 77, 7, 27, 104, 6, 96, 46, 133, 22, 6, 101, 109]
abbrev dktX1_rightAt_2 : List UInt8 := dkwX1_rightAt_2 ++ dktX1_rightAt_3
def dkwX1_rightAt_1 : List UInt8 := [180, 0, 77, 7, 27, 104, 5, 96, 46, 133, 55, 6, 22, 4, 32, 22, 6, 101, 42, 180, 0, 77, 7, 27]
abbrev dktX1_rightAt_1 : List UInt8 := dkwX1_rightAt_1 ++ dktX1_rightAt_2
def dkwX1_rightAt_0 : List UInt8 := [42, 180, 0, 74, 27, 51, 154, 0, 5, 32, 173, 42, 180, 0, 77, 7, 27, 104, 46, 133, 55, 4, 42]
abbrev dktX1_rightAt_0 : List UInt8 := dkwX1_rightAt_0 ++ dktX1_rightAt_1
theorem dksX1_rightAt_0 : cX1_rightAt.data.toList.drop 0 = dktX1_rightAt_0 := by decide +kernel
theorem dksX1_rightAt_1 : cX1_rightAt.data.toList.drop 23 = dktX1_rightAt_1 := dk_seg dksX1_rightAt_0 23 rfl rfl
theorem dksX1_rightAt_2 : cX1_rightAt.data.toList.drop 47 = dktX1_rightAt_2 := dk_seg dksX1_rightAt_1 24 rfl rfl
theorem dksX1_rightAt_3 : cX1_rightAt.data.toList.drop 71 = dktX1_rightAt_3 := dk_seg dksX1_rightAt_2 24 rfl rfl
theorem dX1_rightAt_0 : decode cX1_rightAt 0 = .ok (.aload_n 0, 1) := dk_42 (dk_at dksX1_rightAt_0 0 rfl rfl)
theorem dX1_rightAt_1 : decode cX1_rightAt 1 = .ok (.getfield 74, 3) := dk_180 0 74 (dk_at dksX1_rightAt_0 1 rfl rfl)
theorem dX1_rightAt_4 : decode cX1_rightAt 4 = .ok (.iload_n 1, 1) := dk_27 (dk_at dksX1_rightAt_0 4 rfl rfl)
theorem dX1_rightAt_5 : decode cX1_rightAt 5 = .ok (.baload, 1) := dk_51 (dk_at dksX1_rightAt_0 5 rfl rfl)
theorem dX1_rightAt_6 : decode cX1_rightAt 6 = .ok (.ifCond .ne 5, 3) := dk_154 0 5 (dk_at dksX1_rightAt_0 6 rfl rfl)
theorem dX1_rightAt_9 : decode cX1_rightAt 9 = .ok (.lload_n 2, 1) := dk_32 (dk_at dksX1_rightAt_0 9 rfl rfl)
theorem dX1_rightAt_10 : decode cX1_rightAt 10 = .ok (.lreturn, 1) := dk_173 (dk_at dksX1_rightAt_0 10 rfl rfl)
theorem dX1_rightAt_11 : decode cX1_rightAt 11 = .ok (.aload_n 0, 1) := dk_42 (dk_at dksX1_rightAt_0 11 rfl rfl)
theorem dX1_rightAt_12 : decode cX1_rightAt 12 = .ok (.getfield 77, 3) := dk_180 0 77 (dk_at dksX1_rightAt_0 12 rfl rfl)
theorem dX1_rightAt_15 : decode cX1_rightAt 15 = .ok (.iconst 4, 1) := dk_7 (dk_at dksX1_rightAt_0 15 rfl rfl)
theorem dX1_rightAt_16 : decode cX1_rightAt 16 = .ok (.iload_n 1, 1) := dk_27 (dk_at dksX1_rightAt_0 16 rfl rfl)
theorem dX1_rightAt_17 : decode cX1_rightAt 17 = .ok (.imul, 1) := dk_104 (dk_at dksX1_rightAt_0 17 rfl rfl)
theorem dX1_rightAt_18 : decode cX1_rightAt 18 = .ok (.iaload, 1) := dk_46 (dk_at dksX1_rightAt_0 18 rfl rfl)
theorem dX1_rightAt_19 : decode cX1_rightAt 19 = .ok (.i2l, 1) := dk_133 (dk_at dksX1_rightAt_0 19 rfl rfl)
theorem dX1_rightAt_20 : decode cX1_rightAt 20 = .ok (.lstore 4, 2) := dk_55 4 (dk_at dksX1_rightAt_0 20 rfl rfl)
theorem dX1_rightAt_22 : decode cX1_rightAt 22 = .ok (.aload_n 0, 1) := dk_42 (dk_at dksX1_rightAt_0 22 rfl rfl)
theorem dX1_rightAt_23 : decode cX1_rightAt 23 = .ok (.getfield 77, 3) := dk_180 0 77 (dk_at dksX1_rightAt_1 0 rfl rfl)
theorem dX1_rightAt_26 : decode cX1_rightAt 26 = .ok (.iconst 4, 1) := dk_7 (dk_at dksX1_rightAt_1 3 rfl rfl)
theorem dX1_rightAt_27 : decode cX1_rightAt 27 = .ok (.iload_n 1, 1) := dk_27 (dk_at dksX1_rightAt_1 4 rfl rfl)
theorem dX1_rightAt_28 : decode cX1_rightAt 28 = .ok (.imul, 1) := dk_104 (dk_at dksX1_rightAt_1 5 rfl rfl)
theorem dX1_rightAt_29 : decode cX1_rightAt 29 = .ok (.iconst 2, 1) := dk_5 (dk_at dksX1_rightAt_1 6 rfl rfl)
theorem dX1_rightAt_30 : decode cX1_rightAt 30 = .ok (.iadd, 1) := dk_96 (dk_at dksX1_rightAt_1 7 rfl rfl)
theorem dX1_rightAt_31 : decode cX1_rightAt 31 = .ok (.iaload, 1) := dk_46 (dk_at dksX1_rightAt_1 8 rfl rfl)
theorem dX1_rightAt_32 : decode cX1_rightAt 32 = .ok (.i2l, 1) := dk_133 (dk_at dksX1_rightAt_1 9 rfl rfl)
theorem dX1_rightAt_33 : decode cX1_rightAt 33 = .ok (.lstore 6, 2) := dk_55 6 (dk_at dksX1_rightAt_1 10 rfl rfl)
theorem dX1_rightAt_35 : decode cX1_rightAt 35 = .ok (.lload 4, 2) := dk_22 4 (dk_at dksX1_rightAt_1 12 rfl rfl)
theorem dX1_rightAt_37 : decode cX1_rightAt 37 = .ok (.lload_n 2, 1) := dk_32 (dk_at dksX1_rightAt_1 14 rfl rfl)
theorem dX1_rightAt_38 : decode cX1_rightAt 38 = .ok (.lload 6, 2) := dk_22 6 (dk_at dksX1_rightAt_1 15 rfl rfl)
theorem dX1_rightAt_40 : decode cX1_rightAt 40 = .ok (.lsub, 1) := dk_101 (dk_at dksX1_rightAt_1 17 rfl rfl)
theorem dX1_rightAt_41 : decode cX1_rightAt 41 = .ok (.aload_n 0, 1) := dk_42 (dk_at dksX1_rightAt_1 18 rfl rfl)
theorem dX1_rightAt_42 : decode cX1_rightAt 42 = .ok (.getfield 77, 3) := dk_180 0 77 (dk_at dksX1_rightAt_1 19 rfl rfl)
theorem dX1_rightAt_45 : decode cX1_rightAt 45 = .ok (.iconst 4, 1) := dk_7 (dk_at dksX1_rightAt_1 22 rfl rfl)
theorem dX1_rightAt_46 : decode cX1_rightAt 46 = .ok (.iload_n 1, 1) := dk_27 (dk_at dksX1_rightAt_1 23 rfl rfl)
theorem dX1_rightAt_47 : decode cX1_rightAt 47 = .ok (.imul, 1) := dk_104 (dk_at dksX1_rightAt_2 0 rfl rfl)
theorem dX1_rightAt_48 : decode cX1_rightAt 48 = .ok (.iconst 1, 1) := dk_4 (dk_at dksX1_rightAt_2 1 rfl rfl)
theorem dX1_rightAt_49 : decode cX1_rightAt 49 = .ok (.iadd, 1) := dk_96 (dk_at dksX1_rightAt_2 2 rfl rfl)
theorem dX1_rightAt_50 : decode cX1_rightAt 50 = .ok (.iaload, 1) := dk_46 (dk_at dksX1_rightAt_2 3 rfl rfl)
theorem dX1_rightAt_51 : decode cX1_rightAt 51 = .ok (.i2l, 1) := dk_133 (dk_at dksX1_rightAt_2 4 rfl rfl)
theorem dX1_rightAt_52 : decode cX1_rightAt 52 = .ok (.lload 4, 2) := dk_22 4 (dk_at dksX1_rightAt_2 5 rfl rfl)
theorem dX1_rightAt_54 : decode cX1_rightAt 54 = .ok (.lsub, 1) := dk_101 (dk_at dksX1_rightAt_2 7 rfl rfl)
theorem dX1_rightAt_55 : decode cX1_rightAt 55 = .ok (.lmul, 1) := dk_105 (dk_at dksX1_rightAt_2 8 rfl rfl)
theorem dX1_rightAt_56 : decode cX1_rightAt 56 = .ok (.aload_n 0, 1) := dk_42 (dk_at dksX1_rightAt_2 9 rfl rfl)
theorem dX1_rightAt_57 : decode cX1_rightAt 57 = .ok (.getfield 77, 3) := dk_180 0 77 (dk_at dksX1_rightAt_2 10 rfl rfl)
theorem dX1_rightAt_60 : decode cX1_rightAt 60 = .ok (.iconst 4, 1) := dk_7 (dk_at dksX1_rightAt_2 13 rfl rfl)
theorem dX1_rightAt_61 : decode cX1_rightAt 61 = .ok (.iload_n 1, 1) := dk_27 (dk_at dksX1_rightAt_2 14 rfl rfl)
theorem dX1_rightAt_62 : decode cX1_rightAt 62 = .ok (.imul, 1) := dk_104 (dk_at dksX1_rightAt_2 15 rfl rfl)
theorem dX1_rightAt_63 : decode cX1_rightAt 63 = .ok (.iconst 3, 1) := dk_6 (dk_at dksX1_rightAt_2 16 rfl rfl)
theorem dX1_rightAt_64 : decode cX1_rightAt 64 = .ok (.iadd, 1) := dk_96 (dk_at dksX1_rightAt_2 17 rfl rfl)
theorem dX1_rightAt_65 : decode cX1_rightAt 65 = .ok (.iaload, 1) := dk_46 (dk_at dksX1_rightAt_2 18 rfl rfl)
theorem dX1_rightAt_66 : decode cX1_rightAt 66 = .ok (.i2l, 1) := dk_133 (dk_at dksX1_rightAt_2 19 rfl rfl)
theorem dX1_rightAt_67 : decode cX1_rightAt 67 = .ok (.lload 6, 2) := dk_22 6 (dk_at dksX1_rightAt_2 20 rfl rfl)
theorem dX1_rightAt_69 : decode cX1_rightAt 69 = .ok (.lsub, 1) := dk_101 (dk_at dksX1_rightAt_2 22 rfl rfl)
theorem dX1_rightAt_70 : decode cX1_rightAt 70 = .ok (.ldiv, 1) := dk_109 (dk_at dksX1_rightAt_2 23 rfl rfl)
theorem dX1_rightAt_71 : decode cX1_rightAt 71 = .ok (.ladd, 1) := dk_97 (dk_at dksX1_rightAt_3 0 rfl rfl)
theorem dX1_rightAt_72 : decode cX1_rightAt 72 = .ok (.lreturn, 1) := dk_173 (dk_at dksX1_rightAt_3 1 rfl rfl)
abbrev cX1_strike : ByteArray := prog_12_method_45_code
def yX1_strike : MethodName := ⟨RX1, "strike", "(IZ)I"⟩
def dkwX1_strike_1 : List UInt8 := [3, 62, 42, 180, 0, 71, 27, 28, 84, 29, 153, 0, 7, 4, 167, 0, 4, 3, 172]
abbrev dktX1_strike_1 : List UInt8 := dkwX1_strike_1 ++ []
def dkwX1_strike_0 : List UInt8 := [42, 27, 182, 0, 228, 153, 0, 5, 2, 172, 42, 180, 0, 71, 27, 51, 28, 159, 0, 7, 4, 167, 0, 4]
abbrev dktX1_strike_0 : List UInt8 := dkwX1_strike_0 ++ dktX1_strike_1
theorem dksX1_strike_0 : cX1_strike.data.toList.drop 0 = dktX1_strike_0 := by decide +kernel
theorem dksX1_strike_1 : cX1_strike.data.toList.drop 24 = dktX1_strike_1 := dk_seg dksX1_strike_0 24 rfl rfl
theorem dX1_strike_0 : decode cX1_strike 0 = .ok (.aload_n 0, 1) := dk_42 (dk_at dksX1_strike_0 0 rfl rfl)
theorem dX1_strike_1 : decode cX1_strike 1 = .ok (.iload_n 1, 1) := dk_27 (dk_at dksX1_strike_0 1 rfl rfl)
theorem dX1_strike_2 : decode cX1_strike 2 = .ok (.invokevirtual 228, 3) := dk_182 0 228 (dk_at dksX1_strike_0 2 rfl rfl)
theorem dX1_strike_5 : decode cX1_strike 5 = .ok (.ifCond .eq 5, 3) := dk_153 0 5 (dk_at dksX1_strike_0 5 rfl rfl)
theorem dX1_strike_8 : decode cX1_strike 8 = .ok (.iconst (-1), 1) := dk_2 (dk_at dksX1_strike_0 8 rfl rfl)
theorem dX1_strike_9 : decode cX1_strike 9 = .ok (.ireturn, 1) := dk_172 (dk_at dksX1_strike_0 9 rfl rfl)
theorem dX1_strike_10 : decode cX1_strike 10 = .ok (.aload_n 0, 1) := dk_42 (dk_at dksX1_strike_0 10 rfl rfl)
theorem dX1_strike_11 : decode cX1_strike 11 = .ok (.getfield 71, 3) := dk_180 0 71 (dk_at dksX1_strike_0 11 rfl rfl)
theorem dX1_strike_14 : decode cX1_strike 14 = .ok (.iload_n 1, 1) := dk_27 (dk_at dksX1_strike_0 14 rfl rfl)
theorem dX1_strike_15 : decode cX1_strike 15 = .ok (.baload, 1) := dk_51 (dk_at dksX1_strike_0 15 rfl rfl)
theorem dX1_strike_16 : decode cX1_strike 16 = .ok (.iload_n 2, 1) := dk_28 (dk_at dksX1_strike_0 16 rfl rfl)
theorem dX1_strike_17 : decode cX1_strike 17 = .ok (.if_icmp .eq 7, 3) := dk_159 0 7 (dk_at dksX1_strike_0 17 rfl rfl)
theorem dX1_strike_20 : decode cX1_strike 20 = .ok (.iconst 1, 1) := dk_4 (dk_at dksX1_strike_0 20 rfl rfl)
theorem dX1_strike_21 : decode cX1_strike 21 = .ok (.goto 4, 3) := dk_167 0 4 (dk_at dksX1_strike_0 21 rfl rfl)
theorem dX1_strike_24 : decode cX1_strike 24 = .ok (.iconst 0, 1) := dk_3 (dk_at dksX1_strike_1 0 rfl rfl)
theorem dX1_strike_25 : decode cX1_strike 25 = .ok (.istore_n 3, 1) := dk_62 (dk_at dksX1_strike_1 1 rfl rfl)
theorem dX1_strike_26 : decode cX1_strike 26 = .ok (.aload_n 0, 1) := dk_42 (dk_at dksX1_strike_1 2 rfl rfl)
theorem dX1_strike_27 : decode cX1_strike 27 = .ok (.getfield 71, 3) := dk_180 0 71 (dk_at dksX1_strike_1 3 rfl rfl)
theorem dX1_strike_30 : decode cX1_strike 30 = .ok (.iload_n 1, 1) := dk_27 (dk_at dksX1_strike_1 6 rfl rfl)
theorem dX1_strike_31 : decode cX1_strike 31 = .ok (.iload_n 2, 1) := dk_28 (dk_at dksX1_strike_1 7 rfl rfl)
theorem dX1_strike_32 : decode cX1_strike 32 = .ok (.bastore, 1) := dk_84 (dk_at dksX1_strike_1 8 rfl rfl)
theorem dX1_strike_33 : decode cX1_strike 33 = .ok (.iload_n 3, 1) := dk_29 (dk_at dksX1_strike_1 9 rfl rfl)
theorem dX1_strike_34 : decode cX1_strike 34 = .ok (.ifCond .eq 7, 3) := dk_153 0 7 (dk_at dksX1_strike_1 10 rfl rfl)
theorem dX1_strike_37 : decode cX1_strike 37 = .ok (.iconst 1, 1) := dk_4 (dk_at dksX1_strike_1 13 rfl rfl)
theorem dX1_strike_38 : decode cX1_strike 38 = .ok (.goto 4, 3) := dk_167 0 4 (dk_at dksX1_strike_1 14 rfl rfl)
theorem dX1_strike_41 : decode cX1_strike 41 = .ok (.iconst 0, 1) := dk_3 (dk_at dksX1_strike_1 17 rfl rfl)
theorem dX1_strike_42 : decode cX1_strike 42 = .ok (.ireturn, 1) := dk_172 (dk_at dksX1_strike_1 18 rfl rfl)
abbrev cX1_car : ByteArray := prog_12_method_47_code
def yX1_car : MethodName := ⟨RX1, "car", "(II)I"⟩
def dkwX1_car_3 : List UInt8 := [180, 0, 238, 4, 100, 172]
abbrev dktX1_car_3 : List UInt8 := dkwX1_car_3 ++ []
def dkwX1_car_2 : List UInt8 := [79, 42, 180, 0, 83, 42, 180, 0, 238, 28, 79, 42, 89, 180, 0, 238, 4, 96, 181, 0, 238, 42]
abbrev dktX1_car_2 : List UInt8 := dkwX1_car_2 ++ dktX1_car_3
def dkwX1_car_1 : List UInt8 := [16, 254, 172, 42, 180, 0, 238, 16, 8, 160, 0, 6, 16, 252, 172, 42, 180, 0, 80, 42, 180, 0, 238, 27]
abbrev dktX1_car_1 : List UInt8 := dkwX1_car_1 ++ dktX1_car_2
def dkwX1_car_0 : List UInt8 := [27, 133, 9, 20, 0, 241, 184, 0, 111, 153, 0, 15, 28, 133, 9, 20, 0, 123, 184, 0, 111, 154, 0, 6]
abbrev dktX1_car_0 : List UInt8 := dkwX1_car_0 ++ dktX1_car_1
theorem dksX1_car_0 : cX1_car.data.toList.drop 0 = dktX1_car_0 := by decide +kernel
theorem dksX1_car_1 : cX1_car.data.toList.drop 24 = dktX1_car_1 := dk_seg dksX1_car_0 24 rfl rfl
theorem dksX1_car_2 : cX1_car.data.toList.drop 48 = dktX1_car_2 := dk_seg dksX1_car_1 24 rfl rfl
theorem dksX1_car_3 : cX1_car.data.toList.drop 70 = dktX1_car_3 := dk_seg dksX1_car_2 22 rfl rfl
theorem dX1_car_0 : decode cX1_car 0 = .ok (.iload_n 1, 1) := dk_27 (dk_at dksX1_car_0 0 rfl rfl)
theorem dX1_car_1 : decode cX1_car 1 = .ok (.i2l, 1) := dk_133 (dk_at dksX1_car_0 1 rfl rfl)
theorem dX1_car_2 : decode cX1_car 2 = .ok (.lconst 0, 1) := dk_9 (dk_at dksX1_car_0 2 rfl rfl)
theorem dX1_car_3 : decode cX1_car 3 = .ok (.ldc2_w 241, 3) := dk_20 0 241 (dk_at dksX1_car_0 3 rfl rfl)
theorem dX1_car_6 : decode cX1_car 6 = .ok (.invokestatic 111, 3) := dk_184 0 111 (dk_at dksX1_car_0 6 rfl rfl)
theorem dX1_car_9 : decode cX1_car 9 = .ok (.ifCond .eq 15, 3) := dk_153 0 15 (dk_at dksX1_car_0 9 rfl rfl)
theorem dX1_car_12 : decode cX1_car 12 = .ok (.iload_n 2, 1) := dk_28 (dk_at dksX1_car_0 12 rfl rfl)
theorem dX1_car_13 : decode cX1_car 13 = .ok (.i2l, 1) := dk_133 (dk_at dksX1_car_0 13 rfl rfl)
theorem dX1_car_14 : decode cX1_car 14 = .ok (.lconst 0, 1) := dk_9 (dk_at dksX1_car_0 14 rfl rfl)
theorem dX1_car_15 : decode cX1_car 15 = .ok (.ldc2_w 123, 3) := dk_20 0 123 (dk_at dksX1_car_0 15 rfl rfl)
theorem dX1_car_18 : decode cX1_car 18 = .ok (.invokestatic 111, 3) := dk_184 0 111 (dk_at dksX1_car_0 18 rfl rfl)
theorem dX1_car_21 : decode cX1_car 21 = .ok (.ifCond .ne 6, 3) := dk_154 0 6 (dk_at dksX1_car_0 21 rfl rfl)
theorem dX1_car_24 : decode cX1_car 24 = .ok (.bipush (-2), 2) := dk_16 254 (dk_at dksX1_car_1 0 rfl rfl)
theorem dX1_car_26 : decode cX1_car 26 = .ok (.ireturn, 1) := dk_172 (dk_at dksX1_car_1 2 rfl rfl)
theorem dX1_car_27 : decode cX1_car 27 = .ok (.aload_n 0, 1) := dk_42 (dk_at dksX1_car_1 3 rfl rfl)
theorem dX1_car_28 : decode cX1_car 28 = .ok (.getfield 238, 3) := dk_180 0 238 (dk_at dksX1_car_1 4 rfl rfl)
theorem dX1_car_31 : decode cX1_car 31 = .ok (.bipush 8, 2) := dk_16 8 (dk_at dksX1_car_1 7 rfl rfl)
theorem dX1_car_33 : decode cX1_car 33 = .ok (.if_icmp .ne 6, 3) := dk_160 0 6 (dk_at dksX1_car_1 9 rfl rfl)
theorem dX1_car_36 : decode cX1_car 36 = .ok (.bipush (-4), 2) := dk_16 252 (dk_at dksX1_car_1 12 rfl rfl)
theorem dX1_car_38 : decode cX1_car 38 = .ok (.ireturn, 1) := dk_172 (dk_at dksX1_car_1 14 rfl rfl)
theorem dX1_car_39 : decode cX1_car 39 = .ok (.aload_n 0, 1) := dk_42 (dk_at dksX1_car_1 15 rfl rfl)
theorem dX1_car_40 : decode cX1_car 40 = .ok (.getfield 80, 3) := dk_180 0 80 (dk_at dksX1_car_1 16 rfl rfl)
theorem dX1_car_43 : decode cX1_car 43 = .ok (.aload_n 0, 1) := dk_42 (dk_at dksX1_car_1 19 rfl rfl)
theorem dX1_car_44 : decode cX1_car 44 = .ok (.getfield 238, 3) := dk_180 0 238 (dk_at dksX1_car_1 20 rfl rfl)
theorem dX1_car_47 : decode cX1_car 47 = .ok (.iload_n 1, 1) := dk_27 (dk_at dksX1_car_1 23 rfl rfl)
theorem dX1_car_48 : decode cX1_car 48 = .ok (.iastore, 1) := dk_79 (dk_at dksX1_car_2 0 rfl rfl)
theorem dX1_car_49 : decode cX1_car 49 = .ok (.aload_n 0, 1) := dk_42 (dk_at dksX1_car_2 1 rfl rfl)
theorem dX1_car_50 : decode cX1_car 50 = .ok (.getfield 83, 3) := dk_180 0 83 (dk_at dksX1_car_2 2 rfl rfl)
theorem dX1_car_53 : decode cX1_car 53 = .ok (.aload_n 0, 1) := dk_42 (dk_at dksX1_car_2 5 rfl rfl)
theorem dX1_car_54 : decode cX1_car 54 = .ok (.getfield 238, 3) := dk_180 0 238 (dk_at dksX1_car_2 6 rfl rfl)
theorem dX1_car_57 : decode cX1_car 57 = .ok (.iload_n 2, 1) := dk_28 (dk_at dksX1_car_2 9 rfl rfl)
theorem dX1_car_58 : decode cX1_car 58 = .ok (.iastore, 1) := dk_79 (dk_at dksX1_car_2 10 rfl rfl)
theorem dX1_car_59 : decode cX1_car 59 = .ok (.aload_n 0, 1) := dk_42 (dk_at dksX1_car_2 11 rfl rfl)
theorem dX1_car_60 : decode cX1_car 60 = .ok (.dup, 1) := dk_89 (dk_at dksX1_car_2 12 rfl rfl)
theorem dX1_car_61 : decode cX1_car 61 = .ok (.getfield 238, 3) := dk_180 0 238 (dk_at dksX1_car_2 13 rfl rfl)
theorem dX1_car_64 : decode cX1_car 64 = .ok (.iconst 1, 1) := dk_4 (dk_at dksX1_car_2 16 rfl rfl)
theorem dX1_car_65 : decode cX1_car 65 = .ok (.iadd, 1) := dk_96 (dk_at dksX1_car_2 17 rfl rfl)
theorem dX1_car_66 : decode cX1_car 66 = .ok (.putfield 238, 3) := dk_181 0 238 (dk_at dksX1_car_2 18 rfl rfl)
theorem dX1_car_69 : decode cX1_car 69 = .ok (.aload_n 0, 1) := dk_42 (dk_at dksX1_car_2 21 rfl rfl)
theorem dX1_car_70 : decode cX1_car 70 = .ok (.getfield 238, 3) := dk_180 0 238 (dk_at dksX1_car_3 0 rfl rfl)
theorem dX1_car_73 : decode cX1_car 73 = .ok (.iconst 1, 1) := dk_4 (dk_at dksX1_car_3 3 rfl rfl)
theorem dX1_car_74 : decode cX1_car 74 = .ok (.isub, 1) := dk_100 (dk_at dksX1_car_3 4 rfl rfl)
theorem dX1_car_75 : decode cX1_car 75 = .ok (.ireturn, 1) := dk_172 (dk_at dksX1_car_3 5 rfl rfl)
abbrev cX1_clock : ByteArray := prog_12_method_48_code
def yX1_clock : MethodName := ⟨RX1, "clock", "(III)I"⟩
def dkwX1_clock_3 : List UInt8 := [42, 180, 0, 89, 16, 8, 27, 104, 28, 96, 29, 79, 4, 172]
abbrev dktX1_clock_3 : List UInt8 := dkwX1_clock_3 ++ []
def dkwX1_clock_2 : List UInt8 := [89, 180, 0, 202, 4, 96, 181, 0, 202, 42, 180, 0, 86, 16, 8, 27, 104, 28, 96, 42, 180, 0, 202, 79]
abbrev dktX1_clock_2 : List UInt8 := dkwX1_clock_2 ++ dktX1_clock_3
def dkwX1_clock_1 : List UInt8 := [154, 0, 6, 16, 254, 172, 42, 180, 0, 86, 16, 8, 27, 104, 28, 96, 46, 158, 0, 6, 16, 253, 172, 42]
abbrev dktX1_clock_1 : List UInt8 := dkwX1_clock_1 ++ dktX1_clock_2
def dkwX1_clock_0 : List UInt8 := [42, 27, 182, 0, 243, 154, 0, 11, 42, 28, 182, 0, 228, 153, 0, 5, 2, 172, 29, 184, 0, 231]
abbrev dktX1_clock_0 : List UInt8 := dkwX1_clock_0 ++ dktX1_clock_1
theorem dksX1_clock_0 : cX1_clock.data.toList.drop 0 = dktX1_clock_0 := by decide +kernel
theorem dksX1_clock_1 : cX1_clock.data.toList.drop 22 = dktX1_clock_1 := dk_seg dksX1_clock_0 22 rfl rfl
theorem dksX1_clock_2 : cX1_clock.data.toList.drop 46 = dktX1_clock_2 := dk_seg dksX1_clock_1 24 rfl rfl
theorem dksX1_clock_3 : cX1_clock.data.toList.drop 70 = dktX1_clock_3 := dk_seg dksX1_clock_2 24 rfl rfl
theorem dX1_clock_0 : decode cX1_clock 0 = .ok (.aload_n 0, 1) := dk_42 (dk_at dksX1_clock_0 0 rfl rfl)
theorem dX1_clock_1 : decode cX1_clock 1 = .ok (.iload_n 1, 1) := dk_27 (dk_at dksX1_clock_0 1 rfl rfl)
theorem dX1_clock_2 : decode cX1_clock 2 = .ok (.invokevirtual 243, 3) := dk_182 0 243 (dk_at dksX1_clock_0 2 rfl rfl)
theorem dX1_clock_5 : decode cX1_clock 5 = .ok (.ifCond .ne 11, 3) := dk_154 0 11 (dk_at dksX1_clock_0 5 rfl rfl)
theorem dX1_clock_8 : decode cX1_clock 8 = .ok (.aload_n 0, 1) := dk_42 (dk_at dksX1_clock_0 8 rfl rfl)
theorem dX1_clock_9 : decode cX1_clock 9 = .ok (.iload_n 2, 1) := dk_28 (dk_at dksX1_clock_0 9 rfl rfl)
theorem dX1_clock_10 : decode cX1_clock 10 = .ok (.invokevirtual 228, 3) := dk_182 0 228 (dk_at dksX1_clock_0 10 rfl rfl)
theorem dX1_clock_13 : decode cX1_clock 13 = .ok (.ifCond .eq 5, 3) := dk_153 0 5 (dk_at dksX1_clock_0 13 rfl rfl)
theorem dX1_clock_16 : decode cX1_clock 16 = .ok (.iconst (-1), 1) := dk_2 (dk_at dksX1_clock_0 16 rfl rfl)
theorem dX1_clock_17 : decode cX1_clock 17 = .ok (.ireturn, 1) := dk_172 (dk_at dksX1_clock_0 17 rfl rfl)
theorem dX1_clock_18 : decode cX1_clock 18 = .ok (.iload_n 3, 1) := dk_29 (dk_at dksX1_clock_0 18 rfl rfl)
theorem dX1_clock_19 : decode cX1_clock 19 = .ok (.invokestatic 231, 3) := dk_184 0 231 (dk_at dksX1_clock_0 19 rfl rfl)
theorem dX1_clock_22 : decode cX1_clock 22 = .ok (.ifCond .ne 6, 3) := dk_154 0 6 (dk_at dksX1_clock_1 0 rfl rfl)
theorem dX1_clock_25 : decode cX1_clock 25 = .ok (.bipush (-2), 2) := dk_16 254 (dk_at dksX1_clock_1 3 rfl rfl)
theorem dX1_clock_27 : decode cX1_clock 27 = .ok (.ireturn, 1) := dk_172 (dk_at dksX1_clock_1 5 rfl rfl)
theorem dX1_clock_28 : decode cX1_clock 28 = .ok (.aload_n 0, 1) := dk_42 (dk_at dksX1_clock_1 6 rfl rfl)
theorem dX1_clock_29 : decode cX1_clock 29 = .ok (.getfield 86, 3) := dk_180 0 86 (dk_at dksX1_clock_1 7 rfl rfl)
theorem dX1_clock_32 : decode cX1_clock 32 = .ok (.bipush 8, 2) := dk_16 8 (dk_at dksX1_clock_1 10 rfl rfl)
theorem dX1_clock_34 : decode cX1_clock 34 = .ok (.iload_n 1, 1) := dk_27 (dk_at dksX1_clock_1 12 rfl rfl)
theorem dX1_clock_35 : decode cX1_clock 35 = .ok (.imul, 1) := dk_104 (dk_at dksX1_clock_1 13 rfl rfl)
theorem dX1_clock_36 : decode cX1_clock 36 = .ok (.iload_n 2, 1) := dk_28 (dk_at dksX1_clock_1 14 rfl rfl)
theorem dX1_clock_37 : decode cX1_clock 37 = .ok (.iadd, 1) := dk_96 (dk_at dksX1_clock_1 15 rfl rfl)
theorem dX1_clock_38 : decode cX1_clock 38 = .ok (.iaload, 1) := dk_46 (dk_at dksX1_clock_1 16 rfl rfl)
theorem dX1_clock_39 : decode cX1_clock 39 = .ok (.ifCond .le 6, 3) := dk_158 0 6 (dk_at dksX1_clock_1 17 rfl rfl)
theorem dX1_clock_42 : decode cX1_clock 42 = .ok (.bipush (-3), 2) := dk_16 253 (dk_at dksX1_clock_1 20 rfl rfl)
theorem dX1_clock_44 : decode cX1_clock 44 = .ok (.ireturn, 1) := dk_172 (dk_at dksX1_clock_1 22 rfl rfl)
theorem dX1_clock_45 : decode cX1_clock 45 = .ok (.aload_n 0, 1) := dk_42 (dk_at dksX1_clock_1 23 rfl rfl)
theorem dX1_clock_46 : decode cX1_clock 46 = .ok (.dup, 1) := dk_89 (dk_at dksX1_clock_2 0 rfl rfl)
theorem dX1_clock_47 : decode cX1_clock 47 = .ok (.getfield 202, 3) := dk_180 0 202 (dk_at dksX1_clock_2 1 rfl rfl)
theorem dX1_clock_50 : decode cX1_clock 50 = .ok (.iconst 1, 1) := dk_4 (dk_at dksX1_clock_2 4 rfl rfl)
theorem dX1_clock_51 : decode cX1_clock 51 = .ok (.iadd, 1) := dk_96 (dk_at dksX1_clock_2 5 rfl rfl)
theorem dX1_clock_52 : decode cX1_clock 52 = .ok (.putfield 202, 3) := dk_181 0 202 (dk_at dksX1_clock_2 6 rfl rfl)
theorem dX1_clock_55 : decode cX1_clock 55 = .ok (.aload_n 0, 1) := dk_42 (dk_at dksX1_clock_2 9 rfl rfl)
theorem dX1_clock_56 : decode cX1_clock 56 = .ok (.getfield 86, 3) := dk_180 0 86 (dk_at dksX1_clock_2 10 rfl rfl)
theorem dX1_clock_59 : decode cX1_clock 59 = .ok (.bipush 8, 2) := dk_16 8 (dk_at dksX1_clock_2 13 rfl rfl)
theorem dX1_clock_61 : decode cX1_clock 61 = .ok (.iload_n 1, 1) := dk_27 (dk_at dksX1_clock_2 15 rfl rfl)
theorem dX1_clock_62 : decode cX1_clock 62 = .ok (.imul, 1) := dk_104 (dk_at dksX1_clock_2 16 rfl rfl)
theorem dX1_clock_63 : decode cX1_clock 63 = .ok (.iload_n 2, 1) := dk_28 (dk_at dksX1_clock_2 17 rfl rfl)
theorem dX1_clock_64 : decode cX1_clock 64 = .ok (.iadd, 1) := dk_96 (dk_at dksX1_clock_2 18 rfl rfl)
theorem dX1_clock_65 : decode cX1_clock 65 = .ok (.aload_n 0, 1) := dk_42 (dk_at dksX1_clock_2 19 rfl rfl)
theorem dX1_clock_66 : decode cX1_clock 66 = .ok (.getfield 202, 3) := dk_180 0 202 (dk_at dksX1_clock_2 20 rfl rfl)
theorem dX1_clock_69 : decode cX1_clock 69 = .ok (.iastore, 1) := dk_79 (dk_at dksX1_clock_2 23 rfl rfl)
theorem dX1_clock_70 : decode cX1_clock 70 = .ok (.aload_n 0, 1) := dk_42 (dk_at dksX1_clock_3 0 rfl rfl)
theorem dX1_clock_71 : decode cX1_clock 71 = .ok (.getfield 89, 3) := dk_180 0 89 (dk_at dksX1_clock_3 1 rfl rfl)
theorem dX1_clock_74 : decode cX1_clock 74 = .ok (.bipush 8, 2) := dk_16 8 (dk_at dksX1_clock_3 4 rfl rfl)
theorem dX1_clock_76 : decode cX1_clock 76 = .ok (.iload_n 1, 1) := dk_27 (dk_at dksX1_clock_3 6 rfl rfl)
theorem dX1_clock_77 : decode cX1_clock 77 = .ok (.imul, 1) := dk_104 (dk_at dksX1_clock_3 7 rfl rfl)
theorem dX1_clock_78 : decode cX1_clock 78 = .ok (.iload_n 2, 1) := dk_28 (dk_at dksX1_clock_3 8 rfl rfl)
theorem dX1_clock_79 : decode cX1_clock 79 = .ok (.iadd, 1) := dk_96 (dk_at dksX1_clock_3 9 rfl rfl)
theorem dX1_clock_80 : decode cX1_clock 80 = .ok (.iload_n 3, 1) := dk_29 (dk_at dksX1_clock_3 10 rfl rfl)
theorem dX1_clock_81 : decode cX1_clock 81 = .ok (.iastore, 1) := dk_79 (dk_at dksX1_clock_3 11 rfl rfl)
theorem dX1_clock_82 : decode cX1_clock 82 = .ok (.iconst 1, 1) := dk_4 (dk_at dksX1_clock_3 12 rfl rfl)
theorem dX1_clock_83 : decode cX1_clock 83 = .ok (.ireturn, 1) := dk_172 (dk_at dksX1_clock_3 13 rfl rfl)
abbrev cX1_noCar : ByteArray := prog_12_method_46_code
def yX1_noCar : MethodName := ⟨RX1, "noCar", "(I)Z"⟩
def dkwX1_noCar_0 : List UInt8 := [27, 133, 9, 42, 180, 0, 238, 133, 10, 101, 184, 0, 111, 154, 0, 7, 4, 167, 0, 4, 3, 172]
abbrev dktX1_noCar_0 : List UInt8 := dkwX1_noCar_0 ++ []
theorem dksX1_noCar_0 : cX1_noCar.data.toList.drop 0 = dktX1_noCar_0 := by decide +kernel
theorem dX1_noCar_0 : decode cX1_noCar 0 = .ok (.iload_n 1, 1) := dk_27 (dk_at dksX1_noCar_0 0 rfl rfl)
theorem dX1_noCar_1 : decode cX1_noCar 1 = .ok (.i2l, 1) := dk_133 (dk_at dksX1_noCar_0 1 rfl rfl)
theorem dX1_noCar_2 : decode cX1_noCar 2 = .ok (.lconst 0, 1) := dk_9 (dk_at dksX1_noCar_0 2 rfl rfl)
theorem dX1_noCar_3 : decode cX1_noCar 3 = .ok (.aload_n 0, 1) := dk_42 (dk_at dksX1_noCar_0 3 rfl rfl)
theorem dX1_noCar_4 : decode cX1_noCar 4 = .ok (.getfield 238, 3) := dk_180 0 238 (dk_at dksX1_noCar_0 4 rfl rfl)
theorem dX1_noCar_7 : decode cX1_noCar 7 = .ok (.i2l, 1) := dk_133 (dk_at dksX1_noCar_0 7 rfl rfl)
theorem dX1_noCar_8 : decode cX1_noCar 8 = .ok (.lconst 1, 1) := dk_10 (dk_at dksX1_noCar_0 8 rfl rfl)
theorem dX1_noCar_9 : decode cX1_noCar 9 = .ok (.lsub, 1) := dk_101 (dk_at dksX1_noCar_0 9 rfl rfl)
theorem dX1_noCar_10 : decode cX1_noCar 10 = .ok (.invokestatic 111, 3) := dk_184 0 111 (dk_at dksX1_noCar_0 10 rfl rfl)
theorem dX1_noCar_13 : decode cX1_noCar 13 = .ok (.ifCond .ne 7, 3) := dk_154 0 7 (dk_at dksX1_noCar_0 13 rfl rfl)
theorem dX1_noCar_16 : decode cX1_noCar 16 = .ok (.iconst 1, 1) := dk_4 (dk_at dksX1_noCar_0 16 rfl rfl)
theorem dX1_noCar_17 : decode cX1_noCar 17 = .ok (.goto 4, 3) := dk_167 0 4 (dk_at dksX1_noCar_0 17 rfl rfl)
theorem dX1_noCar_20 : decode cX1_noCar 20 = .ok (.iconst 0, 1) := dk_3 (dk_at dksX1_noCar_0 20 rfl rfl)
theorem dX1_noCar_21 : decode cX1_noCar 21 = .ok (.ireturn, 1) := dk_172 (dk_at dksX1_noCar_0 21 rfl rfl)
abbrev cX1_allow : ByteArray := prog_12_method_49_code
def yX1_allow : MethodName := ⟨RX1, "allow", "(III)I"⟩
def dkwX1_allow_2 : List UInt8 := [180, 0, 92, 16, 8, 27, 104, 28, 96, 29, 79, 21, 4, 172]
abbrev dktX1_allow_2 : List UInt8 := dkwX1_allow_2 ++ []
def dkwX1_allow_1 : List UInt8 := [184, 0, 111, 154, 0, 6, 16, 254, 172, 42, 180, 0, 92, 16, 8, 27, 104, 28, 96, 46, 54, 4, 42]
abbrev dktX1_allow_1 : List UInt8 := dkwX1_allow_1 ++ dktX1_allow_2
def dkwX1_allow_0 : List UInt8 := [42, 27, 182, 0, 243, 154, 0, 11, 42, 28, 182, 0, 228, 153, 0, 5, 2, 172, 29, 133, 9, 20, 0, 216]
abbrev dktX1_allow_0 : List UInt8 := dkwX1_allow_0 ++ dktX1_allow_1
theorem dksX1_allow_0 : cX1_allow.data.toList.drop 0 = dktX1_allow_0 := by decide +kernel
theorem dksX1_allow_1 : cX1_allow.data.toList.drop 24 = dktX1_allow_1 := dk_seg dksX1_allow_0 24 rfl rfl
theorem dksX1_allow_2 : cX1_allow.data.toList.drop 47 = dktX1_allow_2 := dk_seg dksX1_allow_1 23 rfl rfl
theorem dX1_allow_0 : decode cX1_allow 0 = .ok (.aload_n 0, 1) := dk_42 (dk_at dksX1_allow_0 0 rfl rfl)
theorem dX1_allow_1 : decode cX1_allow 1 = .ok (.iload_n 1, 1) := dk_27 (dk_at dksX1_allow_0 1 rfl rfl)
theorem dX1_allow_2 : decode cX1_allow 2 = .ok (.invokevirtual 243, 3) := dk_182 0 243 (dk_at dksX1_allow_0 2 rfl rfl)
theorem dX1_allow_5 : decode cX1_allow 5 = .ok (.ifCond .ne 11, 3) := dk_154 0 11 (dk_at dksX1_allow_0 5 rfl rfl)
theorem dX1_allow_8 : decode cX1_allow 8 = .ok (.aload_n 0, 1) := dk_42 (dk_at dksX1_allow_0 8 rfl rfl)
theorem dX1_allow_9 : decode cX1_allow 9 = .ok (.iload_n 2, 1) := dk_28 (dk_at dksX1_allow_0 9 rfl rfl)
theorem dX1_allow_10 : decode cX1_allow 10 = .ok (.invokevirtual 228, 3) := dk_182 0 228 (dk_at dksX1_allow_0 10 rfl rfl)
theorem dX1_allow_13 : decode cX1_allow 13 = .ok (.ifCond .eq 5, 3) := dk_153 0 5 (dk_at dksX1_allow_0 13 rfl rfl)
theorem dX1_allow_16 : decode cX1_allow 16 = .ok (.iconst (-1), 1) := dk_2 (dk_at dksX1_allow_0 16 rfl rfl)
theorem dX1_allow_17 : decode cX1_allow 17 = .ok (.ireturn, 1) := dk_172 (dk_at dksX1_allow_0 17 rfl rfl)
theorem dX1_allow_18 : decode cX1_allow 18 = .ok (.iload_n 3, 1) := dk_29 (dk_at dksX1_allow_0 18 rfl rfl)
theorem dX1_allow_19 : decode cX1_allow 19 = .ok (.i2l, 1) := dk_133 (dk_at dksX1_allow_0 19 rfl rfl)
theorem dX1_allow_20 : decode cX1_allow 20 = .ok (.lconst 0, 1) := dk_9 (dk_at dksX1_allow_0 20 rfl rfl)
theorem dX1_allow_21 : decode cX1_allow 21 = .ok (.ldc2_w 216, 3) := dk_20 0 216 (dk_at dksX1_allow_0 21 rfl rfl)
theorem dX1_allow_24 : decode cX1_allow 24 = .ok (.invokestatic 111, 3) := dk_184 0 111 (dk_at dksX1_allow_1 0 rfl rfl)
theorem dX1_allow_27 : decode cX1_allow 27 = .ok (.ifCond .ne 6, 3) := dk_154 0 6 (dk_at dksX1_allow_1 3 rfl rfl)
theorem dX1_allow_30 : decode cX1_allow 30 = .ok (.bipush (-2), 2) := dk_16 254 (dk_at dksX1_allow_1 6 rfl rfl)
theorem dX1_allow_32 : decode cX1_allow 32 = .ok (.ireturn, 1) := dk_172 (dk_at dksX1_allow_1 8 rfl rfl)
theorem dX1_allow_33 : decode cX1_allow 33 = .ok (.aload_n 0, 1) := dk_42 (dk_at dksX1_allow_1 9 rfl rfl)
theorem dX1_allow_34 : decode cX1_allow 34 = .ok (.getfield 92, 3) := dk_180 0 92 (dk_at dksX1_allow_1 10 rfl rfl)
theorem dX1_allow_37 : decode cX1_allow 37 = .ok (.bipush 8, 2) := dk_16 8 (dk_at dksX1_allow_1 13 rfl rfl)
theorem dX1_allow_39 : decode cX1_allow 39 = .ok (.iload_n 1, 1) := dk_27 (dk_at dksX1_allow_1 15 rfl rfl)
theorem dX1_allow_40 : decode cX1_allow 40 = .ok (.imul, 1) := dk_104 (dk_at dksX1_allow_1 16 rfl rfl)
theorem dX1_allow_41 : decode cX1_allow 41 = .ok (.iload_n 2, 1) := dk_28 (dk_at dksX1_allow_1 17 rfl rfl)
theorem dX1_allow_42 : decode cX1_allow 42 = .ok (.iadd, 1) := dk_96 (dk_at dksX1_allow_1 18 rfl rfl)
theorem dX1_allow_43 : decode cX1_allow 43 = .ok (.iaload, 1) := dk_46 (dk_at dksX1_allow_1 19 rfl rfl)
theorem dX1_allow_44 : decode cX1_allow 44 = .ok (.istore 4, 2) := dk_54 4 (dk_at dksX1_allow_1 20 rfl rfl)
theorem dX1_allow_46 : decode cX1_allow 46 = .ok (.aload_n 0, 1) := dk_42 (dk_at dksX1_allow_1 22 rfl rfl)
theorem dX1_allow_47 : decode cX1_allow 47 = .ok (.getfield 92, 3) := dk_180 0 92 (dk_at dksX1_allow_2 0 rfl rfl)
theorem dX1_allow_50 : decode cX1_allow 50 = .ok (.bipush 8, 2) := dk_16 8 (dk_at dksX1_allow_2 3 rfl rfl)
theorem dX1_allow_52 : decode cX1_allow 52 = .ok (.iload_n 1, 1) := dk_27 (dk_at dksX1_allow_2 5 rfl rfl)
theorem dX1_allow_53 : decode cX1_allow 53 = .ok (.imul, 1) := dk_104 (dk_at dksX1_allow_2 6 rfl rfl)
theorem dX1_allow_54 : decode cX1_allow 54 = .ok (.iload_n 2, 1) := dk_28 (dk_at dksX1_allow_2 7 rfl rfl)
theorem dX1_allow_55 : decode cX1_allow 55 = .ok (.iadd, 1) := dk_96 (dk_at dksX1_allow_2 8 rfl rfl)
theorem dX1_allow_56 : decode cX1_allow 56 = .ok (.iload_n 3, 1) := dk_29 (dk_at dksX1_allow_2 9 rfl rfl)
theorem dX1_allow_57 : decode cX1_allow 57 = .ok (.iastore, 1) := dk_79 (dk_at dksX1_allow_2 10 rfl rfl)
theorem dX1_allow_58 : decode cX1_allow 58 = .ok (.iload 4, 2) := dk_21 4 (dk_at dksX1_allow_2 11 rfl rfl)
theorem dX1_allow_60 : decode cX1_allow 60 = .ok (.ireturn, 1) := dk_172 (dk_at dksX1_allow_2 13 rfl rfl)
abbrev cX1_error : ByteArray := prog_12_method_52_code
def yX1_error : MethodName := ⟨RX1, "error", "(II)J"⟩
def dkwX1_error_2 : List UInt8 := [182, 0, 252, 173]
abbrev dktX1_error_2 : List UInt8 := dkwX1_error_2 ++ []
def dkwX1_error_1 : List UInt8 := [28, 96, 46, 153, 0, 10, 42, 182, 0, 220, 154, 0, 9, 184, 0, 104, 167, 0, 9, 42, 27, 28]
abbrev dktX1_error_1 : List UInt8 := dkwX1_error_1 ++ dktX1_error_2
def dkwX1_error_0 : List UInt8 := [42, 27, 182, 0, 243, 154, 0, 32, 42, 28, 182, 0, 228, 154, 0, 24, 42, 180, 0, 86, 16, 8, 27, 104]
abbrev dktX1_error_0 : List UInt8 := dkwX1_error_0 ++ dktX1_error_1
theorem dksX1_error_0 : cX1_error.data.toList.drop 0 = dktX1_error_0 := by decide +kernel
theorem dksX1_error_1 : cX1_error.data.toList.drop 24 = dktX1_error_1 := dk_seg dksX1_error_0 24 rfl rfl
theorem dksX1_error_2 : cX1_error.data.toList.drop 46 = dktX1_error_2 := dk_seg dksX1_error_1 22 rfl rfl
theorem dX1_error_0 : decode cX1_error 0 = .ok (.aload_n 0, 1) := dk_42 (dk_at dksX1_error_0 0 rfl rfl)
theorem dX1_error_1 : decode cX1_error 1 = .ok (.iload_n 1, 1) := dk_27 (dk_at dksX1_error_0 1 rfl rfl)
theorem dX1_error_2 : decode cX1_error 2 = .ok (.invokevirtual 243, 3) := dk_182 0 243 (dk_at dksX1_error_0 2 rfl rfl)
theorem dX1_error_5 : decode cX1_error 5 = .ok (.ifCond .ne 32, 3) := dk_154 0 32 (dk_at dksX1_error_0 5 rfl rfl)
theorem dX1_error_8 : decode cX1_error 8 = .ok (.aload_n 0, 1) := dk_42 (dk_at dksX1_error_0 8 rfl rfl)
theorem dX1_error_9 : decode cX1_error 9 = .ok (.iload_n 2, 1) := dk_28 (dk_at dksX1_error_0 9 rfl rfl)
theorem dX1_error_10 : decode cX1_error 10 = .ok (.invokevirtual 228, 3) := dk_182 0 228 (dk_at dksX1_error_0 10 rfl rfl)
theorem dX1_error_13 : decode cX1_error 13 = .ok (.ifCond .ne 24, 3) := dk_154 0 24 (dk_at dksX1_error_0 13 rfl rfl)
theorem dX1_error_16 : decode cX1_error 16 = .ok (.aload_n 0, 1) := dk_42 (dk_at dksX1_error_0 16 rfl rfl)
theorem dX1_error_17 : decode cX1_error 17 = .ok (.getfield 86, 3) := dk_180 0 86 (dk_at dksX1_error_0 17 rfl rfl)
theorem dX1_error_20 : decode cX1_error 20 = .ok (.bipush 8, 2) := dk_16 8 (dk_at dksX1_error_0 20 rfl rfl)
theorem dX1_error_22 : decode cX1_error 22 = .ok (.iload_n 1, 1) := dk_27 (dk_at dksX1_error_0 22 rfl rfl)
theorem dX1_error_23 : decode cX1_error 23 = .ok (.imul, 1) := dk_104 (dk_at dksX1_error_0 23 rfl rfl)
theorem dX1_error_24 : decode cX1_error 24 = .ok (.iload_n 2, 1) := dk_28 (dk_at dksX1_error_1 0 rfl rfl)
theorem dX1_error_25 : decode cX1_error 25 = .ok (.iadd, 1) := dk_96 (dk_at dksX1_error_1 1 rfl rfl)
theorem dX1_error_26 : decode cX1_error 26 = .ok (.iaload, 1) := dk_46 (dk_at dksX1_error_1 2 rfl rfl)
theorem dX1_error_27 : decode cX1_error 27 = .ok (.ifCond .eq 10, 3) := dk_153 0 10 (dk_at dksX1_error_1 3 rfl rfl)
theorem dX1_error_30 : decode cX1_error 30 = .ok (.aload_n 0, 1) := dk_42 (dk_at dksX1_error_1 6 rfl rfl)
theorem dX1_error_31 : decode cX1_error 31 = .ok (.invokevirtual 220, 3) := dk_182 0 220 (dk_at dksX1_error_1 7 rfl rfl)
theorem dX1_error_34 : decode cX1_error 34 = .ok (.ifCond .ne 9, 3) := dk_154 0 9 (dk_at dksX1_error_1 10 rfl rfl)
theorem dX1_error_37 : decode cX1_error 37 = .ok (.invokestatic 104, 3) := dk_184 0 104 (dk_at dksX1_error_1 13 rfl rfl)
theorem dX1_error_40 : decode cX1_error 40 = .ok (.goto 9, 3) := dk_167 0 9 (dk_at dksX1_error_1 16 rfl rfl)
theorem dX1_error_43 : decode cX1_error 43 = .ok (.aload_n 0, 1) := dk_42 (dk_at dksX1_error_1 19 rfl rfl)
theorem dX1_error_44 : decode cX1_error 44 = .ok (.iload_n 1, 1) := dk_27 (dk_at dksX1_error_1 20 rfl rfl)
theorem dX1_error_45 : decode cX1_error 45 = .ok (.iload_n 2, 1) := dk_28 (dk_at dksX1_error_1 21 rfl rfl)
theorem dX1_error_46 : decode cX1_error 46 = .ok (.invokevirtual 252, 3) := dk_182 0 252 (dk_at dksX1_error_2 0 rfl rfl)
theorem dX1_error_49 : decode cX1_error 49 = .ok (.lreturn, 1) := dk_173 (dk_at dksX1_error_2 3 rfl rfl)
abbrev cX1_errorAt : ByteArray := prog_12_method_51_code
def yX1_errorAt : MethodName := ⟨RX1, "errorAt", "(II)J"⟩
def dkwX1_errorAt_2 : List UInt8 := [28, 182, 0, 248, 101, 55, 5, 22, 5, 9, 148, 158, 0, 8, 22, 5, 167, 0, 4, 9, 173]
abbrev dktX1_errorAt_2 : List UInt8 := dkwX1_errorAt_2 ++ []
def dkwX1_errorAt_1 : List UInt8 := [101, 42, 42, 180, 0, 68, 28, 46, 182, 0, 223, 101, 66, 33, 9, 148, 157, 0, 5, 33, 173, 33, 42, 27]
abbrev dktX1_errorAt_1 : List UInt8 := dkwX1_errorAt_1 ++ dktX1_errorAt_2
def dkwX1_errorAt_0 : List UInt8 := [42, 28, 42, 180, 0, 89, 16, 8, 27, 104, 28, 96, 46, 133, 182, 0, 234, 42, 180, 0, 80, 27, 46, 133]
abbrev dktX1_errorAt_0 : List UInt8 := dkwX1_errorAt_0 ++ dktX1_errorAt_1
theorem dksX1_errorAt_0 : cX1_errorAt.data.toList.drop 0 = dktX1_errorAt_0 := by decide +kernel
theorem dksX1_errorAt_1 : cX1_errorAt.data.toList.drop 24 = dktX1_errorAt_1 := dk_seg dksX1_errorAt_0 24 rfl rfl
theorem dksX1_errorAt_2 : cX1_errorAt.data.toList.drop 48 = dktX1_errorAt_2 := dk_seg dksX1_errorAt_1 24 rfl rfl
theorem dX1_errorAt_0 : decode cX1_errorAt 0 = .ok (.aload_n 0, 1) := dk_42 (dk_at dksX1_errorAt_0 0 rfl rfl)
theorem dX1_errorAt_1 : decode cX1_errorAt 1 = .ok (.iload_n 2, 1) := dk_28 (dk_at dksX1_errorAt_0 1 rfl rfl)
theorem dX1_errorAt_2 : decode cX1_errorAt 2 = .ok (.aload_n 0, 1) := dk_42 (dk_at dksX1_errorAt_0 2 rfl rfl)
theorem dX1_errorAt_3 : decode cX1_errorAt 3 = .ok (.getfield 89, 3) := dk_180 0 89 (dk_at dksX1_errorAt_0 3 rfl rfl)
theorem dX1_errorAt_6 : decode cX1_errorAt 6 = .ok (.bipush 8, 2) := dk_16 8 (dk_at dksX1_errorAt_0 6 rfl rfl)
theorem dX1_errorAt_8 : decode cX1_errorAt 8 = .ok (.iload_n 1, 1) := dk_27 (dk_at dksX1_errorAt_0 8 rfl rfl)
theorem dX1_errorAt_9 : decode cX1_errorAt 9 = .ok (.imul, 1) := dk_104 (dk_at dksX1_errorAt_0 9 rfl rfl)
theorem dX1_errorAt_10 : decode cX1_errorAt 10 = .ok (.iload_n 2, 1) := dk_28 (dk_at dksX1_errorAt_0 10 rfl rfl)
theorem dX1_errorAt_11 : decode cX1_errorAt 11 = .ok (.iadd, 1) := dk_96 (dk_at dksX1_errorAt_0 11 rfl rfl)
theorem dX1_errorAt_12 : decode cX1_errorAt 12 = .ok (.iaload, 1) := dk_46 (dk_at dksX1_errorAt_0 12 rfl rfl)
theorem dX1_errorAt_13 : decode cX1_errorAt 13 = .ok (.i2l, 1) := dk_133 (dk_at dksX1_errorAt_0 13 rfl rfl)
theorem dX1_errorAt_14 : decode cX1_errorAt 14 = .ok (.invokevirtual 234, 3) := dk_182 0 234 (dk_at dksX1_errorAt_0 14 rfl rfl)
theorem dX1_errorAt_17 : decode cX1_errorAt 17 = .ok (.aload_n 0, 1) := dk_42 (dk_at dksX1_errorAt_0 17 rfl rfl)
theorem dX1_errorAt_18 : decode cX1_errorAt 18 = .ok (.getfield 80, 3) := dk_180 0 80 (dk_at dksX1_errorAt_0 18 rfl rfl)
theorem dX1_errorAt_21 : decode cX1_errorAt 21 = .ok (.iload_n 1, 1) := dk_27 (dk_at dksX1_errorAt_0 21 rfl rfl)
theorem dX1_errorAt_22 : decode cX1_errorAt 22 = .ok (.iaload, 1) := dk_46 (dk_at dksX1_errorAt_0 22 rfl rfl)
theorem dX1_errorAt_23 : decode cX1_errorAt 23 = .ok (.i2l, 1) := dk_133 (dk_at dksX1_errorAt_0 23 rfl rfl)
theorem dX1_errorAt_24 : decode cX1_errorAt 24 = .ok (.lsub, 1) := dk_101 (dk_at dksX1_errorAt_1 0 rfl rfl)
theorem dX1_errorAt_25 : decode cX1_errorAt 25 = .ok (.aload_n 0, 1) := dk_42 (dk_at dksX1_errorAt_1 1 rfl rfl)
theorem dX1_errorAt_26 : decode cX1_errorAt 26 = .ok (.aload_n 0, 1) := dk_42 (dk_at dksX1_errorAt_1 2 rfl rfl)
theorem dX1_errorAt_27 : decode cX1_errorAt 27 = .ok (.getfield 68, 3) := dk_180 0 68 (dk_at dksX1_errorAt_1 3 rfl rfl)
theorem dX1_errorAt_30 : decode cX1_errorAt 30 = .ok (.iload_n 2, 1) := dk_28 (dk_at dksX1_errorAt_1 6 rfl rfl)
theorem dX1_errorAt_31 : decode cX1_errorAt 31 = .ok (.iaload, 1) := dk_46 (dk_at dksX1_errorAt_1 7 rfl rfl)
theorem dX1_errorAt_32 : decode cX1_errorAt 32 = .ok (.invokevirtual 223, 3) := dk_182 0 223 (dk_at dksX1_errorAt_1 8 rfl rfl)
theorem dX1_errorAt_35 : decode cX1_errorAt 35 = .ok (.lsub, 1) := dk_101 (dk_at dksX1_errorAt_1 11 rfl rfl)
theorem dX1_errorAt_36 : decode cX1_errorAt 36 = .ok (.lstore_n 3, 1) := dk_66 (dk_at dksX1_errorAt_1 12 rfl rfl)
theorem dX1_errorAt_37 : decode cX1_errorAt 37 = .ok (.lload_n 3, 1) := dk_33 (dk_at dksX1_errorAt_1 13 rfl rfl)
theorem dX1_errorAt_38 : decode cX1_errorAt 38 = .ok (.lconst 0, 1) := dk_9 (dk_at dksX1_errorAt_1 14 rfl rfl)
theorem dX1_errorAt_39 : decode cX1_errorAt 39 = .ok (.lcmp, 1) := dk_148 (dk_at dksX1_errorAt_1 15 rfl rfl)
theorem dX1_errorAt_40 : decode cX1_errorAt 40 = .ok (.ifCond .gt 5, 3) := dk_157 0 5 (dk_at dksX1_errorAt_1 16 rfl rfl)
theorem dX1_errorAt_43 : decode cX1_errorAt 43 = .ok (.lload_n 3, 1) := dk_33 (dk_at dksX1_errorAt_1 19 rfl rfl)
theorem dX1_errorAt_44 : decode cX1_errorAt 44 = .ok (.lreturn, 1) := dk_173 (dk_at dksX1_errorAt_1 20 rfl rfl)
theorem dX1_errorAt_45 : decode cX1_errorAt 45 = .ok (.lload_n 3, 1) := dk_33 (dk_at dksX1_errorAt_1 21 rfl rfl)
theorem dX1_errorAt_46 : decode cX1_errorAt 46 = .ok (.aload_n 0, 1) := dk_42 (dk_at dksX1_errorAt_1 22 rfl rfl)
theorem dX1_errorAt_47 : decode cX1_errorAt 47 = .ok (.iload_n 1, 1) := dk_27 (dk_at dksX1_errorAt_1 23 rfl rfl)
theorem dX1_errorAt_48 : decode cX1_errorAt 48 = .ok (.iload_n 2, 1) := dk_28 (dk_at dksX1_errorAt_2 0 rfl rfl)
theorem dX1_errorAt_49 : decode cX1_errorAt 49 = .ok (.invokevirtual 248, 3) := dk_182 0 248 (dk_at dksX1_errorAt_2 1 rfl rfl)
theorem dX1_errorAt_52 : decode cX1_errorAt 52 = .ok (.lsub, 1) := dk_101 (dk_at dksX1_errorAt_2 4 rfl rfl)
theorem dX1_errorAt_53 : decode cX1_errorAt 53 = .ok (.lstore 5, 2) := dk_55 5 (dk_at dksX1_errorAt_2 5 rfl rfl)
theorem dX1_errorAt_55 : decode cX1_errorAt 55 = .ok (.lload 5, 2) := dk_22 5 (dk_at dksX1_errorAt_2 7 rfl rfl)
theorem dX1_errorAt_57 : decode cX1_errorAt 57 = .ok (.lconst 0, 1) := dk_9 (dk_at dksX1_errorAt_2 9 rfl rfl)
theorem dX1_errorAt_58 : decode cX1_errorAt 58 = .ok (.lcmp, 1) := dk_148 (dk_at dksX1_errorAt_2 10 rfl rfl)
theorem dX1_errorAt_59 : decode cX1_errorAt 59 = .ok (.ifCond .le 8, 3) := dk_158 0 8 (dk_at dksX1_errorAt_2 11 rfl rfl)
theorem dX1_errorAt_62 : decode cX1_errorAt 62 = .ok (.lload 5, 2) := dk_22 5 (dk_at dksX1_errorAt_2 14 rfl rfl)
theorem dX1_errorAt_64 : decode cX1_errorAt 64 = .ok (.goto 4, 3) := dk_167 0 4 (dk_at dksX1_errorAt_2 16 rfl rfl)
theorem dX1_errorAt_67 : decode cX1_errorAt 67 = .ok (.lconst 0, 1) := dk_9 (dk_at dksX1_errorAt_2 19 rfl rfl)
theorem dX1_errorAt_68 : decode cX1_errorAt 68 = .ok (.lreturn, 1) := dk_173 (dk_at dksX1_errorAt_2 20 rfl rfl)
abbrev cX1_carried : ByteArray := prog_12_method_50_code
def yX1_carried : MethodName := ⟨RX1, "carried", "(II)J"⟩
def dkwX1_carried_3 : List UInt8 := [167, 255, 190, 33, 20, 0, 246, 148, 156, 0, 7, 33, 167, 0, 6, 20, 0, 246, 173]
abbrev dktX1_carried_3 : List UInt8 := dkwX1_carried_3 ++ []
def dkwX1_carried_2 : List UInt8 := [17, 2, 88, 162, 0, 9, 21, 6, 133, 167, 0, 10, 20, 0, 218, 167, 0, 4, 9, 97, 66, 132, 5, 1]
abbrev dktX1_carried_2 : List UInt8 := dkwX1_carried_2 ++ dktX1_carried_3
def dkwX1_carried_1 : List UInt8 := [96, 46, 54, 6, 33, 42, 180, 0, 68, 21, 5, 46, 42, 180, 0, 68, 28, 46, 163, 0, 23, 21, 6]
abbrev dktX1_carried_1 : List UInt8 := dkwX1_carried_1 ++ dktX1_carried_2
def dkwX1_carried_0 : List UInt8 := [9, 66, 3, 54, 5, 21, 5, 42, 180, 0, 199, 162, 0, 63, 42, 180, 0, 92, 16, 8, 27, 104, 21, 5]
abbrev dktX1_carried_0 : List UInt8 := dkwX1_carried_0 ++ dktX1_carried_1
theorem dksX1_carried_0 : cX1_carried.data.toList.drop 0 = dktX1_carried_0 := by decide +kernel
theorem dksX1_carried_1 : cX1_carried.data.toList.drop 24 = dktX1_carried_1 := dk_seg dksX1_carried_0 24 rfl rfl
theorem dksX1_carried_2 : cX1_carried.data.toList.drop 47 = dktX1_carried_2 := dk_seg dksX1_carried_1 23 rfl rfl
theorem dksX1_carried_3 : cX1_carried.data.toList.drop 71 = dktX1_carried_3 := dk_seg dksX1_carried_2 24 rfl rfl
theorem dX1_carried_0 : decode cX1_carried 0 = .ok (.lconst 0, 1) := dk_9 (dk_at dksX1_carried_0 0 rfl rfl)
theorem dX1_carried_1 : decode cX1_carried 1 = .ok (.lstore_n 3, 1) := dk_66 (dk_at dksX1_carried_0 1 rfl rfl)
theorem dX1_carried_2 : decode cX1_carried 2 = .ok (.iconst 0, 1) := dk_3 (dk_at dksX1_carried_0 2 rfl rfl)
theorem dX1_carried_3 : decode cX1_carried 3 = .ok (.istore 5, 2) := dk_54 5 (dk_at dksX1_carried_0 3 rfl rfl)
theorem dX1_carried_5 : decode cX1_carried 5 = .ok (.iload 5, 2) := dk_21 5 (dk_at dksX1_carried_0 5 rfl rfl)
theorem dX1_carried_7 : decode cX1_carried 7 = .ok (.aload_n 0, 1) := dk_42 (dk_at dksX1_carried_0 7 rfl rfl)
theorem dX1_carried_8 : decode cX1_carried 8 = .ok (.getfield 199, 3) := dk_180 0 199 (dk_at dksX1_carried_0 8 rfl rfl)
theorem dX1_carried_11 : decode cX1_carried 11 = .ok (.if_icmp .ge 63, 3) := dk_162 0 63 (dk_at dksX1_carried_0 11 rfl rfl)
theorem dX1_carried_14 : decode cX1_carried 14 = .ok (.aload_n 0, 1) := dk_42 (dk_at dksX1_carried_0 14 rfl rfl)
theorem dX1_carried_15 : decode cX1_carried 15 = .ok (.getfield 92, 3) := dk_180 0 92 (dk_at dksX1_carried_0 15 rfl rfl)
theorem dX1_carried_18 : decode cX1_carried 18 = .ok (.bipush 8, 2) := dk_16 8 (dk_at dksX1_carried_0 18 rfl rfl)
theorem dX1_carried_20 : decode cX1_carried 20 = .ok (.iload_n 1, 1) := dk_27 (dk_at dksX1_carried_0 20 rfl rfl)
theorem dX1_carried_21 : decode cX1_carried 21 = .ok (.imul, 1) := dk_104 (dk_at dksX1_carried_0 21 rfl rfl)
theorem dX1_carried_22 : decode cX1_carried 22 = .ok (.iload 5, 2) := dk_21 5 (dk_at dksX1_carried_0 22 rfl rfl)
theorem dX1_carried_24 : decode cX1_carried 24 = .ok (.iadd, 1) := dk_96 (dk_at dksX1_carried_1 0 rfl rfl)
theorem dX1_carried_25 : decode cX1_carried 25 = .ok (.iaload, 1) := dk_46 (dk_at dksX1_carried_1 1 rfl rfl)
theorem dX1_carried_26 : decode cX1_carried 26 = .ok (.istore 6, 2) := dk_54 6 (dk_at dksX1_carried_1 2 rfl rfl)
theorem dX1_carried_28 : decode cX1_carried 28 = .ok (.lload_n 3, 1) := dk_33 (dk_at dksX1_carried_1 4 rfl rfl)
theorem dX1_carried_29 : decode cX1_carried 29 = .ok (.aload_n 0, 1) := dk_42 (dk_at dksX1_carried_1 5 rfl rfl)
theorem dX1_carried_30 : decode cX1_carried 30 = .ok (.getfield 68, 3) := dk_180 0 68 (dk_at dksX1_carried_1 6 rfl rfl)
theorem dX1_carried_33 : decode cX1_carried 33 = .ok (.iload 5, 2) := dk_21 5 (dk_at dksX1_carried_1 9 rfl rfl)
theorem dX1_carried_35 : decode cX1_carried 35 = .ok (.iaload, 1) := dk_46 (dk_at dksX1_carried_1 11 rfl rfl)
theorem dX1_carried_36 : decode cX1_carried 36 = .ok (.aload_n 0, 1) := dk_42 (dk_at dksX1_carried_1 12 rfl rfl)
theorem dX1_carried_37 : decode cX1_carried 37 = .ok (.getfield 68, 3) := dk_180 0 68 (dk_at dksX1_carried_1 13 rfl rfl)
theorem dX1_carried_40 : decode cX1_carried 40 = .ok (.iload_n 2, 1) := dk_28 (dk_at dksX1_carried_1 16 rfl rfl)
theorem dX1_carried_41 : decode cX1_carried 41 = .ok (.iaload, 1) := dk_46 (dk_at dksX1_carried_1 17 rfl rfl)
theorem dX1_carried_42 : decode cX1_carried 42 = .ok (.if_icmp .gt 23, 3) := dk_163 0 23 (dk_at dksX1_carried_1 18 rfl rfl)
theorem dX1_carried_45 : decode cX1_carried 45 = .ok (.iload 6, 2) := dk_21 6 (dk_at dksX1_carried_1 21 rfl rfl)
theorem dX1_carried_47 : decode cX1_carried 47 = .ok (.sipush 600, 3) := dk_17 2 88 (dk_at dksX1_carried_2 0 rfl rfl)
theorem dX1_carried_50 : decode cX1_carried 50 = .ok (.if_icmp .ge 9, 3) := dk_162 0 9 (dk_at dksX1_carried_2 3 rfl rfl)
theorem dX1_carried_53 : decode cX1_carried 53 = .ok (.iload 6, 2) := dk_21 6 (dk_at dksX1_carried_2 6 rfl rfl)
theorem dX1_carried_55 : decode cX1_carried 55 = .ok (.i2l, 1) := dk_133 (dk_at dksX1_carried_2 8 rfl rfl)
theorem dX1_carried_56 : decode cX1_carried 56 = .ok (.goto 10, 3) := dk_167 0 10 (dk_at dksX1_carried_2 9 rfl rfl)
theorem dX1_carried_59 : decode cX1_carried 59 = .ok (.ldc2_w 218, 3) := dk_20 0 218 (dk_at dksX1_carried_2 12 rfl rfl)
theorem dX1_carried_62 : decode cX1_carried 62 = .ok (.goto 4, 3) := dk_167 0 4 (dk_at dksX1_carried_2 15 rfl rfl)
theorem dX1_carried_65 : decode cX1_carried 65 = .ok (.lconst 0, 1) := dk_9 (dk_at dksX1_carried_2 18 rfl rfl)
theorem dX1_carried_66 : decode cX1_carried 66 = .ok (.ladd, 1) := dk_97 (dk_at dksX1_carried_2 19 rfl rfl)
theorem dX1_carried_67 : decode cX1_carried 67 = .ok (.lstore_n 3, 1) := dk_66 (dk_at dksX1_carried_2 20 rfl rfl)
theorem dX1_carried_68 : decode cX1_carried 68 = .ok (.iinc 5 1, 3) := dk_132 5 1 (dk_at dksX1_carried_2 21 rfl rfl)
theorem dX1_carried_71 : decode cX1_carried 71 = .ok (.goto (-66), 3) := dk_167 255 190 (dk_at dksX1_carried_3 0 rfl rfl)
theorem dX1_carried_74 : decode cX1_carried 74 = .ok (.lload_n 3, 1) := dk_33 (dk_at dksX1_carried_3 3 rfl rfl)
theorem dX1_carried_75 : decode cX1_carried 75 = .ok (.ldc2_w 246, 3) := dk_20 0 246 (dk_at dksX1_carried_3 4 rfl rfl)
theorem dX1_carried_78 : decode cX1_carried 78 = .ok (.lcmp, 1) := dk_148 (dk_at dksX1_carried_3 7 rfl rfl)
theorem dX1_carried_79 : decode cX1_carried 79 = .ok (.ifCond .ge 7, 3) := dk_156 0 7 (dk_at dksX1_carried_3 8 rfl rfl)
theorem dX1_carried_82 : decode cX1_carried 82 = .ok (.lload_n 3, 1) := dk_33 (dk_at dksX1_carried_3 11 rfl rfl)
theorem dX1_carried_83 : decode cX1_carried 83 = .ok (.goto 6, 3) := dk_167 0 6 (dk_at dksX1_carried_3 12 rfl rfl)
theorem dX1_carried_86 : decode cX1_carried 86 = .ok (.ldc2_w 246, 3) := dk_20 0 246 (dk_at dksX1_carried_3 15 rfl rfl)
theorem dX1_carried_89 : decode cX1_carried 89 = .ok (.lreturn, 1) := dk_173 (dk_at dksX1_carried_3 18 rfl rfl)
abbrev cX1_points : ByteArray := prog_12_method_55_code
def yX1_points : MethodName := ⟨RX1, "points", "(II)I"⟩
def dkwX1_points_1 : List UInt8 := [153, 0, 12, 42, 27, 28, 182, 1, 9, 167, 0, 5, 16, 253, 172]
abbrev dktX1_points_1 : List UInt8 := dkwX1_points_1 ++ []
def dkwX1_points_0 : List UInt8 := [42, 27, 182, 0, 243, 154, 0, 11, 42, 28, 182, 0, 228, 153, 0, 5, 2, 172, 42, 182, 0, 220]
abbrev dktX1_points_0 : List UInt8 := dkwX1_points_0 ++ dktX1_points_1
theorem dksX1_points_0 : cX1_points.data.toList.drop 0 = dktX1_points_0 := by decide +kernel
theorem dksX1_points_1 : cX1_points.data.toList.drop 22 = dktX1_points_1 := dk_seg dksX1_points_0 22 rfl rfl
theorem dX1_points_0 : decode cX1_points 0 = .ok (.aload_n 0, 1) := dk_42 (dk_at dksX1_points_0 0 rfl rfl)
theorem dX1_points_1 : decode cX1_points 1 = .ok (.iload_n 1, 1) := dk_27 (dk_at dksX1_points_0 1 rfl rfl)
theorem dX1_points_2 : decode cX1_points 2 = .ok (.invokevirtual 243, 3) := dk_182 0 243 (dk_at dksX1_points_0 2 rfl rfl)
theorem dX1_points_5 : decode cX1_points 5 = .ok (.ifCond .ne 11, 3) := dk_154 0 11 (dk_at dksX1_points_0 5 rfl rfl)
theorem dX1_points_8 : decode cX1_points 8 = .ok (.aload_n 0, 1) := dk_42 (dk_at dksX1_points_0 8 rfl rfl)
theorem dX1_points_9 : decode cX1_points 9 = .ok (.iload_n 2, 1) := dk_28 (dk_at dksX1_points_0 9 rfl rfl)
theorem dX1_points_10 : decode cX1_points 10 = .ok (.invokevirtual 228, 3) := dk_182 0 228 (dk_at dksX1_points_0 10 rfl rfl)
theorem dX1_points_13 : decode cX1_points 13 = .ok (.ifCond .eq 5, 3) := dk_153 0 5 (dk_at dksX1_points_0 13 rfl rfl)
theorem dX1_points_16 : decode cX1_points 16 = .ok (.iconst (-1), 1) := dk_2 (dk_at dksX1_points_0 16 rfl rfl)
theorem dX1_points_17 : decode cX1_points 17 = .ok (.ireturn, 1) := dk_172 (dk_at dksX1_points_0 17 rfl rfl)
theorem dX1_points_18 : decode cX1_points 18 = .ok (.aload_n 0, 1) := dk_42 (dk_at dksX1_points_0 18 rfl rfl)
theorem dX1_points_19 : decode cX1_points 19 = .ok (.invokevirtual 220, 3) := dk_182 0 220 (dk_at dksX1_points_0 19 rfl rfl)
theorem dX1_points_22 : decode cX1_points 22 = .ok (.ifCond .eq 12, 3) := dk_153 0 12 (dk_at dksX1_points_1 0 rfl rfl)
theorem dX1_points_25 : decode cX1_points 25 = .ok (.aload_n 0, 1) := dk_42 (dk_at dksX1_points_1 3 rfl rfl)
theorem dX1_points_26 : decode cX1_points 26 = .ok (.iload_n 1, 1) := dk_27 (dk_at dksX1_points_1 4 rfl rfl)
theorem dX1_points_27 : decode cX1_points 27 = .ok (.iload_n 2, 1) := dk_28 (dk_at dksX1_points_1 5 rfl rfl)
theorem dX1_points_28 : decode cX1_points 28 = .ok (.invokevirtual 265, 3) := dk_182 1 9 (dk_at dksX1_points_1 6 rfl rfl)
theorem dX1_points_31 : decode cX1_points 31 = .ok (.goto 5, 3) := dk_167 0 5 (dk_at dksX1_points_1 9 rfl rfl)
theorem dX1_points_34 : decode cX1_points 34 = .ok (.bipush (-3), 2) := dk_16 253 (dk_at dksX1_points_1 12 rfl rfl)
theorem dX1_points_36 : decode cX1_points 36 = .ok (.ireturn, 1) := dk_172 (dk_at dksX1_points_1 14 rfl rfl)
abbrev cX1_pointsAt : ByteArray := prog_12_method_54_code
def yX1_pointsAt : MethodName := ⟨RX1, "pointsAt", "(II)I"⟩
def dkwX1_pointsAt_6 : List UInt8 := [158, 0, 9, 20, 1, 7, 167, 0, 5, 22, 5, 136, 172]
abbrev dktX1_pointsAt_6 : List UInt8 := dkwX1_pointsAt_6 ++ []
def dkwX1_pointsAt_5 : List UInt8 := [109, 167, 0, 5, 22, 5, 55, 5, 42, 180, 0, 83, 27, 46, 5, 160, 0, 18, 22, 5, 20, 1, 7, 148]
abbrev dktX1_pointsAt_5 : List UInt8 := dkwX1_pointsAt_5 ++ dktX1_pointsAt_6
def dkwX1_pointsAt_4 : List UInt8 := [20, 1, 5, 167, 0, 5, 22, 5, 55, 5, 42, 180, 0, 83, 27, 46, 158, 0, 12, 22, 5, 20, 0, 123]
abbrev dktX1_pointsAt_4 : List UInt8 := dkwX1_pointsAt_4 ++ dktX1_pointsAt_5
def dkwX1_pointsAt_3 : List UInt8 := [167, 0, 12, 33, 20, 0, 115, 97, 20, 1, 3, 109, 55, 5, 22, 5, 20, 1, 5, 148, 158, 0, 9]
abbrev dktX1_pointsAt_3 : List UInt8 := dkwX1_pointsAt_3 ++ dktX1_pointsAt_4
def dkwX1_pointsAt_2 : List UInt8 := [182, 0, 252, 66, 33, 9, 148, 156, 0, 19, 20, 0, 123, 20, 0, 115, 33, 101, 20, 1, 3, 109, 105]
abbrev dktX1_pointsAt_2 : List UInt8 := dkwX1_pointsAt_2 ++ dktX1_pointsAt_3
def dkwX1_pointsAt_1 : List UInt8 := [154, 0, 7, 17, 1, 44, 172, 42, 27, 28, 182, 0, 255, 153, 0, 6, 16, 100, 172, 42, 27, 28]
abbrev dktX1_pointsAt_1 : List UInt8 := dkwX1_pointsAt_1 ++ dktX1_pointsAt_2
def dkwX1_pointsAt_0 : List UInt8 := [42, 180, 0, 71, 28, 51, 153, 0, 5, 3, 172, 42, 180, 0, 86, 16, 8, 27, 104, 28, 96, 46]
abbrev dktX1_pointsAt_0 : List UInt8 := dkwX1_pointsAt_0 ++ dktX1_pointsAt_1
theorem dksX1_pointsAt_0 : cX1_pointsAt.data.toList.drop 0 = dktX1_pointsAt_0 := by decide +kernel
theorem dksX1_pointsAt_1 : cX1_pointsAt.data.toList.drop 22 = dktX1_pointsAt_1 := dk_seg dksX1_pointsAt_0 22 rfl rfl
theorem dksX1_pointsAt_2 : cX1_pointsAt.data.toList.drop 44 = dktX1_pointsAt_2 := dk_seg dksX1_pointsAt_1 22 rfl rfl
theorem dksX1_pointsAt_3 : cX1_pointsAt.data.toList.drop 67 = dktX1_pointsAt_3 := dk_seg dksX1_pointsAt_2 23 rfl rfl
theorem dksX1_pointsAt_4 : cX1_pointsAt.data.toList.drop 90 = dktX1_pointsAt_4 := dk_seg dksX1_pointsAt_3 23 rfl rfl
theorem dksX1_pointsAt_5 : cX1_pointsAt.data.toList.drop 114 = dktX1_pointsAt_5 := dk_seg dksX1_pointsAt_4 24 rfl rfl
theorem dksX1_pointsAt_6 : cX1_pointsAt.data.toList.drop 138 = dktX1_pointsAt_6 := dk_seg dksX1_pointsAt_5 24 rfl rfl
theorem dX1_pointsAt_0 : decode cX1_pointsAt 0 = .ok (.aload_n 0, 1) := dk_42 (dk_at dksX1_pointsAt_0 0 rfl rfl)
theorem dX1_pointsAt_1 : decode cX1_pointsAt 1 = .ok (.getfield 71, 3) := dk_180 0 71 (dk_at dksX1_pointsAt_0 1 rfl rfl)
theorem dX1_pointsAt_4 : decode cX1_pointsAt 4 = .ok (.iload_n 2, 1) := dk_28 (dk_at dksX1_pointsAt_0 4 rfl rfl)
theorem dX1_pointsAt_5 : decode cX1_pointsAt 5 = .ok (.baload, 1) := dk_51 (dk_at dksX1_pointsAt_0 5 rfl rfl)
theorem dX1_pointsAt_6 : decode cX1_pointsAt 6 = .ok (.ifCond .eq 5, 3) := dk_153 0 5 (dk_at dksX1_pointsAt_0 6 rfl rfl)
theorem dX1_pointsAt_9 : decode cX1_pointsAt 9 = .ok (.iconst 0, 1) := dk_3 (dk_at dksX1_pointsAt_0 9 rfl rfl)
theorem dX1_pointsAt_10 : decode cX1_pointsAt 10 = .ok (.ireturn, 1) := dk_172 (dk_at dksX1_pointsAt_0 10 rfl rfl)
theorem dX1_pointsAt_11 : decode cX1_pointsAt 11 = .ok (.aload_n 0, 1) := dk_42 (dk_at dksX1_pointsAt_0 11 rfl rfl)
theorem dX1_pointsAt_12 : decode cX1_pointsAt 12 = .ok (.getfield 86, 3) := dk_180 0 86 (dk_at dksX1_pointsAt_0 12 rfl rfl)
theorem dX1_pointsAt_15 : decode cX1_pointsAt 15 = .ok (.bipush 8, 2) := dk_16 8 (dk_at dksX1_pointsAt_0 15 rfl rfl)
theorem dX1_pointsAt_17 : decode cX1_pointsAt 17 = .ok (.iload_n 1, 1) := dk_27 (dk_at dksX1_pointsAt_0 17 rfl rfl)
theorem dX1_pointsAt_18 : decode cX1_pointsAt 18 = .ok (.imul, 1) := dk_104 (dk_at dksX1_pointsAt_0 18 rfl rfl)
theorem dX1_pointsAt_19 : decode cX1_pointsAt 19 = .ok (.iload_n 2, 1) := dk_28 (dk_at dksX1_pointsAt_0 19 rfl rfl)
theorem dX1_pointsAt_20 : decode cX1_pointsAt 20 = .ok (.iadd, 1) := dk_96 (dk_at dksX1_pointsAt_0 20 rfl rfl)
theorem dX1_pointsAt_21 : decode cX1_pointsAt 21 = .ok (.iaload, 1) := dk_46 (dk_at dksX1_pointsAt_0 21 rfl rfl)
theorem dX1_pointsAt_22 : decode cX1_pointsAt 22 = .ok (.ifCond .ne 7, 3) := dk_154 0 7 (dk_at dksX1_pointsAt_1 0 rfl rfl)
theorem dX1_pointsAt_25 : decode cX1_pointsAt 25 = .ok (.sipush 300, 3) := dk_17 1 44 (dk_at dksX1_pointsAt_1 3 rfl rfl)
theorem dX1_pointsAt_28 : decode cX1_pointsAt 28 = .ok (.ireturn, 1) := dk_172 (dk_at dksX1_pointsAt_1 6 rfl rfl)
theorem dX1_pointsAt_29 : decode cX1_pointsAt 29 = .ok (.aload_n 0, 1) := dk_42 (dk_at dksX1_pointsAt_1 7 rfl rfl)
theorem dX1_pointsAt_30 : decode cX1_pointsAt 30 = .ok (.iload_n 1, 1) := dk_27 (dk_at dksX1_pointsAt_1 8 rfl rfl)
theorem dX1_pointsAt_31 : decode cX1_pointsAt 31 = .ok (.iload_n 2, 1) := dk_28 (dk_at dksX1_pointsAt_1 9 rfl rfl)
theorem dX1_pointsAt_32 : decode cX1_pointsAt 32 = .ok (.invokevirtual 255, 3) := dk_182 0 255 (dk_at dksX1_pointsAt_1 10 rfl rfl)
theorem dX1_pointsAt_35 : decode cX1_pointsAt 35 = .ok (.ifCond .eq 6, 3) := dk_153 0 6 (dk_at dksX1_pointsAt_1 13 rfl rfl)
theorem dX1_pointsAt_38 : decode cX1_pointsAt 38 = .ok (.bipush 100, 2) := dk_16 100 (dk_at dksX1_pointsAt_1 16 rfl rfl)
theorem dX1_pointsAt_40 : decode cX1_pointsAt 40 = .ok (.ireturn, 1) := dk_172 (dk_at dksX1_pointsAt_1 18 rfl rfl)
theorem dX1_pointsAt_41 : decode cX1_pointsAt 41 = .ok (.aload_n 0, 1) := dk_42 (dk_at dksX1_pointsAt_1 19 rfl rfl)
theorem dX1_pointsAt_42 : decode cX1_pointsAt 42 = .ok (.iload_n 1, 1) := dk_27 (dk_at dksX1_pointsAt_1 20 rfl rfl)
theorem dX1_pointsAt_43 : decode cX1_pointsAt 43 = .ok (.iload_n 2, 1) := dk_28 (dk_at dksX1_pointsAt_1 21 rfl rfl)
theorem dX1_pointsAt_44 : decode cX1_pointsAt 44 = .ok (.invokevirtual 252, 3) := dk_182 0 252 (dk_at dksX1_pointsAt_2 0 rfl rfl)
theorem dX1_pointsAt_47 : decode cX1_pointsAt 47 = .ok (.lstore_n 3, 1) := dk_66 (dk_at dksX1_pointsAt_2 3 rfl rfl)
theorem dX1_pointsAt_48 : decode cX1_pointsAt 48 = .ok (.lload_n 3, 1) := dk_33 (dk_at dksX1_pointsAt_2 4 rfl rfl)
theorem dX1_pointsAt_49 : decode cX1_pointsAt 49 = .ok (.lconst 0, 1) := dk_9 (dk_at dksX1_pointsAt_2 5 rfl rfl)
theorem dX1_pointsAt_50 : decode cX1_pointsAt 50 = .ok (.lcmp, 1) := dk_148 (dk_at dksX1_pointsAt_2 6 rfl rfl)
theorem dX1_pointsAt_51 : decode cX1_pointsAt 51 = .ok (.ifCond .ge 19, 3) := dk_156 0 19 (dk_at dksX1_pointsAt_2 7 rfl rfl)
theorem dX1_pointsAt_54 : decode cX1_pointsAt 54 = .ok (.ldc2_w 123, 3) := dk_20 0 123 (dk_at dksX1_pointsAt_2 10 rfl rfl)
theorem dX1_pointsAt_57 : decode cX1_pointsAt 57 = .ok (.ldc2_w 115, 3) := dk_20 0 115 (dk_at dksX1_pointsAt_2 13 rfl rfl)
theorem dX1_pointsAt_60 : decode cX1_pointsAt 60 = .ok (.lload_n 3, 1) := dk_33 (dk_at dksX1_pointsAt_2 16 rfl rfl)
theorem dX1_pointsAt_61 : decode cX1_pointsAt 61 = .ok (.lsub, 1) := dk_101 (dk_at dksX1_pointsAt_2 17 rfl rfl)
theorem dX1_pointsAt_62 : decode cX1_pointsAt 62 = .ok (.ldc2_w 259, 3) := dk_20 1 3 (dk_at dksX1_pointsAt_2 18 rfl rfl)
theorem dX1_pointsAt_65 : decode cX1_pointsAt 65 = .ok (.ldiv, 1) := dk_109 (dk_at dksX1_pointsAt_2 21 rfl rfl)
theorem dX1_pointsAt_66 : decode cX1_pointsAt 66 = .ok (.lmul, 1) := dk_105 (dk_at dksX1_pointsAt_2 22 rfl rfl)
theorem dX1_pointsAt_67 : decode cX1_pointsAt 67 = .ok (.goto 12, 3) := dk_167 0 12 (dk_at dksX1_pointsAt_3 0 rfl rfl)
theorem dX1_pointsAt_70 : decode cX1_pointsAt 70 = .ok (.lload_n 3, 1) := dk_33 (dk_at dksX1_pointsAt_3 3 rfl rfl)
theorem dX1_pointsAt_71 : decode cX1_pointsAt 71 = .ok (.ldc2_w 115, 3) := dk_20 0 115 (dk_at dksX1_pointsAt_3 4 rfl rfl)
theorem dX1_pointsAt_74 : decode cX1_pointsAt 74 = .ok (.ladd, 1) := dk_97 (dk_at dksX1_pointsAt_3 7 rfl rfl)
theorem dX1_pointsAt_75 : decode cX1_pointsAt 75 = .ok (.ldc2_w 259, 3) := dk_20 1 3 (dk_at dksX1_pointsAt_3 8 rfl rfl)
theorem dX1_pointsAt_78 : decode cX1_pointsAt 78 = .ok (.ldiv, 1) := dk_109 (dk_at dksX1_pointsAt_3 11 rfl rfl)
theorem dX1_pointsAt_79 : decode cX1_pointsAt 79 = .ok (.lstore 5, 2) := dk_55 5 (dk_at dksX1_pointsAt_3 12 rfl rfl)
theorem dX1_pointsAt_81 : decode cX1_pointsAt 81 = .ok (.lload 5, 2) := dk_22 5 (dk_at dksX1_pointsAt_3 14 rfl rfl)
theorem dX1_pointsAt_83 : decode cX1_pointsAt 83 = .ok (.ldc2_w 261, 3) := dk_20 1 5 (dk_at dksX1_pointsAt_3 16 rfl rfl)
theorem dX1_pointsAt_86 : decode cX1_pointsAt 86 = .ok (.lcmp, 1) := dk_148 (dk_at dksX1_pointsAt_3 19 rfl rfl)
theorem dX1_pointsAt_87 : decode cX1_pointsAt 87 = .ok (.ifCond .le 9, 3) := dk_158 0 9 (dk_at dksX1_pointsAt_3 20 rfl rfl)
theorem dX1_pointsAt_90 : decode cX1_pointsAt 90 = .ok (.ldc2_w 261, 3) := dk_20 1 5 (dk_at dksX1_pointsAt_4 0 rfl rfl)
theorem dX1_pointsAt_93 : decode cX1_pointsAt 93 = .ok (.goto 5, 3) := dk_167 0 5 (dk_at dksX1_pointsAt_4 3 rfl rfl)
theorem dX1_pointsAt_96 : decode cX1_pointsAt 96 = .ok (.lload 5, 2) := dk_22 5 (dk_at dksX1_pointsAt_4 6 rfl rfl)
theorem dX1_pointsAt_98 : decode cX1_pointsAt 98 = .ok (.lstore 5, 2) := dk_55 5 (dk_at dksX1_pointsAt_4 8 rfl rfl)
theorem dX1_pointsAt_100 : decode cX1_pointsAt 100 = .ok (.aload_n 0, 1) := dk_42 (dk_at dksX1_pointsAt_4 10 rfl rfl)
theorem dX1_pointsAt_101 : decode cX1_pointsAt 101 = .ok (.getfield 83, 3) := dk_180 0 83 (dk_at dksX1_pointsAt_4 11 rfl rfl)
theorem dX1_pointsAt_104 : decode cX1_pointsAt 104 = .ok (.iload_n 1, 1) := dk_27 (dk_at dksX1_pointsAt_4 14 rfl rfl)
theorem dX1_pointsAt_105 : decode cX1_pointsAt 105 = .ok (.iaload, 1) := dk_46 (dk_at dksX1_pointsAt_4 15 rfl rfl)
theorem dX1_pointsAt_106 : decode cX1_pointsAt 106 = .ok (.ifCond .le 12, 3) := dk_158 0 12 (dk_at dksX1_pointsAt_4 16 rfl rfl)
theorem dX1_pointsAt_109 : decode cX1_pointsAt 109 = .ok (.lload 5, 2) := dk_22 5 (dk_at dksX1_pointsAt_4 19 rfl rfl)
theorem dX1_pointsAt_111 : decode cX1_pointsAt 111 = .ok (.ldc2_w 123, 3) := dk_20 0 123 (dk_at dksX1_pointsAt_4 21 rfl rfl)
theorem dX1_pointsAt_114 : decode cX1_pointsAt 114 = .ok (.ldiv, 1) := dk_109 (dk_at dksX1_pointsAt_5 0 rfl rfl)
theorem dX1_pointsAt_115 : decode cX1_pointsAt 115 = .ok (.goto 5, 3) := dk_167 0 5 (dk_at dksX1_pointsAt_5 1 rfl rfl)
theorem dX1_pointsAt_118 : decode cX1_pointsAt 118 = .ok (.lload 5, 2) := dk_22 5 (dk_at dksX1_pointsAt_5 4 rfl rfl)
theorem dX1_pointsAt_120 : decode cX1_pointsAt 120 = .ok (.lstore 5, 2) := dk_55 5 (dk_at dksX1_pointsAt_5 6 rfl rfl)
theorem dX1_pointsAt_122 : decode cX1_pointsAt 122 = .ok (.aload_n 0, 1) := dk_42 (dk_at dksX1_pointsAt_5 8 rfl rfl)
theorem dX1_pointsAt_123 : decode cX1_pointsAt 123 = .ok (.getfield 83, 3) := dk_180 0 83 (dk_at dksX1_pointsAt_5 9 rfl rfl)
theorem dX1_pointsAt_126 : decode cX1_pointsAt 126 = .ok (.iload_n 1, 1) := dk_27 (dk_at dksX1_pointsAt_5 12 rfl rfl)
theorem dX1_pointsAt_127 : decode cX1_pointsAt 127 = .ok (.iaload, 1) := dk_46 (dk_at dksX1_pointsAt_5 13 rfl rfl)
theorem dX1_pointsAt_128 : decode cX1_pointsAt 128 = .ok (.iconst 2, 1) := dk_5 (dk_at dksX1_pointsAt_5 14 rfl rfl)
theorem dX1_pointsAt_129 : decode cX1_pointsAt 129 = .ok (.if_icmp .ne 18, 3) := dk_160 0 18 (dk_at dksX1_pointsAt_5 15 rfl rfl)
theorem dX1_pointsAt_132 : decode cX1_pointsAt 132 = .ok (.lload 5, 2) := dk_22 5 (dk_at dksX1_pointsAt_5 18 rfl rfl)
theorem dX1_pointsAt_134 : decode cX1_pointsAt 134 = .ok (.ldc2_w 263, 3) := dk_20 1 7 (dk_at dksX1_pointsAt_5 20 rfl rfl)
theorem dX1_pointsAt_137 : decode cX1_pointsAt 137 = .ok (.lcmp, 1) := dk_148 (dk_at dksX1_pointsAt_5 23 rfl rfl)
theorem dX1_pointsAt_138 : decode cX1_pointsAt 138 = .ok (.ifCond .le 9, 3) := dk_158 0 9 (dk_at dksX1_pointsAt_6 0 rfl rfl)
theorem dX1_pointsAt_141 : decode cX1_pointsAt 141 = .ok (.ldc2_w 263, 3) := dk_20 1 7 (dk_at dksX1_pointsAt_6 3 rfl rfl)
theorem dX1_pointsAt_144 : decode cX1_pointsAt 144 = .ok (.goto 5, 3) := dk_167 0 5 (dk_at dksX1_pointsAt_6 6 rfl rfl)
theorem dX1_pointsAt_147 : decode cX1_pointsAt 147 = .ok (.lload 5, 2) := dk_22 5 (dk_at dksX1_pointsAt_6 9 rfl rfl)
theorem dX1_pointsAt_149 : decode cX1_pointsAt 149 = .ok (.l2i, 1) := dk_136 (dk_at dksX1_pointsAt_6 11 rfl rfl)
theorem dX1_pointsAt_150 : decode cX1_pointsAt 150 = .ok (.ireturn, 1) := dk_172 (dk_at dksX1_pointsAt_6 12 rfl rfl)
abbrev cX1_isOutOfOrder : ByteArray := prog_12_method_53_code
def yX1_isOutOfOrder : MethodName := ⟨RX1, "isOutOfOrder", "(II)Z"⟩
def dkwX1_isOutOfOrder_4 : List UInt8 := [167, 255, 181, 21, 4, 172]
abbrev dktX1_isOutOfOrder_4 : List UInt8 := dkwX1_isOutOfOrder_4 ++ []
def dkwX1_isOutOfOrder_3 : List UInt8 := [154, 0, 18, 21, 6, 158, 0, 13, 21, 6, 29, 162, 0, 7, 4, 167, 0, 4, 3, 54, 4, 132, 5, 1]
abbrev dktX1_isOutOfOrder_3 : List UInt8 := dkwX1_isOutOfOrder_3 ++ dktX1_isOutOfOrder_4
def dkwX1_isOutOfOrder_2 : List UInt8 := [180, 0, 68, 21, 5, 46, 42, 180, 0, 68, 28, 46, 164, 0, 28, 42, 180, 0, 71, 21, 5, 51]
abbrev dktX1_isOutOfOrder_2 : List UInt8 := dkwX1_isOutOfOrder_2 ++ dktX1_isOutOfOrder_3
def dkwX1_isOutOfOrder_1 : List UInt8 := [162, 0, 72, 42, 180, 0, 86, 16, 8, 27, 104, 21, 5, 96, 46, 54, 6, 21, 4, 154, 0, 40, 42]
abbrev dktX1_isOutOfOrder_1 : List UInt8 := dkwX1_isOutOfOrder_1 ++ dktX1_isOutOfOrder_2
def dkwX1_isOutOfOrder_0 : List UInt8 := [42, 180, 0, 86, 16, 8, 27, 104, 28, 96, 46, 62, 3, 54, 4, 3, 54, 5, 21, 5, 42, 180, 0, 199]
abbrev dktX1_isOutOfOrder_0 : List UInt8 := dkwX1_isOutOfOrder_0 ++ dktX1_isOutOfOrder_1
theorem dksX1_isOutOfOrder_0 : cX1_isOutOfOrder.data.toList.drop 0 = dktX1_isOutOfOrder_0 := by decide +kernel
theorem dksX1_isOutOfOrder_1 : cX1_isOutOfOrder.data.toList.drop 24 = dktX1_isOutOfOrder_1 := dk_seg dksX1_isOutOfOrder_0 24 rfl rfl
theorem dksX1_isOutOfOrder_2 : cX1_isOutOfOrder.data.toList.drop 47 = dktX1_isOutOfOrder_2 := dk_seg dksX1_isOutOfOrder_1 23 rfl rfl
theorem dksX1_isOutOfOrder_3 : cX1_isOutOfOrder.data.toList.drop 69 = dktX1_isOutOfOrder_3 := dk_seg dksX1_isOutOfOrder_2 22 rfl rfl
theorem dksX1_isOutOfOrder_4 : cX1_isOutOfOrder.data.toList.drop 93 = dktX1_isOutOfOrder_4 := dk_seg dksX1_isOutOfOrder_3 24 rfl rfl
theorem dX1_isOutOfOrder_0 : decode cX1_isOutOfOrder 0 = .ok (.aload_n 0, 1) := dk_42 (dk_at dksX1_isOutOfOrder_0 0 rfl rfl)
theorem dX1_isOutOfOrder_1 : decode cX1_isOutOfOrder 1 = .ok (.getfield 86, 3) := dk_180 0 86 (dk_at dksX1_isOutOfOrder_0 1 rfl rfl)
theorem dX1_isOutOfOrder_4 : decode cX1_isOutOfOrder 4 = .ok (.bipush 8, 2) := dk_16 8 (dk_at dksX1_isOutOfOrder_0 4 rfl rfl)
theorem dX1_isOutOfOrder_6 : decode cX1_isOutOfOrder 6 = .ok (.iload_n 1, 1) := dk_27 (dk_at dksX1_isOutOfOrder_0 6 rfl rfl)
theorem dX1_isOutOfOrder_7 : decode cX1_isOutOfOrder 7 = .ok (.imul, 1) := dk_104 (dk_at dksX1_isOutOfOrder_0 7 rfl rfl)
theorem dX1_isOutOfOrder_8 : decode cX1_isOutOfOrder 8 = .ok (.iload_n 2, 1) := dk_28 (dk_at dksX1_isOutOfOrder_0 8 rfl rfl)
theorem dX1_isOutOfOrder_9 : decode cX1_isOutOfOrder 9 = .ok (.iadd, 1) := dk_96 (dk_at dksX1_isOutOfOrder_0 9 rfl rfl)
theorem dX1_isOutOfOrder_10 : decode cX1_isOutOfOrder 10 = .ok (.iaload, 1) := dk_46 (dk_at dksX1_isOutOfOrder_0 10 rfl rfl)
theorem dX1_isOutOfOrder_11 : decode cX1_isOutOfOrder 11 = .ok (.istore_n 3, 1) := dk_62 (dk_at dksX1_isOutOfOrder_0 11 rfl rfl)
theorem dX1_isOutOfOrder_12 : decode cX1_isOutOfOrder 12 = .ok (.iconst 0, 1) := dk_3 (dk_at dksX1_isOutOfOrder_0 12 rfl rfl)
theorem dX1_isOutOfOrder_13 : decode cX1_isOutOfOrder 13 = .ok (.istore 4, 2) := dk_54 4 (dk_at dksX1_isOutOfOrder_0 13 rfl rfl)
theorem dX1_isOutOfOrder_15 : decode cX1_isOutOfOrder 15 = .ok (.iconst 0, 1) := dk_3 (dk_at dksX1_isOutOfOrder_0 15 rfl rfl)
theorem dX1_isOutOfOrder_16 : decode cX1_isOutOfOrder 16 = .ok (.istore 5, 2) := dk_54 5 (dk_at dksX1_isOutOfOrder_0 16 rfl rfl)
theorem dX1_isOutOfOrder_18 : decode cX1_isOutOfOrder 18 = .ok (.iload 5, 2) := dk_21 5 (dk_at dksX1_isOutOfOrder_0 18 rfl rfl)
theorem dX1_isOutOfOrder_20 : decode cX1_isOutOfOrder 20 = .ok (.aload_n 0, 1) := dk_42 (dk_at dksX1_isOutOfOrder_0 20 rfl rfl)
theorem dX1_isOutOfOrder_21 : decode cX1_isOutOfOrder 21 = .ok (.getfield 199, 3) := dk_180 0 199 (dk_at dksX1_isOutOfOrder_0 21 rfl rfl)
theorem dX1_isOutOfOrder_24 : decode cX1_isOutOfOrder 24 = .ok (.if_icmp .ge 72, 3) := dk_162 0 72 (dk_at dksX1_isOutOfOrder_1 0 rfl rfl)
theorem dX1_isOutOfOrder_27 : decode cX1_isOutOfOrder 27 = .ok (.aload_n 0, 1) := dk_42 (dk_at dksX1_isOutOfOrder_1 3 rfl rfl)
theorem dX1_isOutOfOrder_28 : decode cX1_isOutOfOrder 28 = .ok (.getfield 86, 3) := dk_180 0 86 (dk_at dksX1_isOutOfOrder_1 4 rfl rfl)
theorem dX1_isOutOfOrder_31 : decode cX1_isOutOfOrder 31 = .ok (.bipush 8, 2) := dk_16 8 (dk_at dksX1_isOutOfOrder_1 7 rfl rfl)
theorem dX1_isOutOfOrder_33 : decode cX1_isOutOfOrder 33 = .ok (.iload_n 1, 1) := dk_27 (dk_at dksX1_isOutOfOrder_1 9 rfl rfl)
theorem dX1_isOutOfOrder_34 : decode cX1_isOutOfOrder 34 = .ok (.imul, 1) := dk_104 (dk_at dksX1_isOutOfOrder_1 10 rfl rfl)
theorem dX1_isOutOfOrder_35 : decode cX1_isOutOfOrder 35 = .ok (.iload 5, 2) := dk_21 5 (dk_at dksX1_isOutOfOrder_1 11 rfl rfl)
theorem dX1_isOutOfOrder_37 : decode cX1_isOutOfOrder 37 = .ok (.iadd, 1) := dk_96 (dk_at dksX1_isOutOfOrder_1 13 rfl rfl)
theorem dX1_isOutOfOrder_38 : decode cX1_isOutOfOrder 38 = .ok (.iaload, 1) := dk_46 (dk_at dksX1_isOutOfOrder_1 14 rfl rfl)
theorem dX1_isOutOfOrder_39 : decode cX1_isOutOfOrder 39 = .ok (.istore 6, 2) := dk_54 6 (dk_at dksX1_isOutOfOrder_1 15 rfl rfl)
theorem dX1_isOutOfOrder_41 : decode cX1_isOutOfOrder 41 = .ok (.iload 4, 2) := dk_21 4 (dk_at dksX1_isOutOfOrder_1 17 rfl rfl)
theorem dX1_isOutOfOrder_43 : decode cX1_isOutOfOrder 43 = .ok (.ifCond .ne 40, 3) := dk_154 0 40 (dk_at dksX1_isOutOfOrder_1 19 rfl rfl)
theorem dX1_isOutOfOrder_46 : decode cX1_isOutOfOrder 46 = .ok (.aload_n 0, 1) := dk_42 (dk_at dksX1_isOutOfOrder_1 22 rfl rfl)
theorem dX1_isOutOfOrder_47 : decode cX1_isOutOfOrder 47 = .ok (.getfield 68, 3) := dk_180 0 68 (dk_at dksX1_isOutOfOrder_2 0 rfl rfl)
theorem dX1_isOutOfOrder_50 : decode cX1_isOutOfOrder 50 = .ok (.iload 5, 2) := dk_21 5 (dk_at dksX1_isOutOfOrder_2 3 rfl rfl)
theorem dX1_isOutOfOrder_52 : decode cX1_isOutOfOrder 52 = .ok (.iaload, 1) := dk_46 (dk_at dksX1_isOutOfOrder_2 5 rfl rfl)
theorem dX1_isOutOfOrder_53 : decode cX1_isOutOfOrder 53 = .ok (.aload_n 0, 1) := dk_42 (dk_at dksX1_isOutOfOrder_2 6 rfl rfl)
theorem dX1_isOutOfOrder_54 : decode cX1_isOutOfOrder 54 = .ok (.getfield 68, 3) := dk_180 0 68 (dk_at dksX1_isOutOfOrder_2 7 rfl rfl)
theorem dX1_isOutOfOrder_57 : decode cX1_isOutOfOrder 57 = .ok (.iload_n 2, 1) := dk_28 (dk_at dksX1_isOutOfOrder_2 10 rfl rfl)
theorem dX1_isOutOfOrder_58 : decode cX1_isOutOfOrder 58 = .ok (.iaload, 1) := dk_46 (dk_at dksX1_isOutOfOrder_2 11 rfl rfl)
theorem dX1_isOutOfOrder_59 : decode cX1_isOutOfOrder 59 = .ok (.if_icmp .le 28, 3) := dk_164 0 28 (dk_at dksX1_isOutOfOrder_2 12 rfl rfl)
theorem dX1_isOutOfOrder_62 : decode cX1_isOutOfOrder 62 = .ok (.aload_n 0, 1) := dk_42 (dk_at dksX1_isOutOfOrder_2 15 rfl rfl)
theorem dX1_isOutOfOrder_63 : decode cX1_isOutOfOrder 63 = .ok (.getfield 71, 3) := dk_180 0 71 (dk_at dksX1_isOutOfOrder_2 16 rfl rfl)
theorem dX1_isOutOfOrder_66 : decode cX1_isOutOfOrder 66 = .ok (.iload 5, 2) := dk_21 5 (dk_at dksX1_isOutOfOrder_2 19 rfl rfl)
theorem dX1_isOutOfOrder_68 : decode cX1_isOutOfOrder 68 = .ok (.baload, 1) := dk_51 (dk_at dksX1_isOutOfOrder_2 21 rfl rfl)
theorem dX1_isOutOfOrder_69 : decode cX1_isOutOfOrder 69 = .ok (.ifCond .ne 18, 3) := dk_154 0 18 (dk_at dksX1_isOutOfOrder_3 0 rfl rfl)
theorem dX1_isOutOfOrder_72 : decode cX1_isOutOfOrder 72 = .ok (.iload 6, 2) := dk_21 6 (dk_at dksX1_isOutOfOrder_3 3 rfl rfl)
theorem dX1_isOutOfOrder_74 : decode cX1_isOutOfOrder 74 = .ok (.ifCond .le 13, 3) := dk_158 0 13 (dk_at dksX1_isOutOfOrder_3 5 rfl rfl)
theorem dX1_isOutOfOrder_77 : decode cX1_isOutOfOrder 77 = .ok (.iload 6, 2) := dk_21 6 (dk_at dksX1_isOutOfOrder_3 8 rfl rfl)
theorem dX1_isOutOfOrder_79 : decode cX1_isOutOfOrder 79 = .ok (.iload_n 3, 1) := dk_29 (dk_at dksX1_isOutOfOrder_3 10 rfl rfl)
theorem dX1_isOutOfOrder_80 : decode cX1_isOutOfOrder 80 = .ok (.if_icmp .ge 7, 3) := dk_162 0 7 (dk_at dksX1_isOutOfOrder_3 11 rfl rfl)
theorem dX1_isOutOfOrder_83 : decode cX1_isOutOfOrder 83 = .ok (.iconst 1, 1) := dk_4 (dk_at dksX1_isOutOfOrder_3 14 rfl rfl)
theorem dX1_isOutOfOrder_84 : decode cX1_isOutOfOrder 84 = .ok (.goto 4, 3) := dk_167 0 4 (dk_at dksX1_isOutOfOrder_3 15 rfl rfl)
theorem dX1_isOutOfOrder_87 : decode cX1_isOutOfOrder 87 = .ok (.iconst 0, 1) := dk_3 (dk_at dksX1_isOutOfOrder_3 18 rfl rfl)
theorem dX1_isOutOfOrder_88 : decode cX1_isOutOfOrder 88 = .ok (.istore 4, 2) := dk_54 4 (dk_at dksX1_isOutOfOrder_3 19 rfl rfl)
theorem dX1_isOutOfOrder_90 : decode cX1_isOutOfOrder 90 = .ok (.iinc 5 1, 3) := dk_132 5 1 (dk_at dksX1_isOutOfOrder_3 21 rfl rfl)
theorem dX1_isOutOfOrder_93 : decode cX1_isOutOfOrder 93 = .ok (.goto (-75), 3) := dk_167 255 181 (dk_at dksX1_isOutOfOrder_4 0 rfl rfl)
theorem dX1_isOutOfOrder_96 : decode cX1_isOutOfOrder 96 = .ok (.iload 4, 2) := dk_21 4 (dk_at dksX1_isOutOfOrder_4 3 rfl rfl)
theorem dX1_isOutOfOrder_98 : decode cX1_isOutOfOrder 98 = .ok (.ireturn, 1) := dk_172 (dk_at dksX1_isOutOfOrder_4 5 rfl rfl)
abbrev cX1_result : ByteArray := prog_12_method_58_code
def yX1_result : MethodName := ⟨RX1, "result", "(II)I"⟩
def dkwX1_result_7 : List UInt8 := [153, 0, 7, 4, 167, 0, 4, 3, 96, 62, 132, 4, 1, 167, 255, 176, 29, 172]
abbrev dktX1_result_7 : List UInt8 := dkwX1_result_7 ++ []
def dkwX1_result_6 : List UInt8 := [5, 160, 0, 11, 21, 5, 154, 0, 25, 167, 0, 18, 21, 5, 153, 0, 17, 42, 27, 21, 4, 182, 0, 255]
abbrev dktX1_result_6 : List UInt8 := dkwX1_result_6 ++ dktX1_result_7
def dkwX1_result_5 : List UInt8 := [96, 46, 158, 0, 7, 4, 167, 0, 4, 3, 54, 5, 29, 42, 180, 0, 71, 21, 4, 51, 154, 0, 35, 28]
abbrev dktX1_result_5 : List UInt8 := dkwX1_result_5 ++ dktX1_result_6
def dkwX1_result_4 : List UInt8 := [96, 172, 3, 54, 4, 21, 4, 42, 180, 0, 199, 162, 0, 77, 42, 180, 0, 86, 16, 8, 27, 104, 21, 4]
abbrev dktX1_result_4 : List UInt8 := dkwX1_result_4 ++ dktX1_result_5
def dkwX1_result_3 : List UInt8 := [21, 4, 27, 182, 1, 15, 153, 0, 7, 4, 167, 0, 4, 3, 96, 62, 132, 4, 1, 167, 255, 220, 29, 4]
abbrev dktX1_result_3 : List UInt8 := dkwX1_result_3 ++ dktX1_result_4
def dkwX1_result_2 : List UInt8 := [4, 160, 0, 49, 3, 54, 4, 21, 4, 42, 180, 0, 238, 162, 0, 33, 29, 21, 4, 27, 159, 0, 17, 42]
abbrev dktX1_result_2 : List UInt8 := dkwX1_result_2 ++ dktX1_result_3
def dkwX1_result_1 : List UInt8 := [172, 42, 182, 0, 220, 154, 0, 6, 16, 253, 172, 28, 154, 0, 9, 42, 27, 182, 1, 12, 172, 3, 62, 28]
abbrev dktX1_result_1 : List UInt8 := dkwX1_result_1 ++ dktX1_result_2
def dkwX1_result_0 : List UInt8 := [42, 27, 182, 0, 243, 153, 0, 5, 2, 172, 28, 133, 9, 20, 0, 135, 184, 0, 111, 154, 0, 6, 16, 254]
abbrev dktX1_result_0 : List UInt8 := dkwX1_result_0 ++ dktX1_result_1
theorem dksX1_result_0 : cX1_result.data.toList.drop 0 = dktX1_result_0 := by decide +kernel
theorem dksX1_result_1 : cX1_result.data.toList.drop 24 = dktX1_result_1 := dk_seg dksX1_result_0 24 rfl rfl
theorem dksX1_result_2 : cX1_result.data.toList.drop 48 = dktX1_result_2 := dk_seg dksX1_result_1 24 rfl rfl
theorem dksX1_result_3 : cX1_result.data.toList.drop 72 = dktX1_result_3 := dk_seg dksX1_result_2 24 rfl rfl
theorem dksX1_result_4 : cX1_result.data.toList.drop 96 = dktX1_result_4 := dk_seg dksX1_result_3 24 rfl rfl
theorem dksX1_result_5 : cX1_result.data.toList.drop 120 = dktX1_result_5 := dk_seg dksX1_result_4 24 rfl rfl
theorem dksX1_result_6 : cX1_result.data.toList.drop 144 = dktX1_result_6 := dk_seg dksX1_result_5 24 rfl rfl
theorem dksX1_result_7 : cX1_result.data.toList.drop 168 = dktX1_result_7 := dk_seg dksX1_result_6 24 rfl rfl
theorem dX1_result_0 : decode cX1_result 0 = .ok (.aload_n 0, 1) := dk_42 (dk_at dksX1_result_0 0 rfl rfl)
theorem dX1_result_1 : decode cX1_result 1 = .ok (.iload_n 1, 1) := dk_27 (dk_at dksX1_result_0 1 rfl rfl)
theorem dX1_result_2 : decode cX1_result 2 = .ok (.invokevirtual 243, 3) := dk_182 0 243 (dk_at dksX1_result_0 2 rfl rfl)
theorem dX1_result_5 : decode cX1_result 5 = .ok (.ifCond .eq 5, 3) := dk_153 0 5 (dk_at dksX1_result_0 5 rfl rfl)
theorem dX1_result_8 : decode cX1_result 8 = .ok (.iconst (-1), 1) := dk_2 (dk_at dksX1_result_0 8 rfl rfl)
theorem dX1_result_9 : decode cX1_result 9 = .ok (.ireturn, 1) := dk_172 (dk_at dksX1_result_0 9 rfl rfl)
theorem dX1_result_10 : decode cX1_result 10 = .ok (.iload_n 2, 1) := dk_28 (dk_at dksX1_result_0 10 rfl rfl)
theorem dX1_result_11 : decode cX1_result 11 = .ok (.i2l, 1) := dk_133 (dk_at dksX1_result_0 11 rfl rfl)
theorem dX1_result_12 : decode cX1_result 12 = .ok (.lconst 0, 1) := dk_9 (dk_at dksX1_result_0 12 rfl rfl)
theorem dX1_result_13 : decode cX1_result 13 = .ok (.ldc2_w 135, 3) := dk_20 0 135 (dk_at dksX1_result_0 13 rfl rfl)
theorem dX1_result_16 : decode cX1_result 16 = .ok (.invokestatic 111, 3) := dk_184 0 111 (dk_at dksX1_result_0 16 rfl rfl)
theorem dX1_result_19 : decode cX1_result 19 = .ok (.ifCond .ne 6, 3) := dk_154 0 6 (dk_at dksX1_result_0 19 rfl rfl)
theorem dX1_result_22 : decode cX1_result 22 = .ok (.bipush (-2), 2) := dk_16 254 (dk_at dksX1_result_0 22 rfl rfl)
theorem dX1_result_24 : decode cX1_result 24 = .ok (.ireturn, 1) := dk_172 (dk_at dksX1_result_1 0 rfl rfl)
theorem dX1_result_25 : decode cX1_result 25 = .ok (.aload_n 0, 1) := dk_42 (dk_at dksX1_result_1 1 rfl rfl)
theorem dX1_result_26 : decode cX1_result 26 = .ok (.invokevirtual 220, 3) := dk_182 0 220 (dk_at dksX1_result_1 2 rfl rfl)
theorem dX1_result_29 : decode cX1_result 29 = .ok (.ifCond .ne 6, 3) := dk_154 0 6 (dk_at dksX1_result_1 5 rfl rfl)
theorem dX1_result_32 : decode cX1_result 32 = .ok (.bipush (-3), 2) := dk_16 253 (dk_at dksX1_result_1 8 rfl rfl)
theorem dX1_result_34 : decode cX1_result 34 = .ok (.ireturn, 1) := dk_172 (dk_at dksX1_result_1 10 rfl rfl)
theorem dX1_result_35 : decode cX1_result 35 = .ok (.iload_n 2, 1) := dk_28 (dk_at dksX1_result_1 11 rfl rfl)
theorem dX1_result_36 : decode cX1_result 36 = .ok (.ifCond .ne 9, 3) := dk_154 0 9 (dk_at dksX1_result_1 12 rfl rfl)
theorem dX1_result_39 : decode cX1_result 39 = .ok (.aload_n 0, 1) := dk_42 (dk_at dksX1_result_1 15 rfl rfl)
theorem dX1_result_40 : decode cX1_result 40 = .ok (.iload_n 1, 1) := dk_27 (dk_at dksX1_result_1 16 rfl rfl)
theorem dX1_result_41 : decode cX1_result 41 = .ok (.invokevirtual 268, 3) := dk_182 1 12 (dk_at dksX1_result_1 17 rfl rfl)
theorem dX1_result_44 : decode cX1_result 44 = .ok (.ireturn, 1) := dk_172 (dk_at dksX1_result_1 20 rfl rfl)
theorem dX1_result_45 : decode cX1_result 45 = .ok (.iconst 0, 1) := dk_3 (dk_at dksX1_result_1 21 rfl rfl)
theorem dX1_result_46 : decode cX1_result 46 = .ok (.istore_n 3, 1) := dk_62 (dk_at dksX1_result_1 22 rfl rfl)
theorem dX1_result_47 : decode cX1_result 47 = .ok (.iload_n 2, 1) := dk_28 (dk_at dksX1_result_1 23 rfl rfl)
theorem dX1_result_48 : decode cX1_result 48 = .ok (.iconst 1, 1) := dk_4 (dk_at dksX1_result_2 0 rfl rfl)
theorem dX1_result_49 : decode cX1_result 49 = .ok (.if_icmp .ne 49, 3) := dk_160 0 49 (dk_at dksX1_result_2 1 rfl rfl)
theorem dX1_result_52 : decode cX1_result 52 = .ok (.iconst 0, 1) := dk_3 (dk_at dksX1_result_2 4 rfl rfl)
theorem dX1_result_53 : decode cX1_result 53 = .ok (.istore 4, 2) := dk_54 4 (dk_at dksX1_result_2 5 rfl rfl)
theorem dX1_result_55 : decode cX1_result 55 = .ok (.iload 4, 2) := dk_21 4 (dk_at dksX1_result_2 7 rfl rfl)
theorem dX1_result_57 : decode cX1_result 57 = .ok (.aload_n 0, 1) := dk_42 (dk_at dksX1_result_2 9 rfl rfl)
theorem dX1_result_58 : decode cX1_result 58 = .ok (.getfield 238, 3) := dk_180 0 238 (dk_at dksX1_result_2 10 rfl rfl)
theorem dX1_result_61 : decode cX1_result 61 = .ok (.if_icmp .ge 33, 3) := dk_162 0 33 (dk_at dksX1_result_2 13 rfl rfl)
theorem dX1_result_64 : decode cX1_result 64 = .ok (.iload_n 3, 1) := dk_29 (dk_at dksX1_result_2 16 rfl rfl)
theorem dX1_result_65 : decode cX1_result 65 = .ok (.iload 4, 2) := dk_21 4 (dk_at dksX1_result_2 17 rfl rfl)
theorem dX1_result_67 : decode cX1_result 67 = .ok (.iload_n 1, 1) := dk_27 (dk_at dksX1_result_2 19 rfl rfl)
theorem dX1_result_68 : decode cX1_result 68 = .ok (.if_icmp .eq 17, 3) := dk_159 0 17 (dk_at dksX1_result_2 20 rfl rfl)
theorem dX1_result_71 : decode cX1_result 71 = .ok (.aload_n 0, 1) := dk_42 (dk_at dksX1_result_2 23 rfl rfl)
theorem dX1_result_72 : decode cX1_result 72 = .ok (.iload 4, 2) := dk_21 4 (dk_at dksX1_result_3 0 rfl rfl)
theorem dX1_result_74 : decode cX1_result 74 = .ok (.iload_n 1, 1) := dk_27 (dk_at dksX1_result_3 2 rfl rfl)
theorem dX1_result_75 : decode cX1_result 75 = .ok (.invokevirtual 271, 3) := dk_182 1 15 (dk_at dksX1_result_3 3 rfl rfl)
theorem dX1_result_78 : decode cX1_result 78 = .ok (.ifCond .eq 7, 3) := dk_153 0 7 (dk_at dksX1_result_3 6 rfl rfl)
theorem dX1_result_81 : decode cX1_result 81 = .ok (.iconst 1, 1) := dk_4 (dk_at dksX1_result_3 9 rfl rfl)
theorem dX1_result_82 : decode cX1_result 82 = .ok (.goto 4, 3) := dk_167 0 4 (dk_at dksX1_result_3 10 rfl rfl)
theorem dX1_result_85 : decode cX1_result 85 = .ok (.iconst 0, 1) := dk_3 (dk_at dksX1_result_3 13 rfl rfl)
theorem dX1_result_86 : decode cX1_result 86 = .ok (.iadd, 1) := dk_96 (dk_at dksX1_result_3 14 rfl rfl)
theorem dX1_result_87 : decode cX1_result 87 = .ok (.istore_n 3, 1) := dk_62 (dk_at dksX1_result_3 15 rfl rfl)
theorem dX1_result_88 : decode cX1_result 88 = .ok (.iinc 4 1, 3) := dk_132 4 1 (dk_at dksX1_result_3 16 rfl rfl)
theorem dX1_result_91 : decode cX1_result 91 = .ok (.goto (-36), 3) := dk_167 255 220 (dk_at dksX1_result_3 19 rfl rfl)
theorem dX1_result_94 : decode cX1_result 94 = .ok (.iload_n 3, 1) := dk_29 (dk_at dksX1_result_3 22 rfl rfl)
theorem dX1_result_95 : decode cX1_result 95 = .ok (.iconst 1, 1) := dk_4 (dk_at dksX1_result_3 23 rfl rfl)
theorem dX1_result_96 : decode cX1_result 96 = .ok (.iadd, 1) := dk_96 (dk_at dksX1_result_4 0 rfl rfl)
theorem dX1_result_97 : decode cX1_result 97 = .ok (.ireturn, 1) := dk_172 (dk_at dksX1_result_4 1 rfl rfl)
theorem dX1_result_98 : decode cX1_result 98 = .ok (.iconst 0, 1) := dk_3 (dk_at dksX1_result_4 2 rfl rfl)
theorem dX1_result_99 : decode cX1_result 99 = .ok (.istore 4, 2) := dk_54 4 (dk_at dksX1_result_4 3 rfl rfl)
theorem dX1_result_101 : decode cX1_result 101 = .ok (.iload 4, 2) := dk_21 4 (dk_at dksX1_result_4 5 rfl rfl)
theorem dX1_result_103 : decode cX1_result 103 = .ok (.aload_n 0, 1) := dk_42 (dk_at dksX1_result_4 7 rfl rfl)
theorem dX1_result_104 : decode cX1_result 104 = .ok (.getfield 199, 3) := dk_180 0 199 (dk_at dksX1_result_4 8 rfl rfl)
theorem dX1_result_107 : decode cX1_result 107 = .ok (.if_icmp .ge 77, 3) := dk_162 0 77 (dk_at dksX1_result_4 11 rfl rfl)
theorem dX1_result_110 : decode cX1_result 110 = .ok (.aload_n 0, 1) := dk_42 (dk_at dksX1_result_4 14 rfl rfl)
theorem dX1_result_111 : decode cX1_result 111 = .ok (.getfield 86, 3) := dk_180 0 86 (dk_at dksX1_result_4 15 rfl rfl)
theorem dX1_result_114 : decode cX1_result 114 = .ok (.bipush 8, 2) := dk_16 8 (dk_at dksX1_result_4 18 rfl rfl)
theorem dX1_result_116 : decode cX1_result 116 = .ok (.iload_n 1, 1) := dk_27 (dk_at dksX1_result_4 20 rfl rfl)
theorem dX1_result_117 : decode cX1_result 117 = .ok (.imul, 1) := dk_104 (dk_at dksX1_result_4 21 rfl rfl)
theorem dX1_result_118 : decode cX1_result 118 = .ok (.iload 4, 2) := dk_21 4 (dk_at dksX1_result_4 22 rfl rfl)
theorem dX1_result_120 : decode cX1_result 120 = .ok (.iadd, 1) := dk_96 (dk_at dksX1_result_5 0 rfl rfl)
theorem dX1_result_121 : decode cX1_result 121 = .ok (.iaload, 1) := dk_46 (dk_at dksX1_result_5 1 rfl rfl)
theorem dX1_result_122 : decode cX1_result 122 = .ok (.ifCond .le 7, 3) := dk_158 0 7 (dk_at dksX1_result_5 2 rfl rfl)
theorem dX1_result_125 : decode cX1_result 125 = .ok (.iconst 1, 1) := dk_4 (dk_at dksX1_result_5 5 rfl rfl)
theorem dX1_result_126 : decode cX1_result 126 = .ok (.goto 4, 3) := dk_167 0 4 (dk_at dksX1_result_5 6 rfl rfl)
theorem dX1_result_129 : decode cX1_result 129 = .ok (.iconst 0, 1) := dk_3 (dk_at dksX1_result_5 9 rfl rfl)
theorem dX1_result_130 : decode cX1_result 130 = .ok (.istore 5, 2) := dk_54 5 (dk_at dksX1_result_5 10 rfl rfl)
theorem dX1_result_132 : decode cX1_result 132 = .ok (.iload_n 3, 1) := dk_29 (dk_at dksX1_result_5 12 rfl rfl)
theorem dX1_result_133 : decode cX1_result 133 = .ok (.aload_n 0, 1) := dk_42 (dk_at dksX1_result_5 13 rfl rfl)
theorem dX1_result_134 : decode cX1_result 134 = .ok (.getfield 71, 3) := dk_180 0 71 (dk_at dksX1_result_5 14 rfl rfl)
theorem dX1_result_137 : decode cX1_result 137 = .ok (.iload 4, 2) := dk_21 4 (dk_at dksX1_result_5 17 rfl rfl)
theorem dX1_result_139 : decode cX1_result 139 = .ok (.baload, 1) := dk_51 (dk_at dksX1_result_5 19 rfl rfl)
theorem dX1_result_140 : decode cX1_result 140 = .ok (.ifCond .ne 35, 3) := dk_154 0 35 (dk_at dksX1_result_5 20 rfl rfl)
theorem dX1_result_143 : decode cX1_result 143 = .ok (.iload_n 2, 1) := dk_28 (dk_at dksX1_result_5 23 rfl rfl)
theorem dX1_result_144 : decode cX1_result 144 = .ok (.iconst 2, 1) := dk_5 (dk_at dksX1_result_6 0 rfl rfl)
theorem dX1_result_145 : decode cX1_result 145 = .ok (.if_icmp .ne 11, 3) := dk_160 0 11 (dk_at dksX1_result_6 1 rfl rfl)
theorem dX1_result_148 : decode cX1_result 148 = .ok (.iload 5, 2) := dk_21 5 (dk_at dksX1_result_6 4 rfl rfl)
theorem dX1_result_150 : decode cX1_result 150 = .ok (.ifCond .ne 25, 3) := dk_154 0 25 (dk_at dksX1_result_6 6 rfl rfl)
theorem dX1_result_153 : decode cX1_result 153 = .ok (.goto 18, 3) := dk_167 0 18 (dk_at dksX1_result_6 9 rfl rfl)
theorem dX1_result_156 : decode cX1_result 156 = .ok (.iload 5, 2) := dk_21 5 (dk_at dksX1_result_6 12 rfl rfl)
theorem dX1_result_158 : decode cX1_result 158 = .ok (.ifCond .eq 17, 3) := dk_153 0 17 (dk_at dksX1_result_6 14 rfl rfl)
theorem dX1_result_161 : decode cX1_result 161 = .ok (.aload_n 0, 1) := dk_42 (dk_at dksX1_result_6 17 rfl rfl)
theorem dX1_result_162 : decode cX1_result 162 = .ok (.iload_n 1, 1) := dk_27 (dk_at dksX1_result_6 18 rfl rfl)
theorem dX1_result_163 : decode cX1_result 163 = .ok (.iload 4, 2) := dk_21 4 (dk_at dksX1_result_6 19 rfl rfl)
theorem dX1_result_165 : decode cX1_result 165 = .ok (.invokevirtual 255, 3) := dk_182 0 255 (dk_at dksX1_result_6 21 rfl rfl)
theorem dX1_result_168 : decode cX1_result 168 = .ok (.ifCond .eq 7, 3) := dk_153 0 7 (dk_at dksX1_result_7 0 rfl rfl)
theorem dX1_result_171 : decode cX1_result 171 = .ok (.iconst 1, 1) := dk_4 (dk_at dksX1_result_7 3 rfl rfl)
theorem dX1_result_172 : decode cX1_result 172 = .ok (.goto 4, 3) := dk_167 0 4 (dk_at dksX1_result_7 4 rfl rfl)
theorem dX1_result_175 : decode cX1_result 175 = .ok (.iconst 0, 1) := dk_3 (dk_at dksX1_result_7 7 rfl rfl)
theorem dX1_result_176 : decode cX1_result 176 = .ok (.iadd, 1) := dk_96 (dk_at dksX1_result_7 8 rfl rfl)
theorem dX1_result_177 : decode cX1_result 177 = .ok (.istore_n 3, 1) := dk_62 (dk_at dksX1_result_7 9 rfl rfl)
theorem dX1_result_178 : decode cX1_result 178 = .ok (.iinc 4 1, 3) := dk_132 4 1 (dk_at dksX1_result_7 10 rfl rfl)
theorem dX1_result_181 : decode cX1_result 181 = .ok (.goto (-80), 3) := dk_167 255 176 (dk_at dksX1_result_7 13 rfl rfl)
theorem dX1_result_184 : decode cX1_result 184 = .ok (.iload_n 3, 1) := dk_29 (dk_at dksX1_result_7 16 rfl rfl)
theorem dX1_result_185 : decode cX1_result 185 = .ok (.ireturn, 1) := dk_172 (dk_at dksX1_result_7 17 rfl rfl)
abbrev cX1_totalOf : ByteArray := prog_12_method_56_code
def yX1_totalOf : MethodName := ⟨RX1, "totalOf", "(I)I"⟩
def dkwX1_totalOf_1 : List UInt8 := [167, 255, 236, 28, 172]
abbrev dktX1_totalOf_1 : List UInt8 := dkwX1_totalOf_1 ++ []
def dkwX1_totalOf_0 : List UInt8 := [3, 61, 3, 62, 29, 42, 180, 0, 199, 162, 0, 18, 28, 42, 27, 29, 182, 1, 9, 96, 61, 132, 3, 1]
abbrev dktX1_totalOf_0 : List UInt8 := dkwX1_totalOf_0 ++ dktX1_totalOf_1
theorem dksX1_totalOf_0 : cX1_totalOf.data.toList.drop 0 = dktX1_totalOf_0 := by decide +kernel
theorem dksX1_totalOf_1 : cX1_totalOf.data.toList.drop 24 = dktX1_totalOf_1 := dk_seg dksX1_totalOf_0 24 rfl rfl
theorem dX1_totalOf_0 : decode cX1_totalOf 0 = .ok (.iconst 0, 1) := dk_3 (dk_at dksX1_totalOf_0 0 rfl rfl)
theorem dX1_totalOf_1 : decode cX1_totalOf 1 = .ok (.istore_n 2, 1) := dk_61 (dk_at dksX1_totalOf_0 1 rfl rfl)
theorem dX1_totalOf_2 : decode cX1_totalOf 2 = .ok (.iconst 0, 1) := dk_3 (dk_at dksX1_totalOf_0 2 rfl rfl)
theorem dX1_totalOf_3 : decode cX1_totalOf 3 = .ok (.istore_n 3, 1) := dk_62 (dk_at dksX1_totalOf_0 3 rfl rfl)
theorem dX1_totalOf_4 : decode cX1_totalOf 4 = .ok (.iload_n 3, 1) := dk_29 (dk_at dksX1_totalOf_0 4 rfl rfl)
theorem dX1_totalOf_5 : decode cX1_totalOf 5 = .ok (.aload_n 0, 1) := dk_42 (dk_at dksX1_totalOf_0 5 rfl rfl)
theorem dX1_totalOf_6 : decode cX1_totalOf 6 = .ok (.getfield 199, 3) := dk_180 0 199 (dk_at dksX1_totalOf_0 6 rfl rfl)
theorem dX1_totalOf_9 : decode cX1_totalOf 9 = .ok (.if_icmp .ge 18, 3) := dk_162 0 18 (dk_at dksX1_totalOf_0 9 rfl rfl)
theorem dX1_totalOf_12 : decode cX1_totalOf 12 = .ok (.iload_n 2, 1) := dk_28 (dk_at dksX1_totalOf_0 12 rfl rfl)
theorem dX1_totalOf_13 : decode cX1_totalOf 13 = .ok (.aload_n 0, 1) := dk_42 (dk_at dksX1_totalOf_0 13 rfl rfl)
theorem dX1_totalOf_14 : decode cX1_totalOf 14 = .ok (.iload_n 1, 1) := dk_27 (dk_at dksX1_totalOf_0 14 rfl rfl)
theorem dX1_totalOf_15 : decode cX1_totalOf 15 = .ok (.iload_n 3, 1) := dk_29 (dk_at dksX1_totalOf_0 15 rfl rfl)
theorem dX1_totalOf_16 : decode cX1_totalOf 16 = .ok (.invokevirtual 265, 3) := dk_182 1 9 (dk_at dksX1_totalOf_0 16 rfl rfl)
theorem dX1_totalOf_19 : decode cX1_totalOf 19 = .ok (.iadd, 1) := dk_96 (dk_at dksX1_totalOf_0 19 rfl rfl)
theorem dX1_totalOf_20 : decode cX1_totalOf 20 = .ok (.istore_n 2, 1) := dk_61 (dk_at dksX1_totalOf_0 20 rfl rfl)
theorem dX1_totalOf_21 : decode cX1_totalOf 21 = .ok (.iinc 3 1, 3) := dk_132 3 1 (dk_at dksX1_totalOf_0 21 rfl rfl)
theorem dX1_totalOf_24 : decode cX1_totalOf 24 = .ok (.goto (-20), 3) := dk_167 255 236 (dk_at dksX1_totalOf_1 0 rfl rfl)
theorem dX1_totalOf_27 : decode cX1_totalOf 27 = .ok (.iload_n 2, 1) := dk_28 (dk_at dksX1_totalOf_1 3 rfl rfl)
theorem dX1_totalOf_28 : decode cX1_totalOf 28 = .ok (.ireturn, 1) := dk_172 (dk_at dksX1_totalOf_1 4 rfl rfl)
abbrev cX1_isBetter : ByteArray := prog_12_method_57_code
def yX1_isBetter : MethodName := ⟨RX1, "isBetter", "(II)Z"⟩
def dkwX1_isBetter_6 : List UInt8 := [182, 1, 9, 162, 0, 7, 4, 167, 0, 4, 3, 172]
abbrev dktX1_isBetter_6 : List UInt8 := dkwX1_isBetter_6 ++ []
def dkwX1_isBetter_5 : List UInt8 := [28, 162, 0, 7, 4, 167, 0, 29, 3, 167, 0, 25, 42, 27, 21, 5, 182, 1, 9, 42, 28, 21, 5]
abbrev dktX1_isBetter_5 : List UInt8 := dkwX1_isBetter_5 ++ dktX1_isBetter_6
def dkwX1_isBetter_4 : List UInt8 := [162, 0, 8, 21, 6, 167, 0, 5, 21, 5, 54, 5, 132, 6, 1, 167, 255, 184, 21, 5, 156, 0, 16, 27]
abbrev dktX1_isBetter_4 : List UInt8 := dkwX1_isBetter_4 ++ dktX1_isBetter_5
def dkwX1_isBetter_3 : List UInt8 := [21, 7, 153, 0, 30, 21, 5, 155, 0, 20, 42, 180, 0, 68, 21, 6, 46, 42, 180, 0, 68, 21, 5, 46]
abbrev dktX1_isBetter_3 : List UInt8 := dkwX1_isBetter_3 ++ dktX1_isBetter_4
def dkwX1_isBetter_2 : List UInt8 := [42, 27, 21, 6, 182, 1, 9, 42, 28, 21, 6, 182, 1, 9, 159, 0, 7, 4, 167, 0, 4, 3, 54, 7]
abbrev dktX1_isBetter_2 : List UInt8 := dkwX1_isBetter_2 ++ dktX1_isBetter_3
def dkwX1_isBetter_1 : List UInt8 := [162, 0, 7, 4, 167, 0, 4, 3, 172, 2, 54, 5, 3, 54, 6, 21, 6, 42, 180, 0, 199, 162, 0, 69]
abbrev dktX1_isBetter_1 : List UInt8 := dkwX1_isBetter_1 ++ dktX1_isBetter_2
def dkwX1_isBetter_0 : List UInt8 := [42, 27, 182, 1, 12, 62, 42, 28, 182, 1, 12, 54, 4, 29, 21, 4, 159, 0, 15, 29, 21, 4]
abbrev dktX1_isBetter_0 : List UInt8 := dkwX1_isBetter_0 ++ dktX1_isBetter_1
theorem dksX1_isBetter_0 : cX1_isBetter.data.toList.drop 0 = dktX1_isBetter_0 := by decide +kernel
theorem dksX1_isBetter_1 : cX1_isBetter.data.toList.drop 22 = dktX1_isBetter_1 := dk_seg dksX1_isBetter_0 22 rfl rfl
theorem dksX1_isBetter_2 : cX1_isBetter.data.toList.drop 46 = dktX1_isBetter_2 := dk_seg dksX1_isBetter_1 24 rfl rfl
theorem dksX1_isBetter_3 : cX1_isBetter.data.toList.drop 70 = dktX1_isBetter_3 := dk_seg dksX1_isBetter_2 24 rfl rfl
theorem dksX1_isBetter_4 : cX1_isBetter.data.toList.drop 94 = dktX1_isBetter_4 := dk_seg dksX1_isBetter_3 24 rfl rfl
theorem dksX1_isBetter_5 : cX1_isBetter.data.toList.drop 118 = dktX1_isBetter_5 := dk_seg dksX1_isBetter_4 24 rfl rfl
theorem dksX1_isBetter_6 : cX1_isBetter.data.toList.drop 141 = dktX1_isBetter_6 := dk_seg dksX1_isBetter_5 23 rfl rfl
theorem dX1_isBetter_0 : decode cX1_isBetter 0 = .ok (.aload_n 0, 1) := dk_42 (dk_at dksX1_isBetter_0 0 rfl rfl)
theorem dX1_isBetter_1 : decode cX1_isBetter 1 = .ok (.iload_n 1, 1) := dk_27 (dk_at dksX1_isBetter_0 1 rfl rfl)
theorem dX1_isBetter_2 : decode cX1_isBetter 2 = .ok (.invokevirtual 268, 3) := dk_182 1 12 (dk_at dksX1_isBetter_0 2 rfl rfl)
theorem dX1_isBetter_5 : decode cX1_isBetter 5 = .ok (.istore_n 3, 1) := dk_62 (dk_at dksX1_isBetter_0 5 rfl rfl)
theorem dX1_isBetter_6 : decode cX1_isBetter 6 = .ok (.aload_n 0, 1) := dk_42 (dk_at dksX1_isBetter_0 6 rfl rfl)
theorem dX1_isBetter_7 : decode cX1_isBetter 7 = .ok (.iload_n 2, 1) := dk_28 (dk_at dksX1_isBetter_0 7 rfl rfl)
theorem dX1_isBetter_8 : decode cX1_isBetter 8 = .ok (.invokevirtual 268, 3) := dk_182 1 12 (dk_at dksX1_isBetter_0 8 rfl rfl)
theorem dX1_isBetter_11 : decode cX1_isBetter 11 = .ok (.istore 4, 2) := dk_54 4 (dk_at dksX1_isBetter_0 11 rfl rfl)
theorem dX1_isBetter_13 : decode cX1_isBetter 13 = .ok (.iload_n 3, 1) := dk_29 (dk_at dksX1_isBetter_0 13 rfl rfl)
theorem dX1_isBetter_14 : decode cX1_isBetter 14 = .ok (.iload 4, 2) := dk_21 4 (dk_at dksX1_isBetter_0 14 rfl rfl)
theorem dX1_isBetter_16 : decode cX1_isBetter 16 = .ok (.if_icmp .eq 15, 3) := dk_159 0 15 (dk_at dksX1_isBetter_0 16 rfl rfl)
theorem dX1_isBetter_19 : decode cX1_isBetter 19 = .ok (.iload_n 3, 1) := dk_29 (dk_at dksX1_isBetter_0 19 rfl rfl)
theorem dX1_isBetter_20 : decode cX1_isBetter 20 = .ok (.iload 4, 2) := dk_21 4 (dk_at dksX1_isBetter_0 20 rfl rfl)
theorem dX1_isBetter_22 : decode cX1_isBetter 22 = .ok (.if_icmp .ge 7, 3) := dk_162 0 7 (dk_at dksX1_isBetter_1 0 rfl rfl)
theorem dX1_isBetter_25 : decode cX1_isBetter 25 = .ok (.iconst 1, 1) := dk_4 (dk_at dksX1_isBetter_1 3 rfl rfl)
theorem dX1_isBetter_26 : decode cX1_isBetter 26 = .ok (.goto 4, 3) := dk_167 0 4 (dk_at dksX1_isBetter_1 4 rfl rfl)
theorem dX1_isBetter_29 : decode cX1_isBetter 29 = .ok (.iconst 0, 1) := dk_3 (dk_at dksX1_isBetter_1 7 rfl rfl)
theorem dX1_isBetter_30 : decode cX1_isBetter 30 = .ok (.ireturn, 1) := dk_172 (dk_at dksX1_isBetter_1 8 rfl rfl)
theorem dX1_isBetter_31 : decode cX1_isBetter 31 = .ok (.iconst (-1), 1) := dk_2 (dk_at dksX1_isBetter_1 9 rfl rfl)
theorem dX1_isBetter_32 : decode cX1_isBetter 32 = .ok (.istore 5, 2) := dk_54 5 (dk_at dksX1_isBetter_1 10 rfl rfl)
theorem dX1_isBetter_34 : decode cX1_isBetter 34 = .ok (.iconst 0, 1) := dk_3 (dk_at dksX1_isBetter_1 12 rfl rfl)
theorem dX1_isBetter_35 : decode cX1_isBetter 35 = .ok (.istore 6, 2) := dk_54 6 (dk_at dksX1_isBetter_1 13 rfl rfl)
theorem dX1_isBetter_37 : decode cX1_isBetter 37 = .ok (.iload 6, 2) := dk_21 6 (dk_at dksX1_isBetter_1 15 rfl rfl)
theorem dX1_isBetter_39 : decode cX1_isBetter 39 = .ok (.aload_n 0, 1) := dk_42 (dk_at dksX1_isBetter_1 17 rfl rfl)
theorem dX1_isBetter_40 : decode cX1_isBetter 40 = .ok (.getfield 199, 3) := dk_180 0 199 (dk_at dksX1_isBetter_1 18 rfl rfl)
theorem dX1_isBetter_43 : decode cX1_isBetter 43 = .ok (.if_icmp .ge 69, 3) := dk_162 0 69 (dk_at dksX1_isBetter_1 21 rfl rfl)
theorem dX1_isBetter_46 : decode cX1_isBetter 46 = .ok (.aload_n 0, 1) := dk_42 (dk_at dksX1_isBetter_2 0 rfl rfl)
theorem dX1_isBetter_47 : decode cX1_isBetter 47 = .ok (.iload_n 1, 1) := dk_27 (dk_at dksX1_isBetter_2 1 rfl rfl)
theorem dX1_isBetter_48 : decode cX1_isBetter 48 = .ok (.iload 6, 2) := dk_21 6 (dk_at dksX1_isBetter_2 2 rfl rfl)
theorem dX1_isBetter_50 : decode cX1_isBetter 50 = .ok (.invokevirtual 265, 3) := dk_182 1 9 (dk_at dksX1_isBetter_2 4 rfl rfl)
theorem dX1_isBetter_53 : decode cX1_isBetter 53 = .ok (.aload_n 0, 1) := dk_42 (dk_at dksX1_isBetter_2 7 rfl rfl)
theorem dX1_isBetter_54 : decode cX1_isBetter 54 = .ok (.iload_n 2, 1) := dk_28 (dk_at dksX1_isBetter_2 8 rfl rfl)
theorem dX1_isBetter_55 : decode cX1_isBetter 55 = .ok (.iload 6, 2) := dk_21 6 (dk_at dksX1_isBetter_2 9 rfl rfl)
theorem dX1_isBetter_57 : decode cX1_isBetter 57 = .ok (.invokevirtual 265, 3) := dk_182 1 9 (dk_at dksX1_isBetter_2 11 rfl rfl)
theorem dX1_isBetter_60 : decode cX1_isBetter 60 = .ok (.if_icmp .eq 7, 3) := dk_159 0 7 (dk_at dksX1_isBetter_2 14 rfl rfl)
theorem dX1_isBetter_63 : decode cX1_isBetter 63 = .ok (.iconst 1, 1) := dk_4 (dk_at dksX1_isBetter_2 17 rfl rfl)
theorem dX1_isBetter_64 : decode cX1_isBetter 64 = .ok (.goto 4, 3) := dk_167 0 4 (dk_at dksX1_isBetter_2 18 rfl rfl)
theorem dX1_isBetter_67 : decode cX1_isBetter 67 = .ok (.iconst 0, 1) := dk_3 (dk_at dksX1_isBetter_2 21 rfl rfl)
theorem dX1_isBetter_68 : decode cX1_isBetter 68 = .ok (.istore 7, 2) := dk_54 7 (dk_at dksX1_isBetter_2 22 rfl rfl)
theorem dX1_isBetter_70 : decode cX1_isBetter 70 = .ok (.iload 7, 2) := dk_21 7 (dk_at dksX1_isBetter_3 0 rfl rfl)
theorem dX1_isBetter_72 : decode cX1_isBetter 72 = .ok (.ifCond .eq 30, 3) := dk_153 0 30 (dk_at dksX1_isBetter_3 2 rfl rfl)
theorem dX1_isBetter_75 : decode cX1_isBetter 75 = .ok (.iload 5, 2) := dk_21 5 (dk_at dksX1_isBetter_3 5 rfl rfl)
theorem dX1_isBetter_77 : decode cX1_isBetter 77 = .ok (.ifCond .lt 20, 3) := dk_155 0 20 (dk_at dksX1_isBetter_3 7 rfl rfl)
theorem dX1_isBetter_80 : decode cX1_isBetter 80 = .ok (.aload_n 0, 1) := dk_42 (dk_at dksX1_isBetter_3 10 rfl rfl)
theorem dX1_isBetter_81 : decode cX1_isBetter 81 = .ok (.getfield 68, 3) := dk_180 0 68 (dk_at dksX1_isBetter_3 11 rfl rfl)
theorem dX1_isBetter_84 : decode cX1_isBetter 84 = .ok (.iload 6, 2) := dk_21 6 (dk_at dksX1_isBetter_3 14 rfl rfl)
theorem dX1_isBetter_86 : decode cX1_isBetter 86 = .ok (.iaload, 1) := dk_46 (dk_at dksX1_isBetter_3 16 rfl rfl)
theorem dX1_isBetter_87 : decode cX1_isBetter 87 = .ok (.aload_n 0, 1) := dk_42 (dk_at dksX1_isBetter_3 17 rfl rfl)
theorem dX1_isBetter_88 : decode cX1_isBetter 88 = .ok (.getfield 68, 3) := dk_180 0 68 (dk_at dksX1_isBetter_3 18 rfl rfl)
theorem dX1_isBetter_91 : decode cX1_isBetter 91 = .ok (.iload 5, 2) := dk_21 5 (dk_at dksX1_isBetter_3 21 rfl rfl)
theorem dX1_isBetter_93 : decode cX1_isBetter 93 = .ok (.iaload, 1) := dk_46 (dk_at dksX1_isBetter_3 23 rfl rfl)
theorem dX1_isBetter_94 : decode cX1_isBetter 94 = .ok (.if_icmp .ge 8, 3) := dk_162 0 8 (dk_at dksX1_isBetter_4 0 rfl rfl)
theorem dX1_isBetter_97 : decode cX1_isBetter 97 = .ok (.iload 6, 2) := dk_21 6 (dk_at dksX1_isBetter_4 3 rfl rfl)
theorem dX1_isBetter_99 : decode cX1_isBetter 99 = .ok (.goto 5, 3) := dk_167 0 5 (dk_at dksX1_isBetter_4 5 rfl rfl)
theorem dX1_isBetter_102 : decode cX1_isBetter 102 = .ok (.iload 5, 2) := dk_21 5 (dk_at dksX1_isBetter_4 8 rfl rfl)
theorem dX1_isBetter_104 : decode cX1_isBetter 104 = .ok (.istore 5, 2) := dk_54 5 (dk_at dksX1_isBetter_4 10 rfl rfl)
theorem dX1_isBetter_106 : decode cX1_isBetter 106 = .ok (.iinc 6 1, 3) := dk_132 6 1 (dk_at dksX1_isBetter_4 12 rfl rfl)
theorem dX1_isBetter_109 : decode cX1_isBetter 109 = .ok (.goto (-72), 3) := dk_167 255 184 (dk_at dksX1_isBetter_4 15 rfl rfl)
theorem dX1_isBetter_112 : decode cX1_isBetter 112 = .ok (.iload 5, 2) := dk_21 5 (dk_at dksX1_isBetter_4 18 rfl rfl)
theorem dX1_isBetter_114 : decode cX1_isBetter 114 = .ok (.ifCond .ge 16, 3) := dk_156 0 16 (dk_at dksX1_isBetter_4 20 rfl rfl)
theorem dX1_isBetter_117 : decode cX1_isBetter 117 = .ok (.iload_n 1, 1) := dk_27 (dk_at dksX1_isBetter_4 23 rfl rfl)
theorem dX1_isBetter_118 : decode cX1_isBetter 118 = .ok (.iload_n 2, 1) := dk_28 (dk_at dksX1_isBetter_5 0 rfl rfl)
theorem dX1_isBetter_119 : decode cX1_isBetter 119 = .ok (.if_icmp .ge 7, 3) := dk_162 0 7 (dk_at dksX1_isBetter_5 1 rfl rfl)
theorem dX1_isBetter_122 : decode cX1_isBetter 122 = .ok (.iconst 1, 1) := dk_4 (dk_at dksX1_isBetter_5 4 rfl rfl)
theorem dX1_isBetter_123 : decode cX1_isBetter 123 = .ok (.goto 29, 3) := dk_167 0 29 (dk_at dksX1_isBetter_5 5 rfl rfl)
theorem dX1_isBetter_126 : decode cX1_isBetter 126 = .ok (.iconst 0, 1) := dk_3 (dk_at dksX1_isBetter_5 8 rfl rfl)
theorem dX1_isBetter_127 : decode cX1_isBetter 127 = .ok (.goto 25, 3) := dk_167 0 25 (dk_at dksX1_isBetter_5 9 rfl rfl)
theorem dX1_isBetter_130 : decode cX1_isBetter 130 = .ok (.aload_n 0, 1) := dk_42 (dk_at dksX1_isBetter_5 12 rfl rfl)
theorem dX1_isBetter_131 : decode cX1_isBetter 131 = .ok (.iload_n 1, 1) := dk_27 (dk_at dksX1_isBetter_5 13 rfl rfl)
theorem dX1_isBetter_132 : decode cX1_isBetter 132 = .ok (.iload 5, 2) := dk_21 5 (dk_at dksX1_isBetter_5 14 rfl rfl)
theorem dX1_isBetter_134 : decode cX1_isBetter 134 = .ok (.invokevirtual 265, 3) := dk_182 1 9 (dk_at dksX1_isBetter_5 16 rfl rfl)
theorem dX1_isBetter_137 : decode cX1_isBetter 137 = .ok (.aload_n 0, 1) := dk_42 (dk_at dksX1_isBetter_5 19 rfl rfl)
theorem dX1_isBetter_138 : decode cX1_isBetter 138 = .ok (.iload_n 2, 1) := dk_28 (dk_at dksX1_isBetter_5 20 rfl rfl)
theorem dX1_isBetter_139 : decode cX1_isBetter 139 = .ok (.iload 5, 2) := dk_21 5 (dk_at dksX1_isBetter_5 21 rfl rfl)
theorem dX1_isBetter_141 : decode cX1_isBetter 141 = .ok (.invokevirtual 265, 3) := dk_182 1 9 (dk_at dksX1_isBetter_6 0 rfl rfl)
theorem dX1_isBetter_144 : decode cX1_isBetter 144 = .ok (.if_icmp .ge 7, 3) := dk_162 0 7 (dk_at dksX1_isBetter_6 3 rfl rfl)
theorem dX1_isBetter_147 : decode cX1_isBetter 147 = .ok (.iconst 1, 1) := dk_4 (dk_at dksX1_isBetter_6 6 rfl rfl)
theorem dX1_isBetter_148 : decode cX1_isBetter 148 = .ok (.goto 4, 3) := dk_167 0 4 (dk_at dksX1_isBetter_6 7 rfl rfl)
theorem dX1_isBetter_151 : decode cX1_isBetter 151 = .ok (.iconst 0, 1) := dk_3 (dk_at dksX1_isBetter_6 10 rfl rfl)
theorem dX1_isBetter_152 : decode cX1_isBetter 152 = .ok (.ireturn, 1) := dk_172 (dk_at dksX1_isBetter_6 11 rfl rfl)
abbrev cX1_tell : ByteArray := prog_12_method_60_code
def yX1_tell : MethodName := ⟨RX1, "tell", "(I)I"⟩
def dkwX1_tell_3 : List UInt8 := [153, 0, 13, 42, 180, 0, 16, 27, 46, 116, 167, 0, 9, 42, 180, 0, 16, 27, 46, 172]
abbrev dktX1_tell_3 : List UInt8 := dkwX1_tell_3 ++ []
def dkwX1_tell_2 : List UInt8 := [46, 4, 160, 0, 14, 4, 42, 180, 0, 16, 27, 46, 96, 167, 0, 28, 42, 180, 0, 26, 27, 51]
abbrev dktX1_tell_2 : List UInt8 := dkwX1_tell_2 ++ dktX1_tell_3
def dkwX1_tell_1 : List UInt8 := [27, 46, 4, 160, 0, 7, 5, 167, 0, 4, 6, 182, 1, 21, 42, 4, 182, 1, 21, 42, 180, 0, 19, 27]
abbrev dktX1_tell_1 : List UInt8 := dkwX1_tell_1 ++ dktX1_tell_2
def dkwX1_tell_0 : List UInt8 := [42, 27, 182, 0, 125, 153, 0, 5, 2, 172, 42, 180, 0, 19, 27, 46, 158, 0, 22, 42, 42, 180, 0, 19]
abbrev dktX1_tell_0 : List UInt8 := dkwX1_tell_0 ++ dktX1_tell_1
theorem dksX1_tell_0 : cX1_tell.data.toList.drop 0 = dktX1_tell_0 := by decide +kernel
theorem dksX1_tell_1 : cX1_tell.data.toList.drop 24 = dktX1_tell_1 := dk_seg dksX1_tell_0 24 rfl rfl
theorem dksX1_tell_2 : cX1_tell.data.toList.drop 48 = dktX1_tell_2 := dk_seg dksX1_tell_1 24 rfl rfl
theorem dksX1_tell_3 : cX1_tell.data.toList.drop 70 = dktX1_tell_3 := dk_seg dksX1_tell_2 22 rfl rfl
theorem dX1_tell_0 : decode cX1_tell 0 = .ok (.aload_n 0, 1) := dk_42 (dk_at dksX1_tell_0 0 rfl rfl)
theorem dX1_tell_1 : decode cX1_tell 1 = .ok (.iload_n 1, 1) := dk_27 (dk_at dksX1_tell_0 1 rfl rfl)
theorem dX1_tell_2 : decode cX1_tell 2 = .ok (.invokevirtual 125, 3) := dk_182 0 125 (dk_at dksX1_tell_0 2 rfl rfl)
theorem dX1_tell_5 : decode cX1_tell 5 = .ok (.ifCond .eq 5, 3) := dk_153 0 5 (dk_at dksX1_tell_0 5 rfl rfl)
theorem dX1_tell_8 : decode cX1_tell 8 = .ok (.iconst (-1), 1) := dk_2 (dk_at dksX1_tell_0 8 rfl rfl)
theorem dX1_tell_9 : decode cX1_tell 9 = .ok (.ireturn, 1) := dk_172 (dk_at dksX1_tell_0 9 rfl rfl)
theorem dX1_tell_10 : decode cX1_tell 10 = .ok (.aload_n 0, 1) := dk_42 (dk_at dksX1_tell_0 10 rfl rfl)
theorem dX1_tell_11 : decode cX1_tell 11 = .ok (.getfield 19, 3) := dk_180 0 19 (dk_at dksX1_tell_0 11 rfl rfl)
theorem dX1_tell_14 : decode cX1_tell 14 = .ok (.iload_n 1, 1) := dk_27 (dk_at dksX1_tell_0 14 rfl rfl)
theorem dX1_tell_15 : decode cX1_tell 15 = .ok (.iaload, 1) := dk_46 (dk_at dksX1_tell_0 15 rfl rfl)
theorem dX1_tell_16 : decode cX1_tell 16 = .ok (.ifCond .le 22, 3) := dk_158 0 22 (dk_at dksX1_tell_0 16 rfl rfl)
theorem dX1_tell_19 : decode cX1_tell 19 = .ok (.aload_n 0, 1) := dk_42 (dk_at dksX1_tell_0 19 rfl rfl)
theorem dX1_tell_20 : decode cX1_tell 20 = .ok (.aload_n 0, 1) := dk_42 (dk_at dksX1_tell_0 20 rfl rfl)
theorem dX1_tell_21 : decode cX1_tell 21 = .ok (.getfield 19, 3) := dk_180 0 19 (dk_at dksX1_tell_0 21 rfl rfl)
theorem dX1_tell_24 : decode cX1_tell 24 = .ok (.iload_n 1, 1) := dk_27 (dk_at dksX1_tell_1 0 rfl rfl)
theorem dX1_tell_25 : decode cX1_tell 25 = .ok (.iaload, 1) := dk_46 (dk_at dksX1_tell_1 1 rfl rfl)
theorem dX1_tell_26 : decode cX1_tell 26 = .ok (.iconst 1, 1) := dk_4 (dk_at dksX1_tell_1 2 rfl rfl)
theorem dX1_tell_27 : decode cX1_tell 27 = .ok (.if_icmp .ne 7, 3) := dk_160 0 7 (dk_at dksX1_tell_1 3 rfl rfl)
theorem dX1_tell_30 : decode cX1_tell 30 = .ok (.iconst 2, 1) := dk_5 (dk_at dksX1_tell_1 6 rfl rfl)
theorem dX1_tell_31 : decode cX1_tell 31 = .ok (.goto 4, 3) := dk_167 0 4 (dk_at dksX1_tell_1 7 rfl rfl)
theorem dX1_tell_34 : decode cX1_tell 34 = .ok (.iconst 3, 1) := dk_6 (dk_at dksX1_tell_1 10 rfl rfl)
theorem dX1_tell_35 : decode cX1_tell 35 = .ok (.invokevirtual 277, 3) := dk_182 1 21 (dk_at dksX1_tell_1 11 rfl rfl)
theorem dX1_tell_38 : decode cX1_tell 38 = .ok (.aload_n 0, 1) := dk_42 (dk_at dksX1_tell_1 14 rfl rfl)
theorem dX1_tell_39 : decode cX1_tell 39 = .ok (.iconst 1, 1) := dk_4 (dk_at dksX1_tell_1 15 rfl rfl)
theorem dX1_tell_40 : decode cX1_tell 40 = .ok (.invokevirtual 277, 3) := dk_182 1 21 (dk_at dksX1_tell_1 16 rfl rfl)
theorem dX1_tell_43 : decode cX1_tell 43 = .ok (.aload_n 0, 1) := dk_42 (dk_at dksX1_tell_1 19 rfl rfl)
theorem dX1_tell_44 : decode cX1_tell 44 = .ok (.getfield 19, 3) := dk_180 0 19 (dk_at dksX1_tell_1 20 rfl rfl)
theorem dX1_tell_47 : decode cX1_tell 47 = .ok (.iload_n 1, 1) := dk_27 (dk_at dksX1_tell_1 23 rfl rfl)
theorem dX1_tell_48 : decode cX1_tell 48 = .ok (.iaload, 1) := dk_46 (dk_at dksX1_tell_2 0 rfl rfl)
theorem dX1_tell_49 : decode cX1_tell 49 = .ok (.iconst 1, 1) := dk_4 (dk_at dksX1_tell_2 1 rfl rfl)
theorem dX1_tell_50 : decode cX1_tell 50 = .ok (.if_icmp .ne 14, 3) := dk_160 0 14 (dk_at dksX1_tell_2 2 rfl rfl)
theorem dX1_tell_53 : decode cX1_tell 53 = .ok (.iconst 1, 1) := dk_4 (dk_at dksX1_tell_2 5 rfl rfl)
theorem dX1_tell_54 : decode cX1_tell 54 = .ok (.aload_n 0, 1) := dk_42 (dk_at dksX1_tell_2 6 rfl rfl)
theorem dX1_tell_55 : decode cX1_tell 55 = .ok (.getfield 16, 3) := dk_180 0 16 (dk_at dksX1_tell_2 7 rfl rfl)
theorem dX1_tell_58 : decode cX1_tell 58 = .ok (.iload_n 1, 1) := dk_27 (dk_at dksX1_tell_2 10 rfl rfl)
theorem dX1_tell_59 : decode cX1_tell 59 = .ok (.iaload, 1) := dk_46 (dk_at dksX1_tell_2 11 rfl rfl)
theorem dX1_tell_60 : decode cX1_tell 60 = .ok (.iadd, 1) := dk_96 (dk_at dksX1_tell_2 12 rfl rfl)
theorem dX1_tell_61 : decode cX1_tell 61 = .ok (.goto 28, 3) := dk_167 0 28 (dk_at dksX1_tell_2 13 rfl rfl)
theorem dX1_tell_64 : decode cX1_tell 64 = .ok (.aload_n 0, 1) := dk_42 (dk_at dksX1_tell_2 16 rfl rfl)
theorem dX1_tell_65 : decode cX1_tell 65 = .ok (.getfield 26, 3) := dk_180 0 26 (dk_at dksX1_tell_2 17 rfl rfl)
theorem dX1_tell_68 : decode cX1_tell 68 = .ok (.iload_n 1, 1) := dk_27 (dk_at dksX1_tell_2 20 rfl rfl)
theorem dX1_tell_69 : decode cX1_tell 69 = .ok (.baload, 1) := dk_51 (dk_at dksX1_tell_2 21 rfl rfl)
theorem dX1_tell_70 : decode cX1_tell 70 = .ok (.ifCond .eq 13, 3) := dk_153 0 13 (dk_at dksX1_tell_3 0 rfl rfl)
theorem dX1_tell_73 : decode cX1_tell 73 = .ok (.aload_n 0, 1) := dk_42 (dk_at dksX1_tell_3 3 rfl rfl)
theorem dX1_tell_74 : decode cX1_tell 74 = .ok (.getfield 16, 3) := dk_180 0 16 (dk_at dksX1_tell_3 4 rfl rfl)
theorem dX1_tell_77 : decode cX1_tell 77 = .ok (.iload_n 1, 1) := dk_27 (dk_at dksX1_tell_3 7 rfl rfl)
theorem dX1_tell_78 : decode cX1_tell 78 = .ok (.iaload, 1) := dk_46 (dk_at dksX1_tell_3 8 rfl rfl)
theorem dX1_tell_79 : decode cX1_tell 79 = .ok (.ineg, 1) := dk_116 (dk_at dksX1_tell_3 9 rfl rfl)
theorem dX1_tell_80 : decode cX1_tell 80 = .ok (.goto 9, 3) := dk_167 0 9 (dk_at dksX1_tell_3 10 rfl rfl)
theorem dX1_tell_83 : decode cX1_tell 83 = .ok (.aload_n 0, 1) := dk_42 (dk_at dksX1_tell_3 13 rfl rfl)
theorem dX1_tell_84 : decode cX1_tell 84 = .ok (.getfield 16, 3) := dk_180 0 16 (dk_at dksX1_tell_3 14 rfl rfl)
theorem dX1_tell_87 : decode cX1_tell 87 = .ok (.iload_n 1, 1) := dk_27 (dk_at dksX1_tell_3 17 rfl rfl)
theorem dX1_tell_88 : decode cX1_tell 88 = .ok (.iaload, 1) := dk_46 (dk_at dksX1_tell_3 18 rfl rfl)
theorem dX1_tell_89 : decode cX1_tell 89 = .ok (.ireturn, 1) := dk_172 (dk_at dksX1_tell_3 19 rfl rfl)
abbrev cX1_traced : ByteArray := prog_12_method_59_code
def yX1_traced : MethodName := ⟨RX1, "traced", "(I)V"⟩
def dkwX1_traced_0 : List UInt8 := [42, 16, 31, 42, 180, 1, 18, 104, 27, 96, 181, 1, 18, 177]
abbrev dktX1_traced_0 : List UInt8 := dkwX1_traced_0 ++ []
theorem dksX1_traced_0 : cX1_traced.data.toList.drop 0 = dktX1_traced_0 := by decide +kernel
theorem dX1_traced_0 : decode cX1_traced 0 = .ok (.aload_n 0, 1) := dk_42 (dk_at dksX1_traced_0 0 rfl rfl)
theorem dX1_traced_1 : decode cX1_traced 1 = .ok (.bipush 31, 2) := dk_16 31 (dk_at dksX1_traced_0 1 rfl rfl)
theorem dX1_traced_3 : decode cX1_traced 3 = .ok (.aload_n 0, 1) := dk_42 (dk_at dksX1_traced_0 3 rfl rfl)
theorem dX1_traced_4 : decode cX1_traced 4 = .ok (.getfield 274, 3) := dk_180 1 18 (dk_at dksX1_traced_0 4 rfl rfl)
theorem dX1_traced_7 : decode cX1_traced 7 = .ok (.imul, 1) := dk_104 (dk_at dksX1_traced_0 7 rfl rfl)
theorem dX1_traced_8 : decode cX1_traced 8 = .ok (.iload_n 1, 1) := dk_27 (dk_at dksX1_traced_0 8 rfl rfl)
theorem dX1_traced_9 : decode cX1_traced 9 = .ok (.iadd, 1) := dk_96 (dk_at dksX1_traced_0 9 rfl rfl)
theorem dX1_traced_10 : decode cX1_traced 10 = .ok (.putfield 274, 3) := dk_181 1 18 (dk_at dksX1_traced_0 10 rfl rfl)
theorem dX1_traced_13 : decode cX1_traced 13 = .ok (.return_, 1) := dk_177 (dk_at dksX1_traced_0 13 rfl rfl)
abbrev cX1_greet : ByteArray := prog_12_method_61_code
def yX1_greet : MethodName := ⟨RX1, "greet", "(I)I"⟩
def dkwX1_greet_2 : List UInt8 := [182, 1, 21, 42, 180, 0, 83, 27, 46, 5, 160, 0, 8, 16, 8, 167, 0, 5, 16, 7, 172]
abbrev dktX1_greet_2 : List UInt8 := dkwX1_greet_2 ++ []
def dkwX1_greet_1 : List UInt8 := [16, 10, 27, 104, 172, 42, 180, 0, 83, 27, 46, 5, 160, 0, 9, 42, 16, 6, 182, 1, 21, 42, 8]
abbrev dktX1_greet_1 : List UInt8 := dkwX1_greet_1 ++ dktX1_greet_2
def dkwX1_greet_0 : List UInt8 := [42, 27, 182, 0, 243, 153, 0, 5, 2, 172, 42, 180, 0, 83, 27, 46, 154, 0, 13, 42, 7, 182, 1, 21]
abbrev dktX1_greet_0 : List UInt8 := dkwX1_greet_0 ++ dktX1_greet_1
theorem dksX1_greet_0 : cX1_greet.data.toList.drop 0 = dktX1_greet_0 := by decide +kernel
theorem dksX1_greet_1 : cX1_greet.data.toList.drop 24 = dktX1_greet_1 := dk_seg dksX1_greet_0 24 rfl rfl
theorem dksX1_greet_2 : cX1_greet.data.toList.drop 47 = dktX1_greet_2 := dk_seg dksX1_greet_1 23 rfl rfl
theorem dX1_greet_0 : decode cX1_greet 0 = .ok (.aload_n 0, 1) := dk_42 (dk_at dksX1_greet_0 0 rfl rfl)
theorem dX1_greet_1 : decode cX1_greet 1 = .ok (.iload_n 1, 1) := dk_27 (dk_at dksX1_greet_0 1 rfl rfl)
theorem dX1_greet_2 : decode cX1_greet 2 = .ok (.invokevirtual 243, 3) := dk_182 0 243 (dk_at dksX1_greet_0 2 rfl rfl)
theorem dX1_greet_5 : decode cX1_greet 5 = .ok (.ifCond .eq 5, 3) := dk_153 0 5 (dk_at dksX1_greet_0 5 rfl rfl)
theorem dX1_greet_8 : decode cX1_greet 8 = .ok (.iconst (-1), 1) := dk_2 (dk_at dksX1_greet_0 8 rfl rfl)
theorem dX1_greet_9 : decode cX1_greet 9 = .ok (.ireturn, 1) := dk_172 (dk_at dksX1_greet_0 9 rfl rfl)
theorem dX1_greet_10 : decode cX1_greet 10 = .ok (.aload_n 0, 1) := dk_42 (dk_at dksX1_greet_0 10 rfl rfl)
theorem dX1_greet_11 : decode cX1_greet 11 = .ok (.getfield 83, 3) := dk_180 0 83 (dk_at dksX1_greet_0 11 rfl rfl)
theorem dX1_greet_14 : decode cX1_greet 14 = .ok (.iload_n 1, 1) := dk_27 (dk_at dksX1_greet_0 14 rfl rfl)
theorem dX1_greet_15 : decode cX1_greet 15 = .ok (.iaload, 1) := dk_46 (dk_at dksX1_greet_0 15 rfl rfl)
theorem dX1_greet_16 : decode cX1_greet 16 = .ok (.ifCond .ne 13, 3) := dk_154 0 13 (dk_at dksX1_greet_0 16 rfl rfl)
theorem dX1_greet_19 : decode cX1_greet 19 = .ok (.aload_n 0, 1) := dk_42 (dk_at dksX1_greet_0 19 rfl rfl)
theorem dX1_greet_20 : decode cX1_greet 20 = .ok (.iconst 4, 1) := dk_7 (dk_at dksX1_greet_0 20 rfl rfl)
theorem dX1_greet_21 : decode cX1_greet 21 = .ok (.invokevirtual 277, 3) := dk_182 1 21 (dk_at dksX1_greet_0 21 rfl rfl)
theorem dX1_greet_24 : decode cX1_greet 24 = .ok (.bipush 10, 2) := dk_16 10 (dk_at dksX1_greet_1 0 rfl rfl)
theorem dX1_greet_26 : decode cX1_greet 26 = .ok (.iload_n 1, 1) := dk_27 (dk_at dksX1_greet_1 2 rfl rfl)
theorem dX1_greet_27 : decode cX1_greet 27 = .ok (.imul, 1) := dk_104 (dk_at dksX1_greet_1 3 rfl rfl)
theorem dX1_greet_28 : decode cX1_greet 28 = .ok (.ireturn, 1) := dk_172 (dk_at dksX1_greet_1 4 rfl rfl)
theorem dX1_greet_29 : decode cX1_greet 29 = .ok (.aload_n 0, 1) := dk_42 (dk_at dksX1_greet_1 5 rfl rfl)
theorem dX1_greet_30 : decode cX1_greet 30 = .ok (.getfield 83, 3) := dk_180 0 83 (dk_at dksX1_greet_1 6 rfl rfl)
theorem dX1_greet_33 : decode cX1_greet 33 = .ok (.iload_n 1, 1) := dk_27 (dk_at dksX1_greet_1 9 rfl rfl)
theorem dX1_greet_34 : decode cX1_greet 34 = .ok (.iaload, 1) := dk_46 (dk_at dksX1_greet_1 10 rfl rfl)
theorem dX1_greet_35 : decode cX1_greet 35 = .ok (.iconst 2, 1) := dk_5 (dk_at dksX1_greet_1 11 rfl rfl)
theorem dX1_greet_36 : decode cX1_greet 36 = .ok (.if_icmp .ne 9, 3) := dk_160 0 9 (dk_at dksX1_greet_1 12 rfl rfl)
theorem dX1_greet_39 : decode cX1_greet 39 = .ok (.aload_n 0, 1) := dk_42 (dk_at dksX1_greet_1 15 rfl rfl)
theorem dX1_greet_40 : decode cX1_greet 40 = .ok (.bipush 6, 2) := dk_16 6 (dk_at dksX1_greet_1 16 rfl rfl)
theorem dX1_greet_42 : decode cX1_greet 42 = .ok (.invokevirtual 277, 3) := dk_182 1 21 (dk_at dksX1_greet_1 18 rfl rfl)
theorem dX1_greet_45 : decode cX1_greet 45 = .ok (.aload_n 0, 1) := dk_42 (dk_at dksX1_greet_1 21 rfl rfl)
theorem dX1_greet_46 : decode cX1_greet 46 = .ok (.iconst 5, 1) := dk_8 (dk_at dksX1_greet_1 22 rfl rfl)
theorem dX1_greet_47 : decode cX1_greet 47 = .ok (.invokevirtual 277, 3) := dk_182 1 21 (dk_at dksX1_greet_2 0 rfl rfl)
theorem dX1_greet_50 : decode cX1_greet 50 = .ok (.aload_n 0, 1) := dk_42 (dk_at dksX1_greet_2 3 rfl rfl)
theorem dX1_greet_51 : decode cX1_greet 51 = .ok (.getfield 83, 3) := dk_180 0 83 (dk_at dksX1_greet_2 4 rfl rfl)
theorem dX1_greet_54 : decode cX1_greet 54 = .ok (.iload_n 1, 1) := dk_27 (dk_at dksX1_greet_2 7 rfl rfl)
theorem dX1_greet_55 : decode cX1_greet 55 = .ok (.iaload, 1) := dk_46 (dk_at dksX1_greet_2 8 rfl rfl)
theorem dX1_greet_56 : decode cX1_greet 56 = .ok (.iconst 2, 1) := dk_5 (dk_at dksX1_greet_2 9 rfl rfl)
theorem dX1_greet_57 : decode cX1_greet 57 = .ok (.if_icmp .ne 8, 3) := dk_160 0 8 (dk_at dksX1_greet_2 10 rfl rfl)
theorem dX1_greet_60 : decode cX1_greet 60 = .ok (.bipush 8, 2) := dk_16 8 (dk_at dksX1_greet_2 13 rfl rfl)
theorem dX1_greet_62 : decode cX1_greet 62 = .ok (.goto 5, 3) := dk_167 0 5 (dk_at dksX1_greet_2 15 rfl rfl)
theorem dX1_greet_65 : decode cX1_greet 65 = .ok (.bipush 7, 2) := dk_16 7 (dk_at dksX1_greet_2 18 rfl rfl)
theorem dX1_greet_67 : decode cX1_greet 67 = .ok (.ireturn, 1) := dk_172 (dk_at dksX1_greet_2 20 rfl rfl)
abbrev cX1_as : ByteArray := prog_12_method_62_code
def yX1_as : MethodName := ⟨RX1, "as", "(II)I"⟩
def dkwX1_as_2 : List UInt8 := [182, 0, 128, 167, 0, 8, 42, 5, 182, 0, 132, 172]
abbrev dktX1_as_2 : List UInt8 := dkwX1_as_2 ++ []
def dkwX1_as_1 : List UInt8 := [154, 0, 10, 42, 16, 254, 182, 0, 128, 172, 42, 180, 0, 83, 27, 46, 28, 161, 0, 11, 42, 4]
abbrev dktX1_as_1 : List UInt8 := dkwX1_as_1 ++ dktX1_as_2
def dkwX1_as_0 : List UInt8 := [42, 27, 182, 0, 243, 153, 0, 9, 42, 2, 182, 0, 128, 172, 28, 133, 9, 20, 0, 123, 184, 0, 111]
abbrev dktX1_as_0 : List UInt8 := dkwX1_as_0 ++ dktX1_as_1
theorem dksX1_as_0 : cX1_as.data.toList.drop 0 = dktX1_as_0 := by decide +kernel
theorem dksX1_as_1 : cX1_as.data.toList.drop 23 = dktX1_as_1 := dk_seg dksX1_as_0 23 rfl rfl
theorem dksX1_as_2 : cX1_as.data.toList.drop 45 = dktX1_as_2 := dk_seg dksX1_as_1 22 rfl rfl
theorem dX1_as_0 : decode cX1_as 0 = .ok (.aload_n 0, 1) := dk_42 (dk_at dksX1_as_0 0 rfl rfl)
theorem dX1_as_1 : decode cX1_as 1 = .ok (.iload_n 1, 1) := dk_27 (dk_at dksX1_as_0 1 rfl rfl)
theorem dX1_as_2 : decode cX1_as 2 = .ok (.invokevirtual 243, 3) := dk_182 0 243 (dk_at dksX1_as_0 2 rfl rfl)
theorem dX1_as_5 : decode cX1_as 5 = .ok (.ifCond .eq 9, 3) := dk_153 0 9 (dk_at dksX1_as_0 5 rfl rfl)
theorem dX1_as_8 : decode cX1_as 8 = .ok (.aload_n 0, 1) := dk_42 (dk_at dksX1_as_0 8 rfl rfl)
theorem dX1_as_9 : decode cX1_as 9 = .ok (.iconst (-1), 1) := dk_2 (dk_at dksX1_as_0 9 rfl rfl)
theorem dX1_as_10 : decode cX1_as 10 = .ok (.invokevirtual 128, 3) := dk_182 0 128 (dk_at dksX1_as_0 10 rfl rfl)
theorem dX1_as_13 : decode cX1_as 13 = .ok (.ireturn, 1) := dk_172 (dk_at dksX1_as_0 13 rfl rfl)
theorem dX1_as_14 : decode cX1_as 14 = .ok (.iload_n 2, 1) := dk_28 (dk_at dksX1_as_0 14 rfl rfl)
theorem dX1_as_15 : decode cX1_as 15 = .ok (.i2l, 1) := dk_133 (dk_at dksX1_as_0 15 rfl rfl)
theorem dX1_as_16 : decode cX1_as 16 = .ok (.lconst 0, 1) := dk_9 (dk_at dksX1_as_0 16 rfl rfl)
theorem dX1_as_17 : decode cX1_as 17 = .ok (.ldc2_w 123, 3) := dk_20 0 123 (dk_at dksX1_as_0 17 rfl rfl)
theorem dX1_as_20 : decode cX1_as 20 = .ok (.invokestatic 111, 3) := dk_184 0 111 (dk_at dksX1_as_0 20 rfl rfl)
theorem dX1_as_23 : decode cX1_as 23 = .ok (.ifCond .ne 10, 3) := dk_154 0 10 (dk_at dksX1_as_1 0 rfl rfl)
theorem dX1_as_26 : decode cX1_as 26 = .ok (.aload_n 0, 1) := dk_42 (dk_at dksX1_as_1 3 rfl rfl)
theorem dX1_as_27 : decode cX1_as 27 = .ok (.bipush (-2), 2) := dk_16 254 (dk_at dksX1_as_1 4 rfl rfl)
theorem dX1_as_29 : decode cX1_as 29 = .ok (.invokevirtual 128, 3) := dk_182 0 128 (dk_at dksX1_as_1 6 rfl rfl)
theorem dX1_as_32 : decode cX1_as 32 = .ok (.ireturn, 1) := dk_172 (dk_at dksX1_as_1 9 rfl rfl)
theorem dX1_as_33 : decode cX1_as 33 = .ok (.aload_n 0, 1) := dk_42 (dk_at dksX1_as_1 10 rfl rfl)
theorem dX1_as_34 : decode cX1_as 34 = .ok (.getfield 83, 3) := dk_180 0 83 (dk_at dksX1_as_1 11 rfl rfl)
theorem dX1_as_37 : decode cX1_as 37 = .ok (.iload_n 1, 1) := dk_27 (dk_at dksX1_as_1 14 rfl rfl)
theorem dX1_as_38 : decode cX1_as 38 = .ok (.iaload, 1) := dk_46 (dk_at dksX1_as_1 15 rfl rfl)
theorem dX1_as_39 : decode cX1_as 39 = .ok (.iload_n 2, 1) := dk_28 (dk_at dksX1_as_1 16 rfl rfl)
theorem dX1_as_40 : decode cX1_as 40 = .ok (.if_icmp .lt 11, 3) := dk_161 0 11 (dk_at dksX1_as_1 17 rfl rfl)
theorem dX1_as_43 : decode cX1_as 43 = .ok (.aload_n 0, 1) := dk_42 (dk_at dksX1_as_1 20 rfl rfl)
theorem dX1_as_44 : decode cX1_as 44 = .ok (.iconst 1, 1) := dk_4 (dk_at dksX1_as_1 21 rfl rfl)
theorem dX1_as_45 : decode cX1_as 45 = .ok (.invokevirtual 128, 3) := dk_182 0 128 (dk_at dksX1_as_2 0 rfl rfl)
theorem dX1_as_48 : decode cX1_as 48 = .ok (.goto 8, 3) := dk_167 0 8 (dk_at dksX1_as_2 3 rfl rfl)
theorem dX1_as_51 : decode cX1_as 51 = .ok (.aload_n 0, 1) := dk_42 (dk_at dksX1_as_2 6 rfl rfl)
theorem dX1_as_52 : decode cX1_as 52 = .ok (.iconst 2, 1) := dk_5 (dk_at dksX1_as_2 7 rfl rfl)
theorem dX1_as_53 : decode cX1_as 53 = .ok (.invokevirtual 132, 3) := dk_182 0 132 (dk_at dksX1_as_2 8 rfl rfl)
theorem dX1_as_56 : decode cX1_as 56 = .ok (.ireturn, 1) := dk_172 (dk_at dksX1_as_2 11 rfl rfl)
abbrev cX1_trace : ByteArray := prog_12_method_63_code
def yX1_trace : MethodName := ⟨RX1, "trace", "()I"⟩
theorem dX1_trace_0 : decode cX1_trace 0 = .ok (.aload_n 0, 1) := by decide +kernel
theorem dX1_trace_1 : decode cX1_trace 1 = .ok (.getfield 274, 3) := by decide +kernel
theorem dX1_trace_4 : decode cX1_trace 4 = .ok (.ireturn, 1) := by decide +kernel
abbrev cX1_fault : ByteArray := prog_12_method_64_code
def yX1_fault : MethodName := ⟨RX1, "fault", "()I"⟩
theorem dX1_fault_0 : decode cX1_fault 0 = .ok (.aload_n 0, 1) := by decide +kernel
theorem dX1_fault_1 : decode cX1_fault 1 = .ok (.getfield 101, 3) := by decide +kernel
theorem dX1_fault_4 : decode cX1_fault 4 = .ok (.ireturn, 1) := by decide +kernel
abbrev cX1_told : ByteArray := prog_12_method_65_code
def yX1_told : MethodName := ⟨RX1, "told", "(I)I"⟩
def dkwX1_told_4 : List UInt8 := [42, 180, 0, 176, 172, 16, 254, 172]
abbrev dktX1_told_4 : List UInt8 := dkwX1_told_4 ++ []
def dkwX1_told_3 : List UInt8 := [180, 0, 193, 172, 42, 180, 0, 196, 172, 42, 180, 0, 199, 172, 42, 180, 0, 238, 172, 42, 180, 0, 161, 172]
abbrev dktX1_told_3 : List UInt8 := dkwX1_told_3 ++ dktX1_told_4
def dkwX1_told_2 : List UInt8 := [42, 180, 0, 108, 172, 42, 180, 0, 95, 172, 42, 180, 0, 95, 154, 0, 7, 3, 167, 0, 7, 42]
abbrev dktX1_told_2 : List UInt8 := dkwX1_told_2 ++ dktX1_told_3
def dkwX1_told_1 : List UInt8 := [170, 0, 0, 0, 0, 0, 98, 0, 0, 0, 0, 0, 0, 0, 7, 0, 0, 0, 47, 0, 0, 0, 52, 0, 0, 0, 57, 0, 0, 0, 73, 0, 0, 0, 78, 0, 0, 0, 83, 0, 0, 0, 88, 0, 0, 0, 93]
abbrev dktX1_told_1 : List UInt8 := dkwX1_told_1 ++ dktX1_told_2
def dkwX1_told_0 : List UInt8 := [27]
abbrev dktX1_told_0 : List UInt8 := dkwX1_told_0 ++ dktX1_told_1
theorem dksX1_told_0 : cX1_told.data.toList.drop 0 = dktX1_told_0 := by decide +kernel
theorem dksX1_told_1 : cX1_told.data.toList.drop 1 = dktX1_told_1 := dk_seg dksX1_told_0 1 rfl rfl
theorem dksX1_told_2 : cX1_told.data.toList.drop 48 = dktX1_told_2 := dk_seg dksX1_told_1 47 rfl rfl
theorem dksX1_told_3 : cX1_told.data.toList.drop 70 = dktX1_told_3 := dk_seg dksX1_told_2 22 rfl rfl
theorem dksX1_told_4 : cX1_told.data.toList.drop 94 = dktX1_told_4 := dk_seg dksX1_told_3 24 rfl rfl
theorem dX1_told_0 : decode cX1_told 0 = .ok (.iload_n 1, 1) := dk_27 (dk_at dksX1_told_0 0 rfl rfl)
theorem dX1_told_1 : decode cX1_told 1 = .ok (.tableswitch 98 0 7 #[47, 52, 57, 73, 78, 83, 88, 93], 47) := by decide +kernel
theorem dX1_told_48 : decode cX1_told 48 = .ok (.aload_n 0, 1) := dk_42 (dk_at dksX1_told_2 0 rfl rfl)
theorem dX1_told_49 : decode cX1_told 49 = .ok (.getfield 108, 3) := dk_180 0 108 (dk_at dksX1_told_2 1 rfl rfl)
theorem dX1_told_52 : decode cX1_told 52 = .ok (.ireturn, 1) := dk_172 (dk_at dksX1_told_2 4 rfl rfl)
theorem dX1_told_53 : decode cX1_told 53 = .ok (.aload_n 0, 1) := dk_42 (dk_at dksX1_told_2 5 rfl rfl)
theorem dX1_told_54 : decode cX1_told 54 = .ok (.getfield 95, 3) := dk_180 0 95 (dk_at dksX1_told_2 6 rfl rfl)
theorem dX1_told_57 : decode cX1_told 57 = .ok (.ireturn, 1) := dk_172 (dk_at dksX1_told_2 9 rfl rfl)
theorem dX1_told_58 : decode cX1_told 58 = .ok (.aload_n 0, 1) := dk_42 (dk_at dksX1_told_2 10 rfl rfl)
theorem dX1_told_59 : decode cX1_told 59 = .ok (.getfield 95, 3) := dk_180 0 95 (dk_at dksX1_told_2 11 rfl rfl)
theorem dX1_told_62 : decode cX1_told 62 = .ok (.ifCond .ne 7, 3) := dk_154 0 7 (dk_at dksX1_told_2 14 rfl rfl)
theorem dX1_told_65 : decode cX1_told 65 = .ok (.iconst 0, 1) := dk_3 (dk_at dksX1_told_2 17 rfl rfl)
theorem dX1_told_66 : decode cX1_told 66 = .ok (.goto 7, 3) := dk_167 0 7 (dk_at dksX1_told_2 18 rfl rfl)
theorem dX1_told_69 : decode cX1_told 69 = .ok (.aload_n 0, 1) := dk_42 (dk_at dksX1_told_2 21 rfl rfl)
theorem dX1_told_70 : decode cX1_told 70 = .ok (.getfield 193, 3) := dk_180 0 193 (dk_at dksX1_told_3 0 rfl rfl)
theorem dX1_told_73 : decode cX1_told 73 = .ok (.ireturn, 1) := dk_172 (dk_at dksX1_told_3 3 rfl rfl)
theorem dX1_told_74 : decode cX1_told 74 = .ok (.aload_n 0, 1) := dk_42 (dk_at dksX1_told_3 4 rfl rfl)
theorem dX1_told_75 : decode cX1_told 75 = .ok (.getfield 196, 3) := dk_180 0 196 (dk_at dksX1_told_3 5 rfl rfl)
theorem dX1_told_78 : decode cX1_told 78 = .ok (.ireturn, 1) := dk_172 (dk_at dksX1_told_3 8 rfl rfl)
theorem dX1_told_79 : decode cX1_told 79 = .ok (.aload_n 0, 1) := dk_42 (dk_at dksX1_told_3 9 rfl rfl)
theorem dX1_told_80 : decode cX1_told 80 = .ok (.getfield 199, 3) := dk_180 0 199 (dk_at dksX1_told_3 10 rfl rfl)
theorem dX1_told_83 : decode cX1_told 83 = .ok (.ireturn, 1) := dk_172 (dk_at dksX1_told_3 13 rfl rfl)
theorem dX1_told_84 : decode cX1_told 84 = .ok (.aload_n 0, 1) := dk_42 (dk_at dksX1_told_3 14 rfl rfl)
theorem dX1_told_85 : decode cX1_told 85 = .ok (.getfield 238, 3) := dk_180 0 238 (dk_at dksX1_told_3 15 rfl rfl)
theorem dX1_told_88 : decode cX1_told 88 = .ok (.ireturn, 1) := dk_172 (dk_at dksX1_told_3 18 rfl rfl)
theorem dX1_told_89 : decode cX1_told 89 = .ok (.aload_n 0, 1) := dk_42 (dk_at dksX1_told_3 19 rfl rfl)
theorem dX1_told_90 : decode cX1_told 90 = .ok (.getfield 161, 3) := dk_180 0 161 (dk_at dksX1_told_3 20 rfl rfl)
theorem dX1_told_93 : decode cX1_told 93 = .ok (.ireturn, 1) := dk_172 (dk_at dksX1_told_3 23 rfl rfl)
theorem dX1_told_94 : decode cX1_told 94 = .ok (.aload_n 0, 1) := dk_42 (dk_at dksX1_told_4 0 rfl rfl)
theorem dX1_told_95 : decode cX1_told 95 = .ok (.getfield 176, 3) := dk_180 0 176 (dk_at dksX1_told_4 1 rfl rfl)
theorem dX1_told_98 : decode cX1_told 98 = .ok (.ireturn, 1) := dk_172 (dk_at dksX1_told_4 4 rfl rfl)
theorem dX1_told_99 : decode cX1_told 99 = .ok (.bipush (-2), 2) := dk_16 254 (dk_at dksX1_told_4 5 rfl rfl)
theorem dX1_told_101 : decode cX1_told 101 = .ok (.ireturn, 1) := dk_172 (dk_at dksX1_told_4 7 rfl rfl)
theorem q52 : (Jvm.Cond.initialized "RegularRallyModel") ∈ lw_all := lw_g (lw_at lw_m1 5 rfl) rfl
theorem q307 : (Jvm.Cond.selects "RegularRallyModel" ({ cls := "java/lang/Object", name := "getClass", desc := "()Ljava/lang/Class;" } : Jvm.MethodName) ({ cls := "java/lang/Object", name := "getClass", desc := "()Ljava/lang/Class;" } : Jvm.MethodName)) ∈ lw_all := lw_g (lw_at lw_m2 20 rfl) rfl
theorem q1087 : (Jvm.Cond.instantiable "RegularRallyModel" (43 : Nat)) ∈ lw_all := lw_g (lw_at lw_m5 80 rfl) rfl
theorem q1089 : (Jvm.Cond.instanceMethod ({ cls := "RegularRallyModel", name := "<init>", desc := "()V" } : Jvm.MethodName)) ∈ lw_all := lw_g (lw_at lw_m5 82 rfl) rfl
theorem q1090 : (Jvm.Cond.code ({ cls := "RegularRallyModel", name := "<init>", desc := "()V" } : Jvm.MethodName) prog_12_method_1_code (2 : Nat) (Option.none : Option Jvm.ClassFile.FieldType)) ∈ lw_all := lw_g (lw_at lw_m5 83 rfl) rfl
theorem q1091 : (Jvm.Cond.methodLink "RegularRallyModel" (1 : Nat) ({ cls := "java/lang/Object", name := "<init>", desc := "()V" } : Jvm.MethodName)) ∈ lw_all := lw_g (lw_at lw_m5 84 rfl) rfl
theorem q1092 : (Jvm.Cond.fieldLink "RegularRallyModel" (101 : Nat) "RegularRallyModel" "fault" "I") ∈ lw_all := lw_g (lw_at lw_m5 85 rfl) rfl
theorem q1093 : (Jvm.Cond.fieldLink "RegularRallyModel" (108 : Nat) "RegularRallyModel" "roads" "I") ∈ lw_all := lw_g (lw_at lw_m5 86 rfl) rfl
theorem q1094 : (Jvm.Cond.fieldLink "RegularRallyModel" (7 : Nat) "RegularRallyModel" "from" "[I") ∈ lw_all := lw_g (lw_at lw_m5 87 rfl) rfl
theorem q1095 : (Jvm.Cond.fieldLink "RegularRallyModel" (13 : Nat) "RegularRallyModel" "to" "[I") ∈ lw_all := lw_g (lw_at lw_m5 88 rfl) rfl
theorem q1096 : (Jvm.Cond.fieldLink "RegularRallyModel" (16 : Nat) "RegularRallyModel" "length" "[I") ∈ lw_all := lw_g (lw_at lw_m5 89 rfl) rfl
theorem q1097 : (Jvm.Cond.fieldLink "RegularRallyModel" (19 : Nat) "RegularRallyModel" "kind" "[I") ∈ lw_all := lw_g (lw_at lw_m5 90 rfl) rfl
theorem q1098 : (Jvm.Cond.fieldLink "RegularRallyModel" (22 : Nat) "RegularRallyModel" "isShut" "[Z") ∈ lw_all := lw_g (lw_at lw_m5 91 rfl) rfl
theorem q1099 : (Jvm.Cond.fieldLink "RegularRallyModel" (26 : Nat) "RegularRallyModel" "isWet" "[Z") ∈ lw_all := lw_g (lw_at lw_m5 92 rfl) rfl
theorem q1100 : (Jvm.Cond.fieldLink "RegularRallyModel" (29 : Nat) "RegularRallyModel" "sheetSize" "[I") ∈ lw_all := lw_g (lw_at lw_m5 93 rfl) rfl
theorem q1101 : (Jvm.Cond.fieldLink "RegularRallyModel" (32 : Nat) "RegularRallyModel" "sheetLane" "[I") ∈ lw_all := lw_g (lw_at lw_m5 94 rfl) rfl
theorem q1102 : (Jvm.Cond.fieldLink "RegularRallyModel" (35 : Nat) "RegularRallyModel" "sheet" "[I") ∈ lw_all := lw_g (lw_at lw_m5 95 rfl) rfl
theorem q1103 : (Jvm.Cond.fieldLink "RegularRallyModel" (38 : Nat) "RegularRallyModel" "hands" "[I") ∈ lw_all := lw_g (lw_at lw_m5 96 rfl) rfl
theorem q1104 : (Jvm.Cond.fieldLink "RegularRallyModel" (161 : Nat) "RegularRallyModel" "spots" "I") ∈ lw_all := lw_g (lw_at lw_m5 97 rfl) rfl
theorem q1105 : (Jvm.Cond.fieldLink "RegularRallyModel" (41 : Nat) "RegularRallyModel" "book" "[I") ∈ lw_all := lw_g (lw_at lw_m5 98 rfl) rfl
theorem q1106 : (Jvm.Cond.fieldLink "RegularRallyModel" (176 : Nat) "RegularRallyModel" "trials" "I") ∈ lw_all := lw_g (lw_at lw_m5 99 rfl) rfl
theorem q1107 : (Jvm.Cond.fieldLink "RegularRallyModel" (167 : Nat) "RegularRallyModel" "bestSum" "I") ∈ lw_all := lw_g (lw_at lw_m5 100 rfl) rfl
theorem q1108 : (Jvm.Cond.fieldLink "RegularRallyModel" (170 : Nat) "RegularRallyModel" "bestMany" "I") ∈ lw_all := lw_g (lw_at lw_m5 101 rfl) rfl
theorem q1109 : (Jvm.Cond.fieldLink "RegularRallyModel" (44 : Nat) "RegularRallyModel" "best" "[I") ∈ lw_all := lw_g (lw_at lw_m5 102 rfl) rfl
theorem q1110 : (Jvm.Cond.fieldLink "RegularRallyModel" (173 : Nat) "RegularRallyModel" "rivals" "I") ∈ lw_all := lw_g (lw_at lw_m5 103 rfl) rfl
theorem q1111 : (Jvm.Cond.fieldLink "RegularRallyModel" (164 : Nat) "RegularRallyModel" "deep" "I") ∈ lw_all := lw_g (lw_at lw_m5 104 rfl) rfl
theorem q1112 : (Jvm.Cond.fieldLink "RegularRallyModel" (47 : Nat) "RegularRallyModel" "row" "[I") ∈ lw_all := lw_g (lw_at lw_m5 105 rfl) rfl
theorem q1113 : (Jvm.Cond.fieldLink "RegularRallyModel" (50 : Nat) "RegularRallyModel" "spot" "[I") ∈ lw_all := lw_g (lw_at lw_m5 106 rfl) rfl
theorem q1114 : (Jvm.Cond.fieldLink "RegularRallyModel" (53 : Nat) "RegularRallyModel" "found" "[I") ∈ lw_all := lw_g (lw_at lw_m5 107 rfl) rfl
theorem q1115 : (Jvm.Cond.fieldLink "RegularRallyModel" (56 : Nat) "RegularRallyModel" "sum" "[I") ∈ lw_all := lw_g (lw_at lw_m5 108 rfl) rfl
theorem q1116 : (Jvm.Cond.fieldLink "RegularRallyModel" (95 : Nat) "RegularRallyModel" "laidMany" "I") ∈ lw_all := lw_g (lw_at lw_m5 109 rfl) rfl
theorem q1117 : (Jvm.Cond.fieldLink "RegularRallyModel" (193 : Nat) "RegularRallyModel" "metres" "I") ∈ lw_all := lw_g (lw_at lw_m5 110 rfl) rfl
theorem q1118 : (Jvm.Cond.fieldLink "RegularRallyModel" (59 : Nat) "RegularRallyModel" "laid" "[I") ∈ lw_all := lw_g (lw_at lw_m5 111 rfl) rfl
theorem q1119 : (Jvm.Cond.fieldLink "RegularRallyModel" (196 : Nat) "RegularRallyModel" "speeds" "I") ∈ lw_all := lw_g (lw_at lw_m5 112 rfl) rfl
theorem q1120 : (Jvm.Cond.fieldLink "RegularRallyModel" (62 : Nat) "RegularRallyModel" "speedFrom" "[I") ∈ lw_all := lw_g (lw_at lw_m5 113 rfl) rfl
theorem q1121 : (Jvm.Cond.fieldLink "RegularRallyModel" (65 : Nat) "RegularRallyModel" "speed" "[I") ∈ lw_all := lw_g (lw_at lw_m5 114 rfl) rfl
theorem q1122 : (Jvm.Cond.fieldLink "RegularRallyModel" (199 : Nat) "RegularRallyModel" "controls" "I") ∈ lw_all := lw_g (lw_at lw_m5 115 rfl) rfl
theorem q1123 : (Jvm.Cond.fieldLink "RegularRallyModel" (68 : Nat) "RegularRallyModel" "placeOf" "[I") ∈ lw_all := lw_g (lw_at lw_m5 116 rfl) rfl
theorem q1124 : (Jvm.Cond.fieldLink "RegularRallyModel" (71 : Nat) "RegularRallyModel" "isStruck" "[Z") ∈ lw_all := lw_g (lw_at lw_m5 117 rfl) rfl
theorem q1125 : (Jvm.Cond.fieldLink "RegularRallyModel" (74 : Nat) "RegularRallyModel" "isChecked" "[Z") ∈ lw_all := lw_g (lw_at lw_m5 118 rfl) rfl
theorem q1126 : (Jvm.Cond.fieldLink "RegularRallyModel" (77 : Nat) "RegularRallyModel" "checks" "[I") ∈ lw_all := lw_g (lw_at lw_m5 119 rfl) rfl
theorem q1127 : (Jvm.Cond.fieldLink "RegularRallyModel" (238 : Nat) "RegularRallyModel" "cars" "I") ∈ lw_all := lw_g (lw_at lw_m5 120 rfl) rfl
theorem q1128 : (Jvm.Cond.fieldLink "RegularRallyModel" (80 : Nat) "RegularRallyModel" "start" "[I") ∈ lw_all := lw_g (lw_at lw_m5 121 rfl) rfl
theorem q1129 : (Jvm.Cond.fieldLink "RegularRallyModel" (83 : Nat) "RegularRallyModel" "sort" "[I") ∈ lw_all := lw_g (lw_at lw_m5 122 rfl) rfl
theorem q1130 : (Jvm.Cond.fieldLink "RegularRallyModel" (202 : Nat) "RegularRallyModel" "clocked" "I") ∈ lw_all := lw_g (lw_at lw_m5 123 rfl) rfl
theorem q1131 : (Jvm.Cond.fieldLink "RegularRallyModel" (86 : Nat) "RegularRallyModel" "clockedAs" "[I") ∈ lw_all := lw_g (lw_at lw_m5 124 rfl) rfl
theorem q1132 : (Jvm.Cond.fieldLink "RegularRallyModel" (89 : Nat) "RegularRallyModel" "time" "[I") ∈ lw_all := lw_g (lw_at lw_m5 125 rfl) rfl
theorem q1133 : (Jvm.Cond.fieldLink "RegularRallyModel" (92 : Nat) "RegularRallyModel" "allowance" "[I") ∈ lw_all := lw_g (lw_at lw_m5 126 rfl) rfl
theorem q1134 : (Jvm.Cond.fieldLink "RegularRallyModel" (274 : Nat) "RegularRallyModel" "trace" "I") ∈ lw_all := lw_g (lw_at lw_m5 127 rfl) rfl
theorem q1135 : (Jvm.Cond.lays "RegularRallyModel" "RegularRallyModel" "fault" "I") ∈ lw_all := lw_g (lw_at lw_m5 128 rfl) rfl
theorem q1136 : (Jvm.Cond.soleField "RegularRallyModel" "fault") ∈ lw_all := lw_g (lw_at lw_m5 129 rfl) rfl
theorem q1137 : (Jvm.Cond.lays "RegularRallyModel" "RegularRallyModel" "roads" "I") ∈ lw_all := lw_g (lw_at lw_m5 130 rfl) rfl
theorem q1138 : (Jvm.Cond.soleField "RegularRallyModel" "roads") ∈ lw_all := lw_g (lw_at lw_m5 131 rfl) rfl
theorem q1139 : (Jvm.Cond.laysFinal "RegularRallyModel" "RegularRallyModel" "from" "[I") ∈ lw_all := lw_g (lw_at lw_m5 132 rfl) rfl
theorem q1140 : (Jvm.Cond.soleField "RegularRallyModel" "from") ∈ lw_all := lw_g (lw_at lw_m5 133 rfl) rfl
theorem q1141 : (Jvm.Cond.laysFinal "RegularRallyModel" "RegularRallyModel" "to" "[I") ∈ lw_all := lw_g (lw_at lw_m5 134 rfl) rfl
theorem q1142 : (Jvm.Cond.soleField "RegularRallyModel" "to") ∈ lw_all := lw_g (lw_at lw_m5 135 rfl) rfl
theorem q1143 : (Jvm.Cond.laysFinal "RegularRallyModel" "RegularRallyModel" "length" "[I") ∈ lw_all := lw_g (lw_at lw_m5 136 rfl) rfl
theorem q1144 : (Jvm.Cond.soleField "RegularRallyModel" "length") ∈ lw_all := lw_g (lw_at lw_m5 137 rfl) rfl
theorem q1145 : (Jvm.Cond.laysFinal "RegularRallyModel" "RegularRallyModel" "kind" "[I") ∈ lw_all := lw_g (lw_at lw_m5 138 rfl) rfl
theorem q1146 : (Jvm.Cond.soleField "RegularRallyModel" "kind") ∈ lw_all := lw_g (lw_at lw_m5 139 rfl) rfl
theorem q1147 : (Jvm.Cond.laysFinal "RegularRallyModel" "RegularRallyModel" "isShut" "[Z") ∈ lw_all := lw_g (lw_at lw_m5 140 rfl) rfl
theorem q1148 : (Jvm.Cond.soleField "RegularRallyModel" "isShut") ∈ lw_all := lw_g (lw_at lw_m5 141 rfl) rfl
theorem q1149 : (Jvm.Cond.laysFinal "RegularRallyModel" "RegularRallyModel" "isWet" "[Z") ∈ lw_all := lw_g (lw_at lw_m5 142 rfl) rfl
theorem q1150 : (Jvm.Cond.soleField "RegularRallyModel" "isWet") ∈ lw_all := lw_g (lw_at lw_m5 143 rfl) rfl
theorem q1151 : (Jvm.Cond.laysFinal "RegularRallyModel" "RegularRallyModel" "sheetSize" "[I") ∈ lw_all := lw_g (lw_at lw_m5 144 rfl) rfl
theorem q1152 : (Jvm.Cond.soleField "RegularRallyModel" "sheetSize") ∈ lw_all := lw_g (lw_at lw_m5 145 rfl) rfl
theorem q1153 : (Jvm.Cond.laysFinal "RegularRallyModel" "RegularRallyModel" "sheetLane" "[I") ∈ lw_all := lw_g (lw_at lw_m5 146 rfl) rfl
theorem q1154 : (Jvm.Cond.soleField "RegularRallyModel" "sheetLane") ∈ lw_all := lw_g (lw_at lw_m5 147 rfl) rfl
theorem q1155 : (Jvm.Cond.laysFinal "RegularRallyModel" "RegularRallyModel" "sheet" "[I") ∈ lw_all := lw_g (lw_at lw_m5 148 rfl) rfl
theorem q1156 : (Jvm.Cond.soleField "RegularRallyModel" "sheet") ∈ lw_all := lw_g (lw_at lw_m5 149 rfl) rfl
theorem q1157 : (Jvm.Cond.laysFinal "RegularRallyModel" "RegularRallyModel" "hands" "[I") ∈ lw_all := lw_g (lw_at lw_m5 150 rfl) rfl
theorem q1158 : (Jvm.Cond.soleField "RegularRallyModel" "hands") ∈ lw_all := lw_g (lw_at lw_m5 151 rfl) rfl
theorem q1159 : (Jvm.Cond.lays "RegularRallyModel" "RegularRallyModel" "spots" "I") ∈ lw_all := lw_g (lw_at lw_m5 152 rfl) rfl
theorem q1160 : (Jvm.Cond.soleField "RegularRallyModel" "spots") ∈ lw_all := lw_g (lw_at lw_m5 153 rfl) rfl
theorem q1161 : (Jvm.Cond.laysFinal "RegularRallyModel" "RegularRallyModel" "book" "[I") ∈ lw_all := lw_g (lw_at lw_m5 154 rfl) rfl
theorem q1162 : (Jvm.Cond.soleField "RegularRallyModel" "book") ∈ lw_all := lw_g (lw_at lw_m5 155 rfl) rfl
theorem q1163 : (Jvm.Cond.lays "RegularRallyModel" "RegularRallyModel" "trials" "I") ∈ lw_all := lw_g (lw_at lw_m5 156 rfl) rfl
theorem q1164 : (Jvm.Cond.soleField "RegularRallyModel" "trials") ∈ lw_all := lw_g (lw_at lw_m5 157 rfl) rfl
theorem q1165 : (Jvm.Cond.lays "RegularRallyModel" "RegularRallyModel" "bestSum" "I") ∈ lw_all := lw_g (lw_at lw_m5 158 rfl) rfl
theorem q1166 : (Jvm.Cond.soleField "RegularRallyModel" "bestSum") ∈ lw_all := lw_g (lw_at lw_m5 159 rfl) rfl
theorem q1167 : (Jvm.Cond.lays "RegularRallyModel" "RegularRallyModel" "bestMany" "I") ∈ lw_all := lw_g (lw_at lw_m5 160 rfl) rfl
theorem q1168 : (Jvm.Cond.soleField "RegularRallyModel" "bestMany") ∈ lw_all := lw_g (lw_at lw_m5 161 rfl) rfl
theorem q1169 : (Jvm.Cond.laysFinal "RegularRallyModel" "RegularRallyModel" "best" "[I") ∈ lw_all := lw_g (lw_at lw_m5 162 rfl) rfl
theorem q1170 : (Jvm.Cond.soleField "RegularRallyModel" "best") ∈ lw_all := lw_g (lw_at lw_m5 163 rfl) rfl
theorem q1171 : (Jvm.Cond.lays "RegularRallyModel" "RegularRallyModel" "rivals" "I") ∈ lw_all := lw_g (lw_at lw_m5 164 rfl) rfl
theorem q1172 : (Jvm.Cond.soleField "RegularRallyModel" "rivals") ∈ lw_all := lw_g (lw_at lw_m5 165 rfl) rfl
theorem q1173 : (Jvm.Cond.lays "RegularRallyModel" "RegularRallyModel" "deep" "I") ∈ lw_all := lw_g (lw_at lw_m5 166 rfl) rfl
theorem q1174 : (Jvm.Cond.soleField "RegularRallyModel" "deep") ∈ lw_all := lw_g (lw_at lw_m5 167 rfl) rfl
theorem q1175 : (Jvm.Cond.laysFinal "RegularRallyModel" "RegularRallyModel" "row" "[I") ∈ lw_all := lw_g (lw_at lw_m5 168 rfl) rfl
theorem q1176 : (Jvm.Cond.soleField "RegularRallyModel" "row") ∈ lw_all := lw_g (lw_at lw_m5 169 rfl) rfl
theorem q1177 : (Jvm.Cond.laysFinal "RegularRallyModel" "RegularRallyModel" "spot" "[I") ∈ lw_all := lw_g (lw_at lw_m5 170 rfl) rfl
theorem q1178 : (Jvm.Cond.soleField "RegularRallyModel" "spot") ∈ lw_all := lw_g (lw_at lw_m5 171 rfl) rfl
theorem q1179 : (Jvm.Cond.laysFinal "RegularRallyModel" "RegularRallyModel" "found" "[I") ∈ lw_all := lw_g (lw_at lw_m5 172 rfl) rfl
theorem q1180 : (Jvm.Cond.soleField "RegularRallyModel" "found") ∈ lw_all := lw_g (lw_at lw_m5 173 rfl) rfl
theorem q1181 : (Jvm.Cond.laysFinal "RegularRallyModel" "RegularRallyModel" "sum" "[I") ∈ lw_all := lw_g (lw_at lw_m5 174 rfl) rfl
theorem q1182 : (Jvm.Cond.soleField "RegularRallyModel" "sum") ∈ lw_all := lw_g (lw_at lw_m5 175 rfl) rfl
theorem q1183 : (Jvm.Cond.lays "RegularRallyModel" "RegularRallyModel" "laidMany" "I") ∈ lw_all := lw_g (lw_at lw_m5 176 rfl) rfl
theorem q1184 : (Jvm.Cond.soleField "RegularRallyModel" "laidMany") ∈ lw_all := lw_g (lw_at lw_m5 177 rfl) rfl
theorem q1185 : (Jvm.Cond.lays "RegularRallyModel" "RegularRallyModel" "metres" "I") ∈ lw_all := lw_g (lw_at lw_m5 178 rfl) rfl
theorem q1186 : (Jvm.Cond.soleField "RegularRallyModel" "metres") ∈ lw_all := lw_g (lw_at lw_m5 179 rfl) rfl
theorem q1187 : (Jvm.Cond.laysFinal "RegularRallyModel" "RegularRallyModel" "laid" "[I") ∈ lw_all := lw_g (lw_at lw_m5 180 rfl) rfl
theorem q1188 : (Jvm.Cond.soleField "RegularRallyModel" "laid") ∈ lw_all := lw_g (lw_at lw_m5 181 rfl) rfl
theorem q1189 : (Jvm.Cond.lays "RegularRallyModel" "RegularRallyModel" "speeds" "I") ∈ lw_all := lw_g (lw_at lw_m5 182 rfl) rfl
theorem q1190 : (Jvm.Cond.soleField "RegularRallyModel" "speeds") ∈ lw_all := lw_g (lw_at lw_m5 183 rfl) rfl
theorem q1191 : (Jvm.Cond.laysFinal "RegularRallyModel" "RegularRallyModel" "speedFrom" "[I") ∈ lw_all := lw_g (lw_at lw_m5 184 rfl) rfl
theorem q1192 : (Jvm.Cond.soleField "RegularRallyModel" "speedFrom") ∈ lw_all := lw_g (lw_at lw_m5 185 rfl) rfl
theorem q1193 : (Jvm.Cond.laysFinal "RegularRallyModel" "RegularRallyModel" "speed" "[I") ∈ lw_all := lw_g (lw_at lw_m5 186 rfl) rfl
theorem q1194 : (Jvm.Cond.soleField "RegularRallyModel" "speed") ∈ lw_all := lw_g (lw_at lw_m5 187 rfl) rfl
theorem q1195 : (Jvm.Cond.lays "RegularRallyModel" "RegularRallyModel" "controls" "I") ∈ lw_all := lw_g (lw_at lw_m5 188 rfl) rfl
theorem q1196 : (Jvm.Cond.soleField "RegularRallyModel" "controls") ∈ lw_all := lw_g (lw_at lw_m5 189 rfl) rfl
theorem q1197 : (Jvm.Cond.laysFinal "RegularRallyModel" "RegularRallyModel" "placeOf" "[I") ∈ lw_all := lw_g (lw_at lw_m5 190 rfl) rfl
theorem q1198 : (Jvm.Cond.soleField "RegularRallyModel" "placeOf") ∈ lw_all := lw_g (lw_at lw_m5 191 rfl) rfl
theorem q1199 : (Jvm.Cond.laysFinal "RegularRallyModel" "RegularRallyModel" "isStruck" "[Z") ∈ lw_all := lw_g (lw_at lw_m5 192 rfl) rfl
theorem q1200 : (Jvm.Cond.soleField "RegularRallyModel" "isStruck") ∈ lw_all := lw_g (lw_at lw_m5 193 rfl) rfl
theorem q1201 : (Jvm.Cond.laysFinal "RegularRallyModel" "RegularRallyModel" "isChecked" "[Z") ∈ lw_all := lw_g (lw_at lw_m5 194 rfl) rfl
theorem q1202 : (Jvm.Cond.soleField "RegularRallyModel" "isChecked") ∈ lw_all := lw_g (lw_at lw_m5 195 rfl) rfl
theorem q1203 : (Jvm.Cond.laysFinal "RegularRallyModel" "RegularRallyModel" "checks" "[I") ∈ lw_all := lw_g (lw_at lw_m5 196 rfl) rfl
theorem q1204 : (Jvm.Cond.soleField "RegularRallyModel" "checks") ∈ lw_all := lw_g (lw_at lw_m5 197 rfl) rfl
theorem q1205 : (Jvm.Cond.lays "RegularRallyModel" "RegularRallyModel" "cars" "I") ∈ lw_all := lw_g (lw_at lw_m5 198 rfl) rfl
theorem q1206 : (Jvm.Cond.soleField "RegularRallyModel" "cars") ∈ lw_all := lw_g (lw_at lw_m5 199 rfl) rfl
theorem q1207 : (Jvm.Cond.laysFinal "RegularRallyModel" "RegularRallyModel" "start" "[I") ∈ lw_all := lw_g (lw_at lw_m5 200 rfl) rfl
theorem q1208 : (Jvm.Cond.soleField "RegularRallyModel" "start") ∈ lw_all := lw_g (lw_at lw_m5 201 rfl) rfl
theorem q1209 : (Jvm.Cond.laysFinal "RegularRallyModel" "RegularRallyModel" "sort" "[I") ∈ lw_all := lw_g (lw_at lw_m5 202 rfl) rfl
theorem q1210 : (Jvm.Cond.soleField "RegularRallyModel" "sort") ∈ lw_all := lw_g (lw_at lw_m5 203 rfl) rfl
theorem q1211 : (Jvm.Cond.lays "RegularRallyModel" "RegularRallyModel" "clocked" "I") ∈ lw_all := lw_g (lw_at lw_m5 204 rfl) rfl
theorem q1212 : (Jvm.Cond.soleField "RegularRallyModel" "clocked") ∈ lw_all := lw_g (lw_at lw_m5 205 rfl) rfl
theorem q1213 : (Jvm.Cond.laysFinal "RegularRallyModel" "RegularRallyModel" "clockedAs" "[I") ∈ lw_all := lw_g (lw_at lw_m5 206 rfl) rfl
theorem q1214 : (Jvm.Cond.soleField "RegularRallyModel" "clockedAs") ∈ lw_all := lw_g (lw_at lw_m5 207 rfl) rfl
theorem q1215 : (Jvm.Cond.laysFinal "RegularRallyModel" "RegularRallyModel" "time" "[I") ∈ lw_all := lw_g (lw_at lw_m5 208 rfl) rfl
theorem q1216 : (Jvm.Cond.soleField "RegularRallyModel" "time") ∈ lw_all := lw_g (lw_at lw_m5 209 rfl) rfl
theorem q1217 : (Jvm.Cond.laysFinal "RegularRallyModel" "RegularRallyModel" "allowance" "[I") ∈ lw_all := lw_g (lw_at lw_m5 210 rfl) rfl
theorem q1218 : (Jvm.Cond.soleField "RegularRallyModel" "allowance") ∈ lw_all := lw_g (lw_at lw_m5 211 rfl) rfl
theorem q1219 : (Jvm.Cond.lays "RegularRallyModel" "RegularRallyModel" "trace" "I") ∈ lw_all := lw_g (lw_at lw_m5 212 rfl) rfl
theorem q1220 : (Jvm.Cond.soleField "RegularRallyModel" "trace") ∈ lw_all := lw_g (lw_at lw_m5 213 rfl) rfl
theorem q1221 : (Jvm.Cond.superclass "RegularRallyModel" "java/lang/Object") ∈ lw_all := lw_g (lw_at lw_m5 214 rfl) rfl
theorem q1224 : (Jvm.Cond.instanceMethod ({ cls := "RegularRallyModel", name := "road", desc := "(IIII)I" } : Jvm.MethodName)) ∈ lw_all := lw_g (lw_at lw_m5 217 rfl) rfl
theorem q1225 : (Jvm.Cond.selects "RegularRallyModel" ({ cls := "RegularRallyModel", name := "road", desc := "(IIII)I" } : Jvm.MethodName) ({ cls := "RegularRallyModel", name := "road", desc := "(IIII)I" } : Jvm.MethodName)) ∈ lw_all := lw_g (lw_at lw_m5 218 rfl) rfl
theorem q1226 : (Jvm.Cond.code ({ cls := "RegularRallyModel", name := "road", desc := "(IIII)I" } : Jvm.MethodName) prog_12_method_9_code (5 : Nat) (Option.some Jvm.ClassFile.FieldType.int)) ∈ lw_all := lw_g (lw_at lw_m5 219 rfl) rfl
theorem q1227 : (Jvm.Cond.methodLink "RegularRallyModel" (117 : Nat) ({ cls := "RegularRallyModel", name := "isSpot", desc := "(I)Z" } : Jvm.MethodName)) ∈ lw_all := lw_g (lw_at lw_m5 220 rfl) rfl
theorem q1228 : (Jvm.Cond.static ({ cls := "RegularRallyModel", name := "isSpot", desc := "(I)Z" } : Jvm.MethodName)) ∈ lw_all := lw_g (lw_at lw_m5 221 rfl) rfl
theorem q1229 : (Jvm.Cond.code ({ cls := "RegularRallyModel", name := "isSpot", desc := "(I)Z" } : Jvm.MethodName) prog_12_method_8_code (1 : Nat) (Option.some Jvm.ClassFile.FieldType.boolean)) ∈ lw_all := lw_g (lw_at lw_m5 222 rfl) rfl
theorem q1230 : (Jvm.Cond.constantLong "RegularRallyModel" (115 : Nat) (9 : Int64)) ∈ lw_all := lw_g (lw_at lw_m5 223 rfl) rfl
theorem q1231 : (Jvm.Cond.methodLink "RegularRallyModel" (111 : Nat) ({ cls := "RegularRallyModel", name := "in", desc := "(JJJ)Z" } : Jvm.MethodName)) ∈ lw_all := lw_g (lw_at lw_m5 224 rfl) rfl
theorem q1232 : (Jvm.Cond.static ({ cls := "RegularRallyModel", name := "in", desc := "(JJJ)Z" } : Jvm.MethodName)) ∈ lw_all := lw_g (lw_at lw_m5 225 rfl) rfl
theorem q1233 : (Jvm.Cond.code ({ cls := "RegularRallyModel", name := "in", desc := "(JJJ)Z" } : Jvm.MethodName) prog_12_method_2_code (6 : Nat) (Option.some Jvm.ClassFile.FieldType.boolean)) ∈ lw_all := lw_g (lw_at lw_m5 226 rfl) rfl
theorem q1234 : (Jvm.Cond.constantLong "RegularRallyModel" (121 : Nat) (20000 : Int64)) ∈ lw_all := lw_g (lw_at lw_m5 227 rfl) rfl
theorem q1235 : (Jvm.Cond.constantLong "RegularRallyModel" (123 : Nat) (2 : Int64)) ∈ lw_all := lw_g (lw_at lw_m5 228 rfl) rfl
theorem q1237 : (Jvm.Cond.instanceMethod ({ cls := "RegularRallyModel", name := "shut", desc := "(IZ)I" } : Jvm.MethodName)) ∈ lw_all := lw_g (lw_at lw_m5 230 rfl) rfl
theorem q1238 : (Jvm.Cond.selects "RegularRallyModel" ({ cls := "RegularRallyModel", name := "shut", desc := "(IZ)I" } : Jvm.MethodName) ({ cls := "RegularRallyModel", name := "shut", desc := "(IZ)I" } : Jvm.MethodName)) ∈ lw_all := lw_g (lw_at lw_m5 231 rfl) rfl
theorem q1239 : (Jvm.Cond.code ({ cls := "RegularRallyModel", name := "shut", desc := "(IZ)I" } : Jvm.MethodName) prog_12_method_10_code (4 : Nat) (Option.some Jvm.ClassFile.FieldType.int)) ∈ lw_all := lw_g (lw_at lw_m5 232 rfl) rfl
theorem q1240 : (Jvm.Cond.methodLink "RegularRallyModel" (125 : Nat) ({ cls := "RegularRallyModel", name := "noRoad", desc := "(I)Z" } : Jvm.MethodName)) ∈ lw_all := lw_g (lw_at lw_m5 233 rfl) rfl
theorem q1241 : (Jvm.Cond.privateMethod ({ cls := "RegularRallyModel", name := "noRoad", desc := "(I)Z" } : Jvm.MethodName)) ∈ lw_tbl := lw_at lw_m5 234 rfl
theorem q1242 : (Jvm.Cond.instanceMethod ({ cls := "RegularRallyModel", name := "noRoad", desc := "(I)Z" } : Jvm.MethodName)) ∈ lw_all := lw_g (lw_at lw_m5 235 rfl) rfl
theorem q1243 : (Jvm.Cond.code ({ cls := "RegularRallyModel", name := "noRoad", desc := "(I)Z" } : Jvm.MethodName) prog_12_method_7_code (2 : Nat) (Option.some Jvm.ClassFile.FieldType.boolean)) ∈ lw_all := lw_g (lw_at lw_m5 236 rfl) rfl
theorem q1245 : (Jvm.Cond.instanceMethod ({ cls := "RegularRallyModel", name := "wet", desc := "(IZ)I" } : Jvm.MethodName)) ∈ lw_all := lw_g (lw_at lw_m5 238 rfl) rfl
theorem q1246 : (Jvm.Cond.selects "RegularRallyModel" ({ cls := "RegularRallyModel", name := "wet", desc := "(IZ)I" } : Jvm.MethodName) ({ cls := "RegularRallyModel", name := "wet", desc := "(IZ)I" } : Jvm.MethodName)) ∈ lw_all := lw_g (lw_at lw_m5 239 rfl) rfl
theorem q1247 : (Jvm.Cond.code ({ cls := "RegularRallyModel", name := "wet", desc := "(IZ)I" } : Jvm.MethodName) prog_12_method_11_code (4 : Nat) (Option.some Jvm.ClassFile.FieldType.int)) ∈ lw_all := lw_g (lw_at lw_m6 0 rfl) rfl
theorem q1248 : (Jvm.Cond.methodLink "RegularRallyModel" (128 : Nat) ({ cls := "RegularRallyModel", name := "refused", desc := "(I)I" } : Jvm.MethodName)) ∈ lw_all := lw_g (lw_at lw_m6 1 rfl) rfl
theorem q1249 : (Jvm.Cond.privateMethod ({ cls := "RegularRallyModel", name := "refused", desc := "(I)I" } : Jvm.MethodName)) ∈ lw_tbl := lw_at lw_m6 2 rfl
theorem q1250 : (Jvm.Cond.instanceMethod ({ cls := "RegularRallyModel", name := "refused", desc := "(I)I" } : Jvm.MethodName)) ∈ lw_all := lw_g (lw_at lw_m6 3 rfl) rfl
theorem q1251 : (Jvm.Cond.code ({ cls := "RegularRallyModel", name := "refused", desc := "(I)I" } : Jvm.MethodName) prog_12_method_4_code (2 : Nat) (Option.some Jvm.ClassFile.FieldType.int)) ∈ lw_all := lw_g (lw_at lw_m6 4 rfl) rfl
theorem q1252 : (Jvm.Cond.methodLink "RegularRallyModel" (132 : Nat) ({ cls := "RegularRallyModel", name := "failed", desc := "(I)I" } : Jvm.MethodName)) ∈ lw_all := lw_g (lw_at lw_m6 5 rfl) rfl
theorem q1253 : (Jvm.Cond.privateMethod ({ cls := "RegularRallyModel", name := "failed", desc := "(I)I" } : Jvm.MethodName)) ∈ lw_tbl := lw_at lw_m6 6 rfl
theorem q1254 : (Jvm.Cond.instanceMethod ({ cls := "RegularRallyModel", name := "failed", desc := "(I)I" } : Jvm.MethodName)) ∈ lw_all := lw_g (lw_at lw_m6 7 rfl) rfl
theorem q1255 : (Jvm.Cond.code ({ cls := "RegularRallyModel", name := "failed", desc := "(I)I" } : Jvm.MethodName) prog_12_method_5_code (2 : Nat) (Option.some Jvm.ClassFile.FieldType.int)) ∈ lw_all := lw_g (lw_at lw_m6 8 rfl) rfl
theorem q1257 : (Jvm.Cond.instanceMethod ({ cls := "RegularRallyModel", name := "about", desc := "(II)I" } : Jvm.MethodName)) ∈ lw_all := lw_g (lw_at lw_m6 10 rfl) rfl
theorem q1258 : (Jvm.Cond.selects "RegularRallyModel" ({ cls := "RegularRallyModel", name := "about", desc := "(II)I" } : Jvm.MethodName) ({ cls := "RegularRallyModel", name := "about", desc := "(II)I" } : Jvm.MethodName)) ∈ lw_all := lw_g (lw_at lw_m6 11 rfl) rfl
theorem q1259 : (Jvm.Cond.code ({ cls := "RegularRallyModel", name := "about", desc := "(II)I" } : Jvm.MethodName) prog_12_method_13_code (4 : Nat) (Option.some Jvm.ClassFile.FieldType.int)) ∈ lw_all := lw_g (lw_at lw_m6 12 rfl) rfl
theorem q1261 : (Jvm.Cond.instanceMethod ({ cls := "RegularRallyModel", name := "sheet", desc := "(III)I" } : Jvm.MethodName)) ∈ lw_all := lw_g (lw_at lw_m6 14 rfl) rfl
theorem q1262 : (Jvm.Cond.selects "RegularRallyModel" ({ cls := "RegularRallyModel", name := "sheet", desc := "(III)I" } : Jvm.MethodName) ({ cls := "RegularRallyModel", name := "sheet", desc := "(III)I" } : Jvm.MethodName)) ∈ lw_all := lw_g (lw_at lw_m6 15 rfl) rfl
theorem q1263 : (Jvm.Cond.code ({ cls := "RegularRallyModel", name := "sheet", desc := "(III)I" } : Jvm.MethodName) prog_12_method_15_code (5 : Nat) (Option.some Jvm.ClassFile.FieldType.int)) ∈ lw_all := lw_g (lw_at lw_m6 16 rfl) rfl
theorem q1264 : (Jvm.Cond.methodLink "RegularRallyModel" (137 : Nat) ({ cls := "RegularRallyModel", name := "noSheet", desc := "(I)Z" } : Jvm.MethodName)) ∈ lw_all := lw_g (lw_at lw_m6 17 rfl) rfl
theorem q1265 : (Jvm.Cond.static ({ cls := "RegularRallyModel", name := "noSheet", desc := "(I)Z" } : Jvm.MethodName)) ∈ lw_all := lw_g (lw_at lw_m6 18 rfl) rfl
theorem q1266 : (Jvm.Cond.code ({ cls := "RegularRallyModel", name := "noSheet", desc := "(I)Z" } : Jvm.MethodName) prog_12_method_14_code (1 : Nat) (Option.some Jvm.ClassFile.FieldType.boolean)) ∈ lw_all := lw_g (lw_at lw_m6 19 rfl) rfl
theorem q1267 : (Jvm.Cond.constantLong "RegularRallyModel" (135 : Nat) (3 : Int64)) ∈ lw_all := lw_g (lw_at lw_m6 20 rfl) rfl
theorem q1269 : (Jvm.Cond.instanceMethod ({ cls := "RegularRallyModel", name := "lose", desc := "(I)I" } : Jvm.MethodName)) ∈ lw_all := lw_g (lw_at lw_m6 22 rfl) rfl
theorem q1270 : (Jvm.Cond.selects "RegularRallyModel" ({ cls := "RegularRallyModel", name := "lose", desc := "(I)I" } : Jvm.MethodName) ({ cls := "RegularRallyModel", name := "lose", desc := "(I)I" } : Jvm.MethodName)) ∈ lw_all := lw_g (lw_at lw_m6 23 rfl) rfl
theorem q1271 : (Jvm.Cond.code ({ cls := "RegularRallyModel", name := "lose", desc := "(I)I" } : Jvm.MethodName) prog_12_method_16_code (3 : Nat) (Option.some Jvm.ClassFile.FieldType.int)) ∈ lw_all := lw_g (lw_at lw_m6 24 rfl) rfl
theorem q1273 : (Jvm.Cond.instanceMethod ({ cls := "RegularRallyModel", name := "put", desc := "(III)I" } : Jvm.MethodName)) ∈ lw_all := lw_g (lw_at lw_m6 26 rfl) rfl
theorem q1274 : (Jvm.Cond.selects "RegularRallyModel" ({ cls := "RegularRallyModel", name := "put", desc := "(III)I" } : Jvm.MethodName) ({ cls := "RegularRallyModel", name := "put", desc := "(III)I" } : Jvm.MethodName)) ∈ lw_all := lw_g (lw_at lw_m6 27 rfl) rfl
theorem q1275 : (Jvm.Cond.code ({ cls := "RegularRallyModel", name := "put", desc := "(III)I" } : Jvm.MethodName) prog_12_method_18_code (4 : Nat) (Option.some Jvm.ClassFile.FieldType.int)) ∈ lw_all := lw_g (lw_at lw_m6 28 rfl) rfl
theorem q1276 : (Jvm.Cond.methodLink "RegularRallyModel" (140 : Nat) ({ cls := "RegularRallyModel", name := "noCell", desc := "(II)I" } : Jvm.MethodName)) ∈ lw_all := lw_g (lw_at lw_m6 29 rfl) rfl
theorem q1277 : (Jvm.Cond.privateMethod ({ cls := "RegularRallyModel", name := "noCell", desc := "(II)I" } : Jvm.MethodName)) ∈ lw_tbl := lw_at lw_m6 30 rfl
theorem q1278 : (Jvm.Cond.instanceMethod ({ cls := "RegularRallyModel", name := "noCell", desc := "(II)I" } : Jvm.MethodName)) ∈ lw_all := lw_g (lw_at lw_m6 31 rfl) rfl
theorem q1279 : (Jvm.Cond.code ({ cls := "RegularRallyModel", name := "noCell", desc := "(II)I" } : Jvm.MethodName) prog_12_method_17_code (3 : Nat) (Option.some Jvm.ClassFile.FieldType.int)) ∈ lw_all := lw_g (lw_at lw_m6 32 rfl) rfl
theorem q1281 : (Jvm.Cond.instanceMethod ({ cls := "RegularRallyModel", name := "cell", desc := "(III)J" } : Jvm.MethodName)) ∈ lw_all := lw_g (lw_at lw_m6 34 rfl) rfl
theorem q1282 : (Jvm.Cond.selects "RegularRallyModel" ({ cls := "RegularRallyModel", name := "cell", desc := "(III)J" } : Jvm.MethodName) ({ cls := "RegularRallyModel", name := "cell", desc := "(III)J" } : Jvm.MethodName)) ∈ lw_all := lw_g (lw_at lw_m6 35 rfl) rfl
theorem q1283 : (Jvm.Cond.code ({ cls := "RegularRallyModel", name := "cell", desc := "(III)J" } : Jvm.MethodName) prog_12_method_19_code (4 : Nat) (Option.some Jvm.ClassFile.FieldType.long)) ∈ lw_all := lw_g (lw_at lw_m6 36 rfl) rfl
theorem q1284 : (Jvm.Cond.methodLink "RegularRallyModel" (104 : Nat) ({ cls := "RegularRallyModel", name := "lost", desc := "()J" } : Jvm.MethodName)) ∈ lw_all := lw_g (lw_at lw_m6 37 rfl) rfl
theorem q1285 : (Jvm.Cond.static ({ cls := "RegularRallyModel", name := "lost", desc := "()J" } : Jvm.MethodName)) ∈ lw_all := lw_g (lw_at lw_m6 38 rfl) rfl
theorem q1286 : (Jvm.Cond.code ({ cls := "RegularRallyModel", name := "lost", desc := "()J" } : Jvm.MethodName) prog_12_method_3_code (0 : Nat) (Option.some Jvm.ClassFile.FieldType.long)) ∈ lw_all := lw_g (lw_at lw_m6 39 rfl) rfl
theorem q1287 : (Jvm.Cond.constantLong "RegularRallyModel" (99 : Nat) (-9223372036854775808 : Int64)) ∈ lw_all := lw_g (lw_at lw_m6 40 rfl) rfl
theorem q1288 : (Jvm.Cond.methodLink "RegularRallyModel" (144 : Nat) ({ cls := "RegularRallyModel", name := "failedLong", desc := "(I)J" } : Jvm.MethodName)) ∈ lw_all := lw_g (lw_at lw_m6 41 rfl) rfl
theorem q1289 : (Jvm.Cond.privateMethod ({ cls := "RegularRallyModel", name := "failedLong", desc := "(I)J" } : Jvm.MethodName)) ∈ lw_tbl := lw_at lw_m6 42 rfl
theorem q1290 : (Jvm.Cond.instanceMethod ({ cls := "RegularRallyModel", name := "failedLong", desc := "(I)J" } : Jvm.MethodName)) ∈ lw_all := lw_g (lw_at lw_m6 43 rfl) rfl
theorem q1291 : (Jvm.Cond.code ({ cls := "RegularRallyModel", name := "failedLong", desc := "(I)J" } : Jvm.MethodName) prog_12_method_6_code (2 : Nat) (Option.some Jvm.ClassFile.FieldType.long)) ∈ lw_all := lw_g (lw_at lw_m6 44 rfl) rfl
theorem q1293 : (Jvm.Cond.instanceMethod ({ cls := "RegularRallyModel", name := "copy", desc := "(IIIII)I" } : Jvm.MethodName)) ∈ lw_all := lw_g (lw_at lw_m6 46 rfl) rfl
theorem q1294 : (Jvm.Cond.selects "RegularRallyModel" ({ cls := "RegularRallyModel", name := "copy", desc := "(IIIII)I" } : Jvm.MethodName) ({ cls := "RegularRallyModel", name := "copy", desc := "(IIIII)I" } : Jvm.MethodName)) ∈ lw_all := lw_g (lw_at lw_m6 47 rfl) rfl
theorem q1295 : (Jvm.Cond.code ({ cls := "RegularRallyModel", name := "copy", desc := "(IIIII)I" } : Jvm.MethodName) prog_12_method_21_code (7 : Nat) (Option.some Jvm.ClassFile.FieldType.int)) ∈ lw_all := lw_g (lw_at lw_m6 48 rfl) rfl
theorem q1296 : (Jvm.Cond.methodLink "RegularRallyModel" (148 : Nat) ({ cls := "RegularRallyModel", name := "isBeyond", desc := "(III)Z" } : Jvm.MethodName)) ∈ lw_all := lw_g (lw_at lw_m6 49 rfl) rfl
theorem q1297 : (Jvm.Cond.static ({ cls := "RegularRallyModel", name := "isBeyond", desc := "(III)Z" } : Jvm.MethodName)) ∈ lw_all := lw_g (lw_at lw_m6 50 rfl) rfl
theorem q1298 : (Jvm.Cond.code ({ cls := "RegularRallyModel", name := "isBeyond", desc := "(III)Z" } : Jvm.MethodName) prog_12_method_20_code (3 : Nat) (Option.some Jvm.ClassFile.FieldType.boolean)) ∈ lw_all := lw_g (lw_at lw_m6 51 rfl) rfl
theorem q1300 : (Jvm.Cond.instanceMethod ({ cls := "RegularRallyModel", name := "book", desc := "(IIII)I" } : Jvm.MethodName)) ∈ lw_all := lw_g (lw_at lw_m6 53 rfl) rfl
theorem q1301 : (Jvm.Cond.selects "RegularRallyModel" ({ cls := "RegularRallyModel", name := "book", desc := "(IIII)I" } : Jvm.MethodName) ({ cls := "RegularRallyModel", name := "book", desc := "(IIII)I" } : Jvm.MethodName)) ∈ lw_all := lw_g (lw_at lw_m6 54 rfl) rfl
theorem q1302 : (Jvm.Cond.code ({ cls := "RegularRallyModel", name := "book", desc := "(IIII)I" } : Jvm.MethodName) prog_12_method_24_code (7 : Nat) (Option.some Jvm.ClassFile.FieldType.int)) ∈ lw_all := lw_g (lw_at lw_m6 55 rfl) rfl
theorem q1303 : (Jvm.Cond.methodLink "RegularRallyModel" (154 : Nat) ({ cls := "RegularRallyModel", name := "faultOf", desc := "(IIII)I" } : Jvm.MethodName)) ∈ lw_all := lw_g (lw_at lw_m6 56 rfl) rfl
theorem q1304 : (Jvm.Cond.privateMethod ({ cls := "RegularRallyModel", name := "faultOf", desc := "(IIII)I" } : Jvm.MethodName)) ∈ lw_tbl := lw_at lw_m6 57 rfl
theorem q1305 : (Jvm.Cond.instanceMethod ({ cls := "RegularRallyModel", name := "faultOf", desc := "(IIII)I" } : Jvm.MethodName)) ∈ lw_all := lw_g (lw_at lw_m6 58 rfl) rfl
theorem q1306 : (Jvm.Cond.code ({ cls := "RegularRallyModel", name := "faultOf", desc := "(IIII)I" } : Jvm.MethodName) prog_12_method_22_code (5 : Nat) (Option.some Jvm.ClassFile.FieldType.int)) ∈ lw_all := lw_g (lw_at lw_m6 59 rfl) rfl
theorem q1307 : (Jvm.Cond.methodLink "RegularRallyModel" (158 : Nat) ({ cls := "RegularRallyModel", name := "isBook", desc := "(III)Z" } : Jvm.MethodName)) ∈ lw_all := lw_g (lw_at lw_m6 60 rfl) rfl
theorem q1308 : (Jvm.Cond.privateMethod ({ cls := "RegularRallyModel", name := "isBook", desc := "(III)Z" } : Jvm.MethodName)) ∈ lw_tbl := lw_at lw_m6 61 rfl
theorem q1309 : (Jvm.Cond.instanceMethod ({ cls := "RegularRallyModel", name := "isBook", desc := "(III)Z" } : Jvm.MethodName)) ∈ lw_all := lw_g (lw_at lw_m6 62 rfl) rfl
theorem q1310 : (Jvm.Cond.code ({ cls := "RegularRallyModel", name := "isBook", desc := "(III)Z" } : Jvm.MethodName) prog_12_method_23_code (7 : Nat) (Option.some Jvm.ClassFile.FieldType.boolean)) ∈ lw_all := lw_g (lw_at lw_m6 63 rfl) rfl
theorem q1311 : (Jvm.Cond.constantLong "RegularRallyModel" (152 : Nat) (8 : Int64)) ∈ lw_all := lw_g (lw_at lw_m6 64 rfl) rfl
theorem q1313 : (Jvm.Cond.instanceMethod ({ cls := "RegularRallyModel", name := "ways", desc := "()I" } : Jvm.MethodName)) ∈ lw_all := lw_g (lw_at lw_m6 66 rfl) rfl
theorem q1314 : (Jvm.Cond.selects "RegularRallyModel" ({ cls := "RegularRallyModel", name := "ways", desc := "()I" } : Jvm.MethodName) ({ cls := "RegularRallyModel", name := "ways", desc := "()I" } : Jvm.MethodName)) ∈ lw_all := lw_g (lw_at lw_m6 67 rfl) rfl
theorem q1315 : (Jvm.Cond.code ({ cls := "RegularRallyModel", name := "ways", desc := "()I" } : Jvm.MethodName) prog_12_method_28_code (1 : Nat) (Option.some Jvm.ClassFile.FieldType.int)) ∈ lw_all := lw_g (lw_at lw_m6 68 rfl) rfl
theorem q1316 : (Jvm.Cond.methodLink "RegularRallyModel" (189 : Nat) ({ cls := "RegularRallyModel", name := "search", desc := "()Z" } : Jvm.MethodName)) ∈ lw_all := lw_g (lw_at lw_m6 69 rfl) rfl
theorem q1317 : (Jvm.Cond.privateMethod ({ cls := "RegularRallyModel", name := "search", desc := "()Z" } : Jvm.MethodName)) ∈ lw_tbl := lw_at lw_m6 70 rfl
theorem q1318 : (Jvm.Cond.instanceMethod ({ cls := "RegularRallyModel", name := "search", desc := "()Z" } : Jvm.MethodName)) ∈ lw_all := lw_g (lw_at lw_m6 71 rfl) rfl
theorem q1319 : (Jvm.Cond.code ({ cls := "RegularRallyModel", name := "search", desc := "()Z" } : Jvm.MethodName) prog_12_method_27_code (3 : Nat) (Option.some Jvm.ClassFile.FieldType.boolean)) ∈ lw_all := lw_g (lw_at lw_m6 72 rfl) rfl
theorem q1320 : (Jvm.Cond.methodLink "RegularRallyModel" (179 : Nat) ({ cls := "RegularRallyModel", name := "isIn", desc := "(I)Z" } : Jvm.MethodName)) ∈ lw_all := lw_g (lw_at lw_m6 73 rfl) rfl
theorem q1321 : (Jvm.Cond.privateMethod ({ cls := "RegularRallyModel", name := "isIn", desc := "(I)Z" } : Jvm.MethodName)) ∈ lw_tbl := lw_at lw_m6 74 rfl
theorem q1322 : (Jvm.Cond.instanceMethod ({ cls := "RegularRallyModel", name := "isIn", desc := "(I)Z" } : Jvm.MethodName)) ∈ lw_all := lw_g (lw_at lw_m6 75 rfl) rfl
theorem q1323 : (Jvm.Cond.code ({ cls := "RegularRallyModel", name := "isIn", desc := "(I)Z" } : Jvm.MethodName) prog_12_method_25_code (4 : Nat) (Option.some Jvm.ClassFile.FieldType.boolean)) ∈ lw_all := lw_g (lw_at lw_m6 76 rfl) rfl
theorem q1324 : (Jvm.Cond.methodLink "RegularRallyModel" (182 : Nat) ({ cls := "RegularRallyModel", name := "leads", desc := "(II)I" } : Jvm.MethodName)) ∈ lw_all := lw_g (lw_at lw_m6 77 rfl) rfl
theorem q1325 : (Jvm.Cond.privateMethod ({ cls := "RegularRallyModel", name := "leads", desc := "(II)I" } : Jvm.MethodName)) ∈ lw_tbl := lw_at lw_m6 78 rfl
theorem q1326 : (Jvm.Cond.instanceMethod ({ cls := "RegularRallyModel", name := "leads", desc := "(II)I" } : Jvm.MethodName)) ∈ lw_all := lw_g (lw_at lw_m6 79 rfl) rfl
theorem q1327 : (Jvm.Cond.code ({ cls := "RegularRallyModel", name := "leads", desc := "(II)I" } : Jvm.MethodName) prog_12_method_12_code (3 : Nat) (Option.some Jvm.ClassFile.FieldType.int)) ∈ lw_all := lw_g (lw_at lw_m6 80 rfl) rfl
theorem q1328 : (Jvm.Cond.constant "RegularRallyModel" (185 : Nat) (60000 : Int32)) ∈ lw_all := lw_g (lw_at lw_m6 81 rfl) rfl
theorem q1329 : (Jvm.Cond.methodLink "RegularRallyModel" (186 : Nat) ({ cls := "RegularRallyModel", name := "judge", desc := "()V" } : Jvm.MethodName)) ∈ lw_all := lw_g (lw_at lw_m6 82 rfl) rfl
theorem q1330 : (Jvm.Cond.privateMethod ({ cls := "RegularRallyModel", name := "judge", desc := "()V" } : Jvm.MethodName)) ∈ lw_tbl := lw_at lw_m6 83 rfl
theorem q1331 : (Jvm.Cond.instanceMethod ({ cls := "RegularRallyModel", name := "judge", desc := "()V" } : Jvm.MethodName)) ∈ lw_all := lw_g (lw_at lw_m6 84 rfl) rfl
theorem q1332 : (Jvm.Cond.code ({ cls := "RegularRallyModel", name := "judge", desc := "()V" } : Jvm.MethodName) prog_12_method_26_code (2 : Nat) (Option.none : Option Jvm.ClassFile.FieldType)) ∈ lw_all := lw_g (lw_at lw_m6 85 rfl) rfl
theorem q1334 : (Jvm.Cond.instanceMethod ({ cls := "RegularRallyModel", name := "lay", desc := "()I" } : Jvm.MethodName)) ∈ lw_all := lw_g (lw_at lw_m6 87 rfl) rfl
theorem q1335 : (Jvm.Cond.selects "RegularRallyModel" ({ cls := "RegularRallyModel", name := "lay", desc := "()I" } : Jvm.MethodName) ({ cls := "RegularRallyModel", name := "lay", desc := "()I" } : Jvm.MethodName)) ∈ lw_all := lw_g (lw_at lw_m6 88 rfl) rfl
theorem q1336 : (Jvm.Cond.code ({ cls := "RegularRallyModel", name := "lay", desc := "()I" } : Jvm.MethodName) prog_12_method_29_code (2 : Nat) (Option.some Jvm.ClassFile.FieldType.int)) ∈ lw_all := lw_g (lw_at lw_m6 89 rfl) rfl
theorem q1338 : (Jvm.Cond.instanceMethod ({ cls := "RegularRallyModel", name := "laid", desc := "(I)I" } : Jvm.MethodName)) ∈ lw_all := lw_g (lw_at lw_m6 91 rfl) rfl
theorem q1339 : (Jvm.Cond.selects "RegularRallyModel" ({ cls := "RegularRallyModel", name := "laid", desc := "(I)I" } : Jvm.MethodName) ({ cls := "RegularRallyModel", name := "laid", desc := "(I)I" } : Jvm.MethodName)) ∈ lw_all := lw_g (lw_at lw_m6 92 rfl) rfl
theorem q1340 : (Jvm.Cond.code ({ cls := "RegularRallyModel", name := "laid", desc := "(I)I" } : Jvm.MethodName) prog_12_method_30_code (2 : Nat) (Option.some Jvm.ClassFile.FieldType.int)) ∈ lw_all := lw_g (lw_at lw_m6 93 rfl) rfl
theorem q1342 : (Jvm.Cond.instanceMethod ({ cls := "RegularRallyModel", name := "proof", desc := "(IIII)J" } : Jvm.MethodName)) ∈ lw_all := lw_g (lw_at lw_m6 95 rfl) rfl
theorem q1343 : (Jvm.Cond.selects "RegularRallyModel" ({ cls := "RegularRallyModel", name := "proof", desc := "(IIII)J" } : Jvm.MethodName) ({ cls := "RegularRallyModel", name := "proof", desc := "(IIII)J" } : Jvm.MethodName)) ∈ lw_all := lw_g (lw_at lw_m6 96 rfl) rfl
theorem q1344 : (Jvm.Cond.code ({ cls := "RegularRallyModel", name := "proof", desc := "(IIII)J" } : Jvm.MethodName) prog_12_method_33_code (6 : Nat) (Option.some Jvm.ClassFile.FieldType.long)) ∈ lw_all := lw_g (lw_at lw_m6 97 rfl) rfl
theorem q1345 : (Jvm.Cond.methodLink "RegularRallyModel" (212 : Nat) ({ cls := "RegularRallyModel", name := "proved", desc := "(III)J" } : Jvm.MethodName)) ∈ lw_all := lw_g (lw_at lw_m6 98 rfl) rfl
theorem q1346 : (Jvm.Cond.privateMethod ({ cls := "RegularRallyModel", name := "proved", desc := "(III)J" } : Jvm.MethodName)) ∈ lw_tbl := lw_at lw_m6 99 rfl
theorem q1347 : (Jvm.Cond.instanceMethod ({ cls := "RegularRallyModel", name := "proved", desc := "(III)J" } : Jvm.MethodName)) ∈ lw_all := lw_g (lw_at lw_m6 100 rfl) rfl
theorem q1348 : (Jvm.Cond.code ({ cls := "RegularRallyModel", name := "proved", desc := "(III)J" } : Jvm.MethodName) prog_12_method_32_code (11 : Nat) (Option.some Jvm.ClassFile.FieldType.long)) ∈ lw_all := lw_g (lw_at lw_m6 101 rfl) rfl
theorem q1349 : (Jvm.Cond.methodLink "RegularRallyModel" (205 : Nat) ({ cls := "RegularRallyModel", name := "wasAhead", desc := "(III)Z" } : Jvm.MethodName)) ∈ lw_all := lw_g (lw_at lw_m6 102 rfl) rfl
theorem q1350 : (Jvm.Cond.privateMethod ({ cls := "RegularRallyModel", name := "wasAhead", desc := "(III)Z" } : Jvm.MethodName)) ∈ lw_tbl := lw_at lw_m6 103 rfl
theorem q1351 : (Jvm.Cond.instanceMethod ({ cls := "RegularRallyModel", name := "wasAhead", desc := "(III)Z" } : Jvm.MethodName)) ∈ lw_all := lw_g (lw_at lw_m6 104 rfl) rfl
theorem q1352 : (Jvm.Cond.code ({ cls := "RegularRallyModel", name := "wasAhead", desc := "(III)Z" } : Jvm.MethodName) prog_12_method_31_code (6 : Nat) (Option.some Jvm.ClassFile.FieldType.boolean)) ∈ lw_all := lw_g (lw_at lw_m6 105 rfl) rfl
theorem q1353 : (Jvm.Cond.constantLong "RegularRallyModel" (208 : Nat) (-1 : Int64)) ∈ lw_all := lw_g (lw_at lw_m6 106 rfl) rfl
theorem q1354 : (Jvm.Cond.constantLong "RegularRallyModel" (210 : Nat) (-100 : Int64)) ∈ lw_all := lw_g (lw_at lw_m6 107 rfl) rfl
theorem q1356 : (Jvm.Cond.instanceMethod ({ cls := "RegularRallyModel", name := "speed", desc := "(II)I" } : Jvm.MethodName)) ∈ lw_all := lw_g (lw_at lw_m6 109 rfl) rfl
theorem q1357 : (Jvm.Cond.selects "RegularRallyModel" ({ cls := "RegularRallyModel", name := "speed", desc := "(II)I" } : Jvm.MethodName) ({ cls := "RegularRallyModel", name := "speed", desc := "(II)I" } : Jvm.MethodName)) ∈ lw_all := lw_g (lw_at lw_m6 110 rfl) rfl
theorem q1358 : (Jvm.Cond.code ({ cls := "RegularRallyModel", name := "speed", desc := "(II)I" } : Jvm.MethodName) prog_12_method_34_code (3 : Nat) (Option.some Jvm.ClassFile.FieldType.int)) ∈ lw_all := lw_g (lw_at lw_m6 111 rfl) rfl
theorem q1359 : (Jvm.Cond.constantLong "RegularRallyModel" (216 : Nat) (3000 : Int64)) ∈ lw_all := lw_g (lw_at lw_m6 112 rfl) rfl
theorem q1361 : (Jvm.Cond.instanceMethod ({ cls := "RegularRallyModel", name := "due", desc := "(I)J" } : Jvm.MethodName)) ∈ lw_all := lw_g (lw_at lw_m6 114 rfl) rfl
theorem q1362 : (Jvm.Cond.selects "RegularRallyModel" ({ cls := "RegularRallyModel", name := "due", desc := "(I)J" } : Jvm.MethodName) ({ cls := "RegularRallyModel", name := "due", desc := "(I)J" } : Jvm.MethodName)) ∈ lw_all := lw_g (lw_at lw_m6 115 rfl) rfl
theorem q1363 : (Jvm.Cond.code ({ cls := "RegularRallyModel", name := "due", desc := "(I)J" } : Jvm.MethodName) prog_12_method_37_code (2 : Nat) (Option.some Jvm.ClassFile.FieldType.long)) ∈ lw_all := lw_g (lw_at lw_m6 116 rfl) rfl
theorem q1364 : (Jvm.Cond.methodLink "RegularRallyModel" (220 : Nat) ({ cls := "RegularRallyModel", name := "hasDue", desc := "()Z" } : Jvm.MethodName)) ∈ lw_all := lw_g (lw_at lw_m6 117 rfl) rfl
theorem q1365 : (Jvm.Cond.privateMethod ({ cls := "RegularRallyModel", name := "hasDue", desc := "()Z" } : Jvm.MethodName)) ∈ lw_tbl := lw_at lw_m6 118 rfl
theorem q1366 : (Jvm.Cond.instanceMethod ({ cls := "RegularRallyModel", name := "hasDue", desc := "()Z" } : Jvm.MethodName)) ∈ lw_all := lw_g (lw_at lw_m6 119 rfl) rfl
theorem q1367 : (Jvm.Cond.code ({ cls := "RegularRallyModel", name := "hasDue", desc := "()Z" } : Jvm.MethodName) prog_12_method_35_code (3 : Nat) (Option.some Jvm.ClassFile.FieldType.boolean)) ∈ lw_all := lw_g (lw_at lw_m6 120 rfl) rfl
theorem q1368 : (Jvm.Cond.methodLink "RegularRallyModel" (223 : Nat) ({ cls := "RegularRallyModel", name := "dueAt", desc := "(I)J" } : Jvm.MethodName)) ∈ lw_all := lw_g (lw_at lw_m6 121 rfl) rfl
theorem q1369 : (Jvm.Cond.privateMethod ({ cls := "RegularRallyModel", name := "dueAt", desc := "(I)J" } : Jvm.MethodName)) ∈ lw_tbl := lw_at lw_m6 122 rfl
theorem q1370 : (Jvm.Cond.instanceMethod ({ cls := "RegularRallyModel", name := "dueAt", desc := "(I)J" } : Jvm.MethodName)) ∈ lw_all := lw_g (lw_at lw_m6 123 rfl) rfl
theorem q1371 : (Jvm.Cond.code ({ cls := "RegularRallyModel", name := "dueAt", desc := "(I)J" } : Jvm.MethodName) prog_12_method_36_code (8 : Nat) (Option.some Jvm.ClassFile.FieldType.long)) ∈ lw_all := lw_g (lw_at lw_m6 124 rfl) rfl
theorem q1372 : (Jvm.Cond.constantLong "RegularRallyModel" (218 : Nat) (600 : Int64)) ∈ lw_all := lw_g (lw_at lw_m6 125 rfl) rfl
theorem q1374 : (Jvm.Cond.instanceMethod ({ cls := "RegularRallyModel", name := "roadAt", desc := "(I)I" } : Jvm.MethodName)) ∈ lw_all := lw_g (lw_at lw_m6 127 rfl) rfl
theorem q1375 : (Jvm.Cond.selects "RegularRallyModel" ({ cls := "RegularRallyModel", name := "roadAt", desc := "(I)I" } : Jvm.MethodName) ({ cls := "RegularRallyModel", name := "roadAt", desc := "(I)I" } : Jvm.MethodName)) ∈ lw_all := lw_g (lw_at lw_m6 128 rfl) rfl
theorem q1376 : (Jvm.Cond.code ({ cls := "RegularRallyModel", name := "roadAt", desc := "(I)I" } : Jvm.MethodName) prog_12_method_38_code (4 : Nat) (Option.some Jvm.ClassFile.FieldType.int)) ∈ lw_all := lw_g (lw_at lw_m6 129 rfl) rfl
theorem q1378 : (Jvm.Cond.instanceMethod ({ cls := "RegularRallyModel", name := "control", desc := "(I)I" } : Jvm.MethodName)) ∈ lw_all := lw_g (lw_at lw_m6 131 rfl) rfl
theorem q1379 : (Jvm.Cond.selects "RegularRallyModel" ({ cls := "RegularRallyModel", name := "control", desc := "(I)I" } : Jvm.MethodName) ({ cls := "RegularRallyModel", name := "control", desc := "(I)I" } : Jvm.MethodName)) ∈ lw_all := lw_g (lw_at lw_m6 132 rfl) rfl
theorem q1380 : (Jvm.Cond.code ({ cls := "RegularRallyModel", name := "control", desc := "(I)I" } : Jvm.MethodName) prog_12_method_40_code (3 : Nat) (Option.some Jvm.ClassFile.FieldType.int)) ∈ lw_all := lw_g (lw_at lw_m6 133 rfl) rfl
theorem q1382 : (Jvm.Cond.instanceMethod ({ cls := "RegularRallyModel", name := "watch", desc := "(IIIII)I" } : Jvm.MethodName)) ∈ lw_all := lw_g (lw_at lw_m6 135 rfl) rfl
theorem q1383 : (Jvm.Cond.selects "RegularRallyModel" ({ cls := "RegularRallyModel", name := "watch", desc := "(IIIII)I" } : Jvm.MethodName) ({ cls := "RegularRallyModel", name := "watch", desc := "(IIIII)I" } : Jvm.MethodName)) ∈ lw_all := lw_g (lw_at lw_m6 136 rfl) rfl
theorem q1384 : (Jvm.Cond.code ({ cls := "RegularRallyModel", name := "watch", desc := "(IIIII)I" } : Jvm.MethodName) prog_12_method_42_code (6 : Nat) (Option.some Jvm.ClassFile.FieldType.int)) ∈ lw_all := lw_g (lw_at lw_m6 137 rfl) rfl
theorem q1385 : (Jvm.Cond.methodLink "RegularRallyModel" (228 : Nat) ({ cls := "RegularRallyModel", name := "noControl", desc := "(I)Z" } : Jvm.MethodName)) ∈ lw_all := lw_g (lw_at lw_m6 138 rfl) rfl
theorem q1386 : (Jvm.Cond.privateMethod ({ cls := "RegularRallyModel", name := "noControl", desc := "(I)Z" } : Jvm.MethodName)) ∈ lw_tbl := lw_at lw_m6 139 rfl
theorem q1387 : (Jvm.Cond.instanceMethod ({ cls := "RegularRallyModel", name := "noControl", desc := "(I)Z" } : Jvm.MethodName)) ∈ lw_all := lw_g (lw_at lw_m6 140 rfl) rfl
theorem q1388 : (Jvm.Cond.code ({ cls := "RegularRallyModel", name := "noControl", desc := "(I)Z" } : Jvm.MethodName) prog_12_method_39_code (2 : Nat) (Option.some Jvm.ClassFile.FieldType.boolean)) ∈ lw_all := lw_g (lw_at lw_m6 141 rfl) rfl
theorem q1389 : (Jvm.Cond.methodLink "RegularRallyModel" (231 : Nat) ({ cls := "RegularRallyModel", name := "isTime", desc := "(I)Z" } : Jvm.MethodName)) ∈ lw_all := lw_g (lw_at lw_m6 142 rfl) rfl
theorem q1390 : (Jvm.Cond.static ({ cls := "RegularRallyModel", name := "isTime", desc := "(I)Z" } : Jvm.MethodName)) ∈ lw_all := lw_g (lw_at lw_m6 143 rfl) rfl
theorem q1391 : (Jvm.Cond.code ({ cls := "RegularRallyModel", name := "isTime", desc := "(I)Z" } : Jvm.MethodName) prog_12_method_41_code (1 : Nat) (Option.some Jvm.ClassFile.FieldType.boolean)) ∈ lw_all := lw_g (lw_at lw_m6 144 rfl) rfl
theorem q1392 : (Jvm.Cond.constantLong "RegularRallyModel" (226 : Nat) (1000000 : Int64)) ∈ lw_all := lw_g (lw_at lw_m6 145 rfl) rfl
theorem q1394 : (Jvm.Cond.instanceMethod ({ cls := "RegularRallyModel", name := "right", desc := "(II)J" } : Jvm.MethodName)) ∈ lw_all := lw_g (lw_at lw_m6 147 rfl) rfl
theorem q1395 : (Jvm.Cond.selects "RegularRallyModel" ({ cls := "RegularRallyModel", name := "right", desc := "(II)J" } : Jvm.MethodName) ({ cls := "RegularRallyModel", name := "right", desc := "(II)J" } : Jvm.MethodName)) ∈ lw_all := lw_g (lw_at lw_m6 148 rfl) rfl
theorem q1396 : (Jvm.Cond.code ({ cls := "RegularRallyModel", name := "right", desc := "(II)J" } : Jvm.MethodName) prog_12_method_44_code (3 : Nat) (Option.some Jvm.ClassFile.FieldType.long)) ∈ lw_all := lw_g (lw_at lw_m6 149 rfl) rfl
theorem q1397 : (Jvm.Cond.methodLink "RegularRallyModel" (234 : Nat) ({ cls := "RegularRallyModel", name := "rightAt", desc := "(IJ)J" } : Jvm.MethodName)) ∈ lw_all := lw_g (lw_at lw_m6 150 rfl) rfl
theorem q1398 : (Jvm.Cond.privateMethod ({ cls := "RegularRallyModel", name := "rightAt", desc := "(IJ)J" } : Jvm.MethodName)) ∈ lw_tbl := lw_at lw_m6 151 rfl
theorem q1399 : (Jvm.Cond.instanceMethod ({ cls := "RegularRallyModel", name := "rightAt", desc := "(IJ)J" } : Jvm.MethodName)) ∈ lw_all := lw_g (lw_at lw_m6 152 rfl) rfl
theorem q1400 : (Jvm.Cond.code ({ cls := "RegularRallyModel", name := "rightAt", desc := "(IJ)J" } : Jvm.MethodName) prog_12_method_43_code (8 : Nat) (Option.some Jvm.ClassFile.FieldType.long)) ∈ lw_all := lw_g (lw_at lw_m6 153 rfl) rfl
theorem q1402 : (Jvm.Cond.instanceMethod ({ cls := "RegularRallyModel", name := "strike", desc := "(IZ)I" } : Jvm.MethodName)) ∈ lw_all := lw_g (lw_at lw_m6 155 rfl) rfl
theorem q1403 : (Jvm.Cond.selects "RegularRallyModel" ({ cls := "RegularRallyModel", name := "strike", desc := "(IZ)I" } : Jvm.MethodName) ({ cls := "RegularRallyModel", name := "strike", desc := "(IZ)I" } : Jvm.MethodName)) ∈ lw_all := lw_g (lw_at lw_m6 156 rfl) rfl
theorem q1404 : (Jvm.Cond.code ({ cls := "RegularRallyModel", name := "strike", desc := "(IZ)I" } : Jvm.MethodName) prog_12_method_45_code (4 : Nat) (Option.some Jvm.ClassFile.FieldType.int)) ∈ lw_all := lw_g (lw_at lw_m6 157 rfl) rfl
theorem q1406 : (Jvm.Cond.instanceMethod ({ cls := "RegularRallyModel", name := "car", desc := "(II)I" } : Jvm.MethodName)) ∈ lw_all := lw_g (lw_at lw_m6 159 rfl) rfl
theorem q1407 : (Jvm.Cond.selects "RegularRallyModel" ({ cls := "RegularRallyModel", name := "car", desc := "(II)I" } : Jvm.MethodName) ({ cls := "RegularRallyModel", name := "car", desc := "(II)I" } : Jvm.MethodName)) ∈ lw_all := lw_g (lw_at lw_m6 160 rfl) rfl
theorem q1408 : (Jvm.Cond.code ({ cls := "RegularRallyModel", name := "car", desc := "(II)I" } : Jvm.MethodName) prog_12_method_47_code (3 : Nat) (Option.some Jvm.ClassFile.FieldType.int)) ∈ lw_all := lw_g (lw_at lw_m6 161 rfl) rfl
theorem q1409 : (Jvm.Cond.constantLong "RegularRallyModel" (241 : Nat) (500000 : Int64)) ∈ lw_all := lw_g (lw_at lw_m6 162 rfl) rfl
theorem q1411 : (Jvm.Cond.instanceMethod ({ cls := "RegularRallyModel", name := "clock", desc := "(III)I" } : Jvm.MethodName)) ∈ lw_all := lw_g (lw_at lw_m6 164 rfl) rfl
theorem q1412 : (Jvm.Cond.selects "RegularRallyModel" ({ cls := "RegularRallyModel", name := "clock", desc := "(III)I" } : Jvm.MethodName) ({ cls := "RegularRallyModel", name := "clock", desc := "(III)I" } : Jvm.MethodName)) ∈ lw_all := lw_g (lw_at lw_m6 165 rfl) rfl
theorem q1413 : (Jvm.Cond.code ({ cls := "RegularRallyModel", name := "clock", desc := "(III)I" } : Jvm.MethodName) prog_12_method_48_code (4 : Nat) (Option.some Jvm.ClassFile.FieldType.int)) ∈ lw_all := lw_g (lw_at lw_m6 166 rfl) rfl
theorem q1414 : (Jvm.Cond.methodLink "RegularRallyModel" (243 : Nat) ({ cls := "RegularRallyModel", name := "noCar", desc := "(I)Z" } : Jvm.MethodName)) ∈ lw_all := lw_g (lw_at lw_m6 167 rfl) rfl
theorem q1415 : (Jvm.Cond.privateMethod ({ cls := "RegularRallyModel", name := "noCar", desc := "(I)Z" } : Jvm.MethodName)) ∈ lw_tbl := lw_at lw_m6 168 rfl
theorem q1416 : (Jvm.Cond.instanceMethod ({ cls := "RegularRallyModel", name := "noCar", desc := "(I)Z" } : Jvm.MethodName)) ∈ lw_all := lw_g (lw_at lw_m6 169 rfl) rfl
theorem q1417 : (Jvm.Cond.code ({ cls := "RegularRallyModel", name := "noCar", desc := "(I)Z" } : Jvm.MethodName) prog_12_method_46_code (2 : Nat) (Option.some Jvm.ClassFile.FieldType.boolean)) ∈ lw_all := lw_g (lw_at lw_m6 170 rfl) rfl
theorem q1419 : (Jvm.Cond.instanceMethod ({ cls := "RegularRallyModel", name := "allow", desc := "(III)I" } : Jvm.MethodName)) ∈ lw_all := lw_g (lw_at lw_m6 172 rfl) rfl
theorem q1420 : (Jvm.Cond.selects "RegularRallyModel" ({ cls := "RegularRallyModel", name := "allow", desc := "(III)I" } : Jvm.MethodName) ({ cls := "RegularRallyModel", name := "allow", desc := "(III)I" } : Jvm.MethodName)) ∈ lw_all := lw_g (lw_at lw_m6 173 rfl) rfl
theorem q1421 : (Jvm.Cond.code ({ cls := "RegularRallyModel", name := "allow", desc := "(III)I" } : Jvm.MethodName) prog_12_method_49_code (5 : Nat) (Option.some Jvm.ClassFile.FieldType.int)) ∈ lw_all := lw_g (lw_at lw_m6 174 rfl) rfl
theorem q1423 : (Jvm.Cond.instanceMethod ({ cls := "RegularRallyModel", name := "error", desc := "(II)J" } : Jvm.MethodName)) ∈ lw_all := lw_g (lw_at lw_m6 176 rfl) rfl
theorem q1424 : (Jvm.Cond.selects "RegularRallyModel" ({ cls := "RegularRallyModel", name := "error", desc := "(II)J" } : Jvm.MethodName) ({ cls := "RegularRallyModel", name := "error", desc := "(II)J" } : Jvm.MethodName)) ∈ lw_all := lw_g (lw_at lw_m6 177 rfl) rfl
theorem q1425 : (Jvm.Cond.code ({ cls := "RegularRallyModel", name := "error", desc := "(II)J" } : Jvm.MethodName) prog_12_method_52_code (3 : Nat) (Option.some Jvm.ClassFile.FieldType.long)) ∈ lw_all := lw_g (lw_at lw_m6 178 rfl) rfl
theorem q1426 : (Jvm.Cond.methodLink "RegularRallyModel" (252 : Nat) ({ cls := "RegularRallyModel", name := "errorAt", desc := "(II)J" } : Jvm.MethodName)) ∈ lw_all := lw_g (lw_at lw_m6 179 rfl) rfl
theorem q1427 : (Jvm.Cond.privateMethod ({ cls := "RegularRallyModel", name := "errorAt", desc := "(II)J" } : Jvm.MethodName)) ∈ lw_tbl := lw_at lw_m6 180 rfl
theorem q1428 : (Jvm.Cond.instanceMethod ({ cls := "RegularRallyModel", name := "errorAt", desc := "(II)J" } : Jvm.MethodName)) ∈ lw_all := lw_g (lw_at lw_m6 181 rfl) rfl
theorem q1429 : (Jvm.Cond.code ({ cls := "RegularRallyModel", name := "errorAt", desc := "(II)J" } : Jvm.MethodName) prog_12_method_51_code (7 : Nat) (Option.some Jvm.ClassFile.FieldType.long)) ∈ lw_all := lw_g (lw_at lw_m6 182 rfl) rfl
theorem q1430 : (Jvm.Cond.methodLink "RegularRallyModel" (248 : Nat) ({ cls := "RegularRallyModel", name := "carried", desc := "(II)J" } : Jvm.MethodName)) ∈ lw_all := lw_g (lw_at lw_m6 183 rfl) rfl
theorem q1431 : (Jvm.Cond.privateMethod ({ cls := "RegularRallyModel", name := "carried", desc := "(II)J" } : Jvm.MethodName)) ∈ lw_tbl := lw_at lw_m6 184 rfl
theorem q1432 : (Jvm.Cond.instanceMethod ({ cls := "RegularRallyModel", name := "carried", desc := "(II)J" } : Jvm.MethodName)) ∈ lw_all := lw_g (lw_at lw_m6 185 rfl) rfl
theorem q1433 : (Jvm.Cond.code ({ cls := "RegularRallyModel", name := "carried", desc := "(II)J" } : Jvm.MethodName) prog_12_method_50_code (7 : Nat) (Option.some Jvm.ClassFile.FieldType.long)) ∈ lw_all := lw_g (lw_at lw_m6 186 rfl) rfl
theorem q1434 : (Jvm.Cond.constantLong "RegularRallyModel" (246 : Nat) (1500 : Int64)) ∈ lw_all := lw_g (lw_at lw_m6 187 rfl) rfl
theorem q1436 : (Jvm.Cond.instanceMethod ({ cls := "RegularRallyModel", name := "points", desc := "(II)I" } : Jvm.MethodName)) ∈ lw_all := lw_g (lw_at lw_m6 189 rfl) rfl
theorem q1437 : (Jvm.Cond.selects "RegularRallyModel" ({ cls := "RegularRallyModel", name := "points", desc := "(II)I" } : Jvm.MethodName) ({ cls := "RegularRallyModel", name := "points", desc := "(II)I" } : Jvm.MethodName)) ∈ lw_all := lw_g (lw_at lw_m6 190 rfl) rfl
theorem q1438 : (Jvm.Cond.code ({ cls := "RegularRallyModel", name := "points", desc := "(II)I" } : Jvm.MethodName) prog_12_method_55_code (3 : Nat) (Option.some Jvm.ClassFile.FieldType.int)) ∈ lw_all := lw_g (lw_at lw_m6 191 rfl) rfl
theorem q1439 : (Jvm.Cond.methodLink "RegularRallyModel" (265 : Nat) ({ cls := "RegularRallyModel", name := "pointsAt", desc := "(II)I" } : Jvm.MethodName)) ∈ lw_all := lw_g (lw_at lw_m6 192 rfl) rfl
theorem q1440 : (Jvm.Cond.privateMethod ({ cls := "RegularRallyModel", name := "pointsAt", desc := "(II)I" } : Jvm.MethodName)) ∈ lw_tbl := lw_at lw_m6 193 rfl
theorem q1441 : (Jvm.Cond.instanceMethod ({ cls := "RegularRallyModel", name := "pointsAt", desc := "(II)I" } : Jvm.MethodName)) ∈ lw_all := lw_g (lw_at lw_m6 194 rfl) rfl
theorem q1442 : (Jvm.Cond.code ({ cls := "RegularRallyModel", name := "pointsAt", desc := "(II)I" } : Jvm.MethodName) prog_12_method_54_code (7 : Nat) (Option.some Jvm.ClassFile.FieldType.int)) ∈ lw_all := lw_g (lw_at lw_m6 195 rfl) rfl
theorem q1443 : (Jvm.Cond.methodLink "RegularRallyModel" (255 : Nat) ({ cls := "RegularRallyModel", name := "isOutOfOrder", desc := "(II)Z" } : Jvm.MethodName)) ∈ lw_all := lw_g (lw_at lw_m6 196 rfl) rfl
theorem q1444 : (Jvm.Cond.privateMethod ({ cls := "RegularRallyModel", name := "isOutOfOrder", desc := "(II)Z" } : Jvm.MethodName)) ∈ lw_tbl := lw_at lw_m6 197 rfl
theorem q1445 : (Jvm.Cond.instanceMethod ({ cls := "RegularRallyModel", name := "isOutOfOrder", desc := "(II)Z" } : Jvm.MethodName)) ∈ lw_all := lw_g (lw_at lw_m6 198 rfl) rfl
theorem q1446 : (Jvm.Cond.code ({ cls := "RegularRallyModel", name := "isOutOfOrder", desc := "(II)Z" } : Jvm.MethodName) prog_12_method_53_code (7 : Nat) (Option.some Jvm.ClassFile.FieldType.boolean)) ∈ lw_all := lw_g (lw_at lw_m6 199 rfl) rfl
theorem q1447 : (Jvm.Cond.constantLong "RegularRallyModel" (259 : Nat) (10 : Int64)) ∈ lw_all := lw_g (lw_at lw_m6 200 rfl) rfl
theorem q1448 : (Jvm.Cond.constantLong "RegularRallyModel" (261 : Nat) (300 : Int64)) ∈ lw_all := lw_g (lw_at lw_m6 201 rfl) rfl
theorem q1449 : (Jvm.Cond.constantLong "RegularRallyModel" (263 : Nat) (50 : Int64)) ∈ lw_all := lw_g (lw_at lw_m6 202 rfl) rfl
theorem q1451 : (Jvm.Cond.instanceMethod ({ cls := "RegularRallyModel", name := "result", desc := "(II)I" } : Jvm.MethodName)) ∈ lw_all := lw_g (lw_at lw_m6 204 rfl) rfl
theorem q1452 : (Jvm.Cond.selects "RegularRallyModel" ({ cls := "RegularRallyModel", name := "result", desc := "(II)I" } : Jvm.MethodName) ({ cls := "RegularRallyModel", name := "result", desc := "(II)I" } : Jvm.MethodName)) ∈ lw_all := lw_g (lw_at lw_m6 205 rfl) rfl
theorem q1453 : (Jvm.Cond.code ({ cls := "RegularRallyModel", name := "result", desc := "(II)I" } : Jvm.MethodName) prog_12_method_58_code (6 : Nat) (Option.some Jvm.ClassFile.FieldType.int)) ∈ lw_all := lw_g (lw_at lw_m6 206 rfl) rfl
theorem q1454 : (Jvm.Cond.methodLink "RegularRallyModel" (268 : Nat) ({ cls := "RegularRallyModel", name := "totalOf", desc := "(I)I" } : Jvm.MethodName)) ∈ lw_all := lw_g (lw_at lw_m6 207 rfl) rfl
theorem q1455 : (Jvm.Cond.privateMethod ({ cls := "RegularRallyModel", name := "totalOf", desc := "(I)I" } : Jvm.MethodName)) ∈ lw_tbl := lw_at lw_m6 208 rfl
theorem q1456 : (Jvm.Cond.instanceMethod ({ cls := "RegularRallyModel", name := "totalOf", desc := "(I)I" } : Jvm.MethodName)) ∈ lw_all := lw_g (lw_at lw_m6 209 rfl) rfl
theorem q1457 : (Jvm.Cond.code ({ cls := "RegularRallyModel", name := "totalOf", desc := "(I)I" } : Jvm.MethodName) prog_12_method_56_code (4 : Nat) (Option.some Jvm.ClassFile.FieldType.int)) ∈ lw_all := lw_g (lw_at lw_m6 210 rfl) rfl
theorem q1458 : (Jvm.Cond.methodLink "RegularRallyModel" (271 : Nat) ({ cls := "RegularRallyModel", name := "isBetter", desc := "(II)Z" } : Jvm.MethodName)) ∈ lw_all := lw_g (lw_at lw_m6 211 rfl) rfl
theorem q1459 : (Jvm.Cond.privateMethod ({ cls := "RegularRallyModel", name := "isBetter", desc := "(II)Z" } : Jvm.MethodName)) ∈ lw_tbl := lw_at lw_m6 212 rfl
theorem q1460 : (Jvm.Cond.instanceMethod ({ cls := "RegularRallyModel", name := "isBetter", desc := "(II)Z" } : Jvm.MethodName)) ∈ lw_all := lw_g (lw_at lw_m6 213 rfl) rfl
theorem q1461 : (Jvm.Cond.code ({ cls := "RegularRallyModel", name := "isBetter", desc := "(II)Z" } : Jvm.MethodName) prog_12_method_57_code (8 : Nat) (Option.some Jvm.ClassFile.FieldType.boolean)) ∈ lw_all := lw_g (lw_at lw_m6 214 rfl) rfl
theorem q1463 : (Jvm.Cond.instanceMethod ({ cls := "RegularRallyModel", name := "tell", desc := "(I)I" } : Jvm.MethodName)) ∈ lw_all := lw_g (lw_at lw_m6 216 rfl) rfl
theorem q1464 : (Jvm.Cond.selects "RegularRallyModel" ({ cls := "RegularRallyModel", name := "tell", desc := "(I)I" } : Jvm.MethodName) ({ cls := "RegularRallyModel", name := "tell", desc := "(I)I" } : Jvm.MethodName)) ∈ lw_all := lw_g (lw_at lw_m6 217 rfl) rfl
theorem q1465 : (Jvm.Cond.code ({ cls := "RegularRallyModel", name := "tell", desc := "(I)I" } : Jvm.MethodName) prog_12_method_60_code (2 : Nat) (Option.some Jvm.ClassFile.FieldType.int)) ∈ lw_all := lw_g (lw_at lw_m6 218 rfl) rfl
theorem q1466 : (Jvm.Cond.methodLink "RegularRallyModel" (277 : Nat) ({ cls := "RegularRallyModel", name := "traced", desc := "(I)V" } : Jvm.MethodName)) ∈ lw_all := lw_g (lw_at lw_m6 219 rfl) rfl
theorem q1467 : (Jvm.Cond.privateMethod ({ cls := "RegularRallyModel", name := "traced", desc := "(I)V" } : Jvm.MethodName)) ∈ lw_tbl := lw_at lw_m6 220 rfl
theorem q1468 : (Jvm.Cond.instanceMethod ({ cls := "RegularRallyModel", name := "traced", desc := "(I)V" } : Jvm.MethodName)) ∈ lw_all := lw_g (lw_at lw_m6 221 rfl) rfl
theorem q1469 : (Jvm.Cond.code ({ cls := "RegularRallyModel", name := "traced", desc := "(I)V" } : Jvm.MethodName) prog_12_method_59_code (2 : Nat) (Option.none : Option Jvm.ClassFile.FieldType)) ∈ lw_all := lw_g (lw_at lw_m6 222 rfl) rfl
theorem q1471 : (Jvm.Cond.instanceMethod ({ cls := "RegularRallyModel", name := "greet", desc := "(I)I" } : Jvm.MethodName)) ∈ lw_all := lw_g (lw_at lw_m6 224 rfl) rfl
theorem q1472 : (Jvm.Cond.selects "RegularRallyModel" ({ cls := "RegularRallyModel", name := "greet", desc := "(I)I" } : Jvm.MethodName) ({ cls := "RegularRallyModel", name := "greet", desc := "(I)I" } : Jvm.MethodName)) ∈ lw_all := lw_g (lw_at lw_m6 225 rfl) rfl
theorem q1473 : (Jvm.Cond.code ({ cls := "RegularRallyModel", name := "greet", desc := "(I)I" } : Jvm.MethodName) prog_12_method_61_code (2 : Nat) (Option.some Jvm.ClassFile.FieldType.int)) ∈ lw_all := lw_g (lw_at lw_m6 226 rfl) rfl
theorem q1475 : (Jvm.Cond.instanceMethod ({ cls := "RegularRallyModel", name := "as", desc := "(II)I" } : Jvm.MethodName)) ∈ lw_all := lw_g (lw_at lw_m6 228 rfl) rfl
theorem q1476 : (Jvm.Cond.selects "RegularRallyModel" ({ cls := "RegularRallyModel", name := "as", desc := "(II)I" } : Jvm.MethodName) ({ cls := "RegularRallyModel", name := "as", desc := "(II)I" } : Jvm.MethodName)) ∈ lw_all := lw_g (lw_at lw_m6 229 rfl) rfl
theorem q1477 : (Jvm.Cond.code ({ cls := "RegularRallyModel", name := "as", desc := "(II)I" } : Jvm.MethodName) prog_12_method_62_code (3 : Nat) (Option.some Jvm.ClassFile.FieldType.int)) ∈ lw_all := lw_g (lw_at lw_m6 230 rfl) rfl
theorem q1479 : (Jvm.Cond.instanceMethod ({ cls := "RegularRallyModel", name := "trace", desc := "()I" } : Jvm.MethodName)) ∈ lw_all := lw_g (lw_at lw_m6 232 rfl) rfl
theorem q1480 : (Jvm.Cond.selects "RegularRallyModel" ({ cls := "RegularRallyModel", name := "trace", desc := "()I" } : Jvm.MethodName) ({ cls := "RegularRallyModel", name := "trace", desc := "()I" } : Jvm.MethodName)) ∈ lw_all := lw_g (lw_at lw_m6 233 rfl) rfl
theorem q1481 : (Jvm.Cond.code ({ cls := "RegularRallyModel", name := "trace", desc := "()I" } : Jvm.MethodName) prog_12_method_63_code (1 : Nat) (Option.some Jvm.ClassFile.FieldType.int)) ∈ lw_all := lw_g (lw_at lw_m6 234 rfl) rfl
theorem q1483 : (Jvm.Cond.instanceMethod ({ cls := "RegularRallyModel", name := "fault", desc := "()I" } : Jvm.MethodName)) ∈ lw_all := lw_g (lw_at lw_m6 236 rfl) rfl
theorem q1484 : (Jvm.Cond.selects "RegularRallyModel" ({ cls := "RegularRallyModel", name := "fault", desc := "()I" } : Jvm.MethodName) ({ cls := "RegularRallyModel", name := "fault", desc := "()I" } : Jvm.MethodName)) ∈ lw_all := lw_g (lw_at lw_m6 237 rfl) rfl
theorem q1485 : (Jvm.Cond.code ({ cls := "RegularRallyModel", name := "fault", desc := "()I" } : Jvm.MethodName) prog_12_method_64_code (1 : Nat) (Option.some Jvm.ClassFile.FieldType.int)) ∈ lw_all := lw_g (lw_at lw_m6 238 rfl) rfl
theorem q1487 : (Jvm.Cond.instanceMethod ({ cls := "RegularRallyModel", name := "told", desc := "(I)I" } : Jvm.MethodName)) ∈ lw_all := lw_g (lw_at lw_m7 0 rfl) rfl
theorem q1488 : (Jvm.Cond.selects "RegularRallyModel" ({ cls := "RegularRallyModel", name := "told", desc := "(I)I" } : Jvm.MethodName) ({ cls := "RegularRallyModel", name := "told", desc := "(I)I" } : Jvm.MethodName)) ∈ lw_all := lw_g (lw_at lw_m7 1 rfl) rfl
theorem q1489 : (Jvm.Cond.code ({ cls := "RegularRallyModel", name := "told", desc := "(I)I" } : Jvm.MethodName) prog_12_method_65_code (2 : Nat) (Option.some Jvm.ClassFile.FieldType.int)) ∈ lw_all := lw_g (lw_at lw_m7 2 rfl) rfl
theorem q1506 : (Jvm.Cond.castable "RegularRallyModel" "java/lang/Object") ∈ lw_tbl := lw_at lw_m7 19 rfl
theorem in_X1 : ∀ w ∈ wsX10, w ∈ lw_all := lw_in wsX10 [1135, 1137, 1139, 1141, 1143, 1145, 1147, 1149, 1151, 1153, 1155, 1157, 1159, 1161, 1163, 1165, 1167, 1169, 1171, 1173, 1175, 1177, 1179, 1181, 1183, 1185, 1187, 1189, 1191, 1193, 1195, 1197, 1199, 1201, 1203, 1205, 1207, 1209, 1211, 1213, 1215, 1217, 1219] (by decide +kernel) (by decide +kernel)
