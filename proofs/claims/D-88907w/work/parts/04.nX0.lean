/-! RegularRally -/
set_option maxRecDepth 100000
def RX0 : String := "RegularRally"
def TX0 : u_T := fun k => match k with
  | 0 => ("RegularRally", "fault", "I", false)
  | 1 => ("RegularRally", "trace", "I", false)
  | 2 => ("RegularRally", "roads", "Ljava/util/List;", true)
  | 3 => ("RegularRally", "book", "[I", true)
  | 4 => ("RegularRally", "bookMany", "I", false)
  | 5 => ("RegularRally", "row", "[I", true)
  | 6 => ("RegularRally", "best", "[I", true)
  | 7 => ("RegularRally", "bestMany", "I", false)
  | 8 => ("RegularRally", "bestSum", "J", false)
  | 9 => ("RegularRally", "found", "I", false)
  | 10 => ("RegularRally", "trials", "I", false)
  | 11 => ("RegularRally", "way", "[I", true)
  | 12 => ("RegularRally", "laidMany", "I", false)
  | 13 => ("RegularRally", "metres", "I", false)
  | 14 => ("RegularRally", "speedFrom", "[I", true)
  | 15 => ("RegularRally", "speedOf", "[I", true)
  | 16 => ("RegularRally", "speedMany", "I", false)
  | 17 => ("RegularRally", "controls", "Ljava/util/List;", true)
  | 18 => ("RegularRally", "cars", "Ljava/util/List;", true)
  | _ => ("RegularRally", "sheets", "[Ljava/lang/Object;", true)
def tyX0 : Nat → FieldType := fun k => match k with
  | 0 => .int
  | 1 => .int
  | 2 => .object "java/util/List"
  | 3 => .array .int
  | 4 => .int
  | 5 => .array .int
  | 6 => .array .int
  | 7 => .int
  | 8 => .long
  | 9 => .int
  | 10 => .int
  | 11 => .array .int
  | 12 => .int
  | 13 => .int
  | 14 => .array .int
  | 15 => .array .int
  | 16 => .int
  | 17 => .object "java/util/List"
  | 18 => .object "java/util/List"
  | _ => .array (.object "java/lang/Object")
abbrev wsX00 : List Cond := u_ws RX0 TX0 20
set_option maxRecDepth 100000 in
theorem nmX0 : ∀ a, a < 20 → ∀ b, b < 20 → a ≠ b → (TX0 a).2.1 ≠ (TX0 b).2.1 := by decide +kernel
set_option maxRecDepth 100000 in
theorem tyX0_ok : ∀ k, k < 20 → parseFieldDescriptor (TX0 k).2.2.1 = some (tyX0 k) := by decide +kernel
abbrev cX0_init : ByteArray := prog_1_method_1_code
def yX0_init : MethodName := ⟨RX0, "<init>", "()V"⟩
def dkwX0_init_3 : List UInt8 := [181, 0, 37, 42, 187, 0, 9, 89, 183, 0, 11, 181, 0, 40, 42, 7, 189, 0, 4, 181, 0, 43, 177]
abbrev dktX0_init_3 : List UInt8 := dkwX0_init_3 ++ []
def dkwX0_init_2 : List UInt8 := [16, 8, 188, 10, 181, 0, 31, 42, 16, 8, 188, 10, 181, 0, 34, 42, 187, 0, 9, 89, 183, 0, 11]
abbrev dktX0_init_2 : List UInt8 := dkwX0_init_2 ++ dktX0_init_3
def dkwX0_init_1 : List UInt8 := [16, 10, 188, 10, 181, 0, 22, 42, 16, 10, 188, 10, 181, 0, 25, 42, 16, 10, 188, 10, 181, 0, 28, 42]
abbrev dktX0_init_1 : List UInt8 := dkwX0_init_1 ++ dktX0_init_2
def dkwX0_init_0 : List UInt8 := [42, 183, 0, 3, 42, 187, 0, 9, 89, 183, 0, 11, 181, 0, 12, 42, 16, 8, 188, 10, 181, 0, 18, 42]
abbrev dktX0_init_0 : List UInt8 := dkwX0_init_0 ++ dktX0_init_1
theorem dksX0_init_0 : cX0_init.data.toList.drop 0 = dktX0_init_0 := by decide +kernel
theorem dksX0_init_1 : cX0_init.data.toList.drop 24 = dktX0_init_1 := dk_seg dksX0_init_0 24 rfl rfl
theorem dksX0_init_2 : cX0_init.data.toList.drop 48 = dktX0_init_2 := dk_seg dksX0_init_1 24 rfl rfl
theorem dksX0_init_3 : cX0_init.data.toList.drop 71 = dktX0_init_3 := dk_seg dksX0_init_2 23 rfl rfl
theorem dX0_init_0 : decode cX0_init 0 = .ok (.aload_n 0, 1) := dk_42 (dk_at dksX0_init_0 0 rfl rfl)
theorem dX0_init_1 : decode cX0_init 1 = .ok (.invokespecial 3, 3) := dk_183 0 3 (dk_at dksX0_init_0 1 rfl rfl)
theorem dX0_init_4 : decode cX0_init 4 = .ok (.aload_n 0, 1) := dk_42 (dk_at dksX0_init_0 4 rfl rfl)
theorem dX0_init_5 : decode cX0_init 5 = .ok (.new 9, 3) := dk_187 0 9 (dk_at dksX0_init_0 5 rfl rfl)
theorem dX0_init_8 : decode cX0_init 8 = .ok (.dup, 1) := dk_89 (dk_at dksX0_init_0 8 rfl rfl)
theorem dX0_init_9 : decode cX0_init 9 = .ok (.invokespecial 11, 3) := dk_183 0 11 (dk_at dksX0_init_0 9 rfl rfl)
theorem dX0_init_12 : decode cX0_init 12 = .ok (.putfield 12, 3) := dk_181 0 12 (dk_at dksX0_init_0 12 rfl rfl)
theorem dX0_init_15 : decode cX0_init 15 = .ok (.aload_n 0, 1) := dk_42 (dk_at dksX0_init_0 15 rfl rfl)
theorem dX0_init_16 : decode cX0_init 16 = .ok (.bipush 8, 2) := dk_16 8 (dk_at dksX0_init_0 16 rfl rfl)
theorem dX0_init_18 : decode cX0_init 18 = .ok (.newarray .int, 2) := dk_188_10 (dk_at dksX0_init_0 18 rfl rfl)
theorem dX0_init_20 : decode cX0_init 20 = .ok (.putfield 18, 3) := dk_181 0 18 (dk_at dksX0_init_0 20 rfl rfl)
theorem dX0_init_23 : decode cX0_init 23 = .ok (.aload_n 0, 1) := dk_42 (dk_at dksX0_init_0 23 rfl rfl)
theorem dX0_init_24 : decode cX0_init 24 = .ok (.bipush 10, 2) := dk_16 10 (dk_at dksX0_init_1 0 rfl rfl)
theorem dX0_init_26 : decode cX0_init 26 = .ok (.newarray .int, 2) := dk_188_10 (dk_at dksX0_init_1 2 rfl rfl)
theorem dX0_init_28 : decode cX0_init 28 = .ok (.putfield 22, 3) := dk_181 0 22 (dk_at dksX0_init_1 4 rfl rfl)
theorem dX0_init_31 : decode cX0_init 31 = .ok (.aload_n 0, 1) := dk_42 (dk_at dksX0_init_1 7 rfl rfl)
theorem dX0_init_32 : decode cX0_init 32 = .ok (.bipush 10, 2) := dk_16 10 (dk_at dksX0_init_1 8 rfl rfl)
theorem dX0_init_34 : decode cX0_init 34 = .ok (.newarray .int, 2) := dk_188_10 (dk_at dksX0_init_1 10 rfl rfl)
theorem dX0_init_36 : decode cX0_init 36 = .ok (.putfield 25, 3) := dk_181 0 25 (dk_at dksX0_init_1 12 rfl rfl)
theorem dX0_init_39 : decode cX0_init 39 = .ok (.aload_n 0, 1) := dk_42 (dk_at dksX0_init_1 15 rfl rfl)
theorem dX0_init_40 : decode cX0_init 40 = .ok (.bipush 10, 2) := dk_16 10 (dk_at dksX0_init_1 16 rfl rfl)
theorem dX0_init_42 : decode cX0_init 42 = .ok (.newarray .int, 2) := dk_188_10 (dk_at dksX0_init_1 18 rfl rfl)
theorem dX0_init_44 : decode cX0_init 44 = .ok (.putfield 28, 3) := dk_181 0 28 (dk_at dksX0_init_1 20 rfl rfl)
theorem dX0_init_47 : decode cX0_init 47 = .ok (.aload_n 0, 1) := dk_42 (dk_at dksX0_init_1 23 rfl rfl)
theorem dX0_init_48 : decode cX0_init 48 = .ok (.bipush 8, 2) := dk_16 8 (dk_at dksX0_init_2 0 rfl rfl)
theorem dX0_init_50 : decode cX0_init 50 = .ok (.newarray .int, 2) := dk_188_10 (dk_at dksX0_init_2 2 rfl rfl)
theorem dX0_init_52 : decode cX0_init 52 = .ok (.putfield 31, 3) := dk_181 0 31 (dk_at dksX0_init_2 4 rfl rfl)
theorem dX0_init_55 : decode cX0_init 55 = .ok (.aload_n 0, 1) := dk_42 (dk_at dksX0_init_2 7 rfl rfl)
theorem dX0_init_56 : decode cX0_init 56 = .ok (.bipush 8, 2) := dk_16 8 (dk_at dksX0_init_2 8 rfl rfl)
theorem dX0_init_58 : decode cX0_init 58 = .ok (.newarray .int, 2) := dk_188_10 (dk_at dksX0_init_2 10 rfl rfl)
theorem dX0_init_60 : decode cX0_init 60 = .ok (.putfield 34, 3) := dk_181 0 34 (dk_at dksX0_init_2 12 rfl rfl)
theorem dX0_init_63 : decode cX0_init 63 = .ok (.aload_n 0, 1) := dk_42 (dk_at dksX0_init_2 15 rfl rfl)
theorem dX0_init_64 : decode cX0_init 64 = .ok (.new 9, 3) := dk_187 0 9 (dk_at dksX0_init_2 16 rfl rfl)
theorem dX0_init_67 : decode cX0_init 67 = .ok (.dup, 1) := dk_89 (dk_at dksX0_init_2 19 rfl rfl)
theorem dX0_init_68 : decode cX0_init 68 = .ok (.invokespecial 11, 3) := dk_183 0 11 (dk_at dksX0_init_2 20 rfl rfl)
theorem dX0_init_71 : decode cX0_init 71 = .ok (.putfield 37, 3) := dk_181 0 37 (dk_at dksX0_init_3 0 rfl rfl)
theorem dX0_init_74 : decode cX0_init 74 = .ok (.aload_n 0, 1) := dk_42 (dk_at dksX0_init_3 3 rfl rfl)
theorem dX0_init_75 : decode cX0_init 75 = .ok (.new 9, 3) := dk_187 0 9 (dk_at dksX0_init_3 4 rfl rfl)
theorem dX0_init_78 : decode cX0_init 78 = .ok (.dup, 1) := dk_89 (dk_at dksX0_init_3 7 rfl rfl)
theorem dX0_init_79 : decode cX0_init 79 = .ok (.invokespecial 11, 3) := dk_183 0 11 (dk_at dksX0_init_3 8 rfl rfl)
theorem dX0_init_82 : decode cX0_init 82 = .ok (.putfield 40, 3) := dk_181 0 40 (dk_at dksX0_init_3 11 rfl rfl)
theorem dX0_init_85 : decode cX0_init 85 = .ok (.aload_n 0, 1) := dk_42 (dk_at dksX0_init_3 14 rfl rfl)
theorem dX0_init_86 : decode cX0_init 86 = .ok (.iconst 4, 1) := dk_7 (dk_at dksX0_init_3 15 rfl rfl)
theorem dX0_init_87 : decode cX0_init 87 = .ok (.anewarray 4, 3) := dk_189 0 4 (dk_at dksX0_init_3 16 rfl rfl)
theorem dX0_init_90 : decode cX0_init 90 = .ok (.putfield 43, 3) := dk_181 0 43 (dk_at dksX0_init_3 19 rfl rfl)
theorem dX0_init_93 : decode cX0_init 93 = .ok (.return_, 1) := dk_177 (dk_at dksX0_init_3 22 rfl rfl)
abbrev cX0_road : ByteArray := prog_1_method_8_code
def yX0_road : MethodName := ⟨RX0, "road", "(IIII)I"⟩
def dkwX0_road_5 : List UInt8 := [183, 0, 86, 185, 0, 87, 2, 0, 87, 42, 180, 0, 12, 185, 0, 56, 1, 0, 4, 100, 172]
abbrev dktX0_road_5 : List UInt8 := dkwX0_road_5 ++ []
def dkwX0_road_4 : List UInt8 := [187, 0, 81, 89, 42, 27, 28, 29, 183, 0, 83, 167, 0, 14, 187, 0, 84, 89, 42, 27, 28, 29]
abbrev dktX0_road_4 : List UInt8 := dkwX0_road_4 ++ dktX0_road_5
def dkwX0_road_3 : List UInt8 := [154, 0, 17, 187, 0, 76, 89, 42, 27, 28, 29, 183, 0, 78, 167, 0, 34, 21, 4, 4, 160, 0, 17]
abbrev dktX0_road_3 : List UInt8 := dkwX0_road_3 ++ dktX0_road_4
def dkwX0_road_2 : List UInt8 := [172, 42, 180, 0, 12, 185, 0, 56, 1, 0, 16, 16, 160, 0, 6, 16, 252, 172, 42, 180, 0, 12, 21, 4]
abbrev dktX0_road_2 : List UInt8 := dkwX0_road_2 ++ dktX0_road_3
def dkwX0_road_1 : List UInt8 := [20, 0, 72, 184, 0, 62, 153, 0, 16, 21, 4, 133, 9, 20, 0, 74, 184, 0, 62, 154, 0, 6, 16, 254]
abbrev dktX0_road_1 : List UInt8 := dkwX0_road_1 ++ dktX0_road_2
def dkwX0_road_0 : List UInt8 := [27, 184, 0, 68, 153, 0, 10, 28, 184, 0, 68, 154, 0, 5, 2, 172, 27, 28, 159, 0, 28, 29, 133, 10]
abbrev dktX0_road_0 : List UInt8 := dkwX0_road_0 ++ dktX0_road_1
theorem dksX0_road_0 : cX0_road.data.toList.drop 0 = dktX0_road_0 := by decide +kernel
theorem dksX0_road_1 : cX0_road.data.toList.drop 24 = dktX0_road_1 := dk_seg dksX0_road_0 24 rfl rfl
theorem dksX0_road_2 : cX0_road.data.toList.drop 48 = dktX0_road_2 := dk_seg dksX0_road_1 24 rfl rfl
theorem dksX0_road_3 : cX0_road.data.toList.drop 72 = dktX0_road_3 := dk_seg dksX0_road_2 24 rfl rfl
theorem dksX0_road_4 : cX0_road.data.toList.drop 95 = dktX0_road_4 := dk_seg dksX0_road_3 23 rfl rfl
theorem dksX0_road_5 : cX0_road.data.toList.drop 117 = dktX0_road_5 := dk_seg dksX0_road_4 22 rfl rfl
theorem dX0_road_0 : decode cX0_road 0 = .ok (.iload_n 1, 1) := dk_27 (dk_at dksX0_road_0 0 rfl rfl)
theorem dX0_road_1 : decode cX0_road 1 = .ok (.invokestatic 68, 3) := dk_184 0 68 (dk_at dksX0_road_0 1 rfl rfl)
theorem dX0_road_4 : decode cX0_road 4 = .ok (.ifCond .eq 10, 3) := dk_153 0 10 (dk_at dksX0_road_0 4 rfl rfl)
theorem dX0_road_7 : decode cX0_road 7 = .ok (.iload_n 2, 1) := dk_28 (dk_at dksX0_road_0 7 rfl rfl)
theorem dX0_road_8 : decode cX0_road 8 = .ok (.invokestatic 68, 3) := dk_184 0 68 (dk_at dksX0_road_0 8 rfl rfl)
theorem dX0_road_11 : decode cX0_road 11 = .ok (.ifCond .ne 5, 3) := dk_154 0 5 (dk_at dksX0_road_0 11 rfl rfl)
theorem dX0_road_14 : decode cX0_road 14 = .ok (.iconst (-1), 1) := dk_2 (dk_at dksX0_road_0 14 rfl rfl)
theorem dX0_road_15 : decode cX0_road 15 = .ok (.ireturn, 1) := dk_172 (dk_at dksX0_road_0 15 rfl rfl)
theorem dX0_road_16 : decode cX0_road 16 = .ok (.iload_n 1, 1) := dk_27 (dk_at dksX0_road_0 16 rfl rfl)
theorem dX0_road_17 : decode cX0_road 17 = .ok (.iload_n 2, 1) := dk_28 (dk_at dksX0_road_0 17 rfl rfl)
theorem dX0_road_18 : decode cX0_road 18 = .ok (.if_icmp .eq 28, 3) := dk_159 0 28 (dk_at dksX0_road_0 18 rfl rfl)
theorem dX0_road_21 : decode cX0_road 21 = .ok (.iload_n 3, 1) := dk_29 (dk_at dksX0_road_0 21 rfl rfl)
theorem dX0_road_22 : decode cX0_road 22 = .ok (.i2l, 1) := dk_133 (dk_at dksX0_road_0 22 rfl rfl)
theorem dX0_road_23 : decode cX0_road 23 = .ok (.lconst 1, 1) := dk_10 (dk_at dksX0_road_0 23 rfl rfl)
theorem dX0_road_24 : decode cX0_road 24 = .ok (.ldc2_w 72, 3) := dk_20 0 72 (dk_at dksX0_road_1 0 rfl rfl)
theorem dX0_road_27 : decode cX0_road 27 = .ok (.invokestatic 62, 3) := dk_184 0 62 (dk_at dksX0_road_1 3 rfl rfl)
theorem dX0_road_30 : decode cX0_road 30 = .ok (.ifCond .eq 16, 3) := dk_153 0 16 (dk_at dksX0_road_1 6 rfl rfl)
theorem dX0_road_33 : decode cX0_road 33 = .ok (.iload 4, 2) := dk_21 4 (dk_at dksX0_road_1 9 rfl rfl)
theorem dX0_road_35 : decode cX0_road 35 = .ok (.i2l, 1) := dk_133 (dk_at dksX0_road_1 11 rfl rfl)
theorem dX0_road_36 : decode cX0_road 36 = .ok (.lconst 0, 1) := dk_9 (dk_at dksX0_road_1 12 rfl rfl)
theorem dX0_road_37 : decode cX0_road 37 = .ok (.ldc2_w 74, 3) := dk_20 0 74 (dk_at dksX0_road_1 13 rfl rfl)
theorem dX0_road_40 : decode cX0_road 40 = .ok (.invokestatic 62, 3) := dk_184 0 62 (dk_at dksX0_road_1 16 rfl rfl)
theorem dX0_road_43 : decode cX0_road 43 = .ok (.ifCond .ne 6, 3) := dk_154 0 6 (dk_at dksX0_road_1 19 rfl rfl)
theorem dX0_road_46 : decode cX0_road 46 = .ok (.bipush (-2), 2) := dk_16 254 (dk_at dksX0_road_1 22 rfl rfl)
theorem dX0_road_48 : decode cX0_road 48 = .ok (.ireturn, 1) := dk_172 (dk_at dksX0_road_2 0 rfl rfl)
theorem dX0_road_49 : decode cX0_road 49 = .ok (.aload_n 0, 1) := dk_42 (dk_at dksX0_road_2 1 rfl rfl)
theorem dX0_road_50 : decode cX0_road 50 = .ok (.getfield 12, 3) := dk_180 0 12 (dk_at dksX0_road_2 2 rfl rfl)
theorem dX0_road_53 : decode cX0_road 53 = .ok (.invokeinterface 56 1, 5) := by decide +kernel
theorem dX0_road_58 : decode cX0_road 58 = .ok (.bipush 16, 2) := dk_16 16 (dk_at dksX0_road_2 10 rfl rfl)
theorem dX0_road_60 : decode cX0_road 60 = .ok (.if_icmp .ne 6, 3) := dk_160 0 6 (dk_at dksX0_road_2 12 rfl rfl)
theorem dX0_road_63 : decode cX0_road 63 = .ok (.bipush (-4), 2) := dk_16 252 (dk_at dksX0_road_2 15 rfl rfl)
theorem dX0_road_65 : decode cX0_road 65 = .ok (.ireturn, 1) := dk_172 (dk_at dksX0_road_2 17 rfl rfl)
theorem dX0_road_66 : decode cX0_road 66 = .ok (.aload_n 0, 1) := dk_42 (dk_at dksX0_road_2 18 rfl rfl)
theorem dX0_road_67 : decode cX0_road 67 = .ok (.getfield 12, 3) := dk_180 0 12 (dk_at dksX0_road_2 19 rfl rfl)
theorem dX0_road_70 : decode cX0_road 70 = .ok (.iload 4, 2) := dk_21 4 (dk_at dksX0_road_2 22 rfl rfl)
theorem dX0_road_72 : decode cX0_road 72 = .ok (.ifCond .ne 17, 3) := dk_154 0 17 (dk_at dksX0_road_3 0 rfl rfl)
theorem dX0_road_75 : decode cX0_road 75 = .ok (.new 76, 3) := dk_187 0 76 (dk_at dksX0_road_3 3 rfl rfl)
theorem dX0_road_78 : decode cX0_road 78 = .ok (.dup, 1) := dk_89 (dk_at dksX0_road_3 6 rfl rfl)
theorem dX0_road_79 : decode cX0_road 79 = .ok (.aload_n 0, 1) := dk_42 (dk_at dksX0_road_3 7 rfl rfl)
theorem dX0_road_80 : decode cX0_road 80 = .ok (.iload_n 1, 1) := dk_27 (dk_at dksX0_road_3 8 rfl rfl)
theorem dX0_road_81 : decode cX0_road 81 = .ok (.iload_n 2, 1) := dk_28 (dk_at dksX0_road_3 9 rfl rfl)
theorem dX0_road_82 : decode cX0_road 82 = .ok (.iload_n 3, 1) := dk_29 (dk_at dksX0_road_3 10 rfl rfl)
theorem dX0_road_83 : decode cX0_road 83 = .ok (.invokespecial 78, 3) := dk_183 0 78 (dk_at dksX0_road_3 11 rfl rfl)
theorem dX0_road_86 : decode cX0_road 86 = .ok (.goto 34, 3) := dk_167 0 34 (dk_at dksX0_road_3 14 rfl rfl)
theorem dX0_road_89 : decode cX0_road 89 = .ok (.iload 4, 2) := dk_21 4 (dk_at dksX0_road_3 17 rfl rfl)
theorem dX0_road_91 : decode cX0_road 91 = .ok (.iconst 1, 1) := dk_4 (dk_at dksX0_road_3 19 rfl rfl)
theorem dX0_road_92 : decode cX0_road 92 = .ok (.if_icmp .ne 17, 3) := dk_160 0 17 (dk_at dksX0_road_3 20 rfl rfl)
theorem dX0_road_95 : decode cX0_road 95 = .ok (.new 81, 3) := dk_187 0 81 (dk_at dksX0_road_4 0 rfl rfl)
theorem dX0_road_98 : decode cX0_road 98 = .ok (.dup, 1) := dk_89 (dk_at dksX0_road_4 3 rfl rfl)
theorem dX0_road_99 : decode cX0_road 99 = .ok (.aload_n 0, 1) := dk_42 (dk_at dksX0_road_4 4 rfl rfl)
theorem dX0_road_100 : decode cX0_road 100 = .ok (.iload_n 1, 1) := dk_27 (dk_at dksX0_road_4 5 rfl rfl)
theorem dX0_road_101 : decode cX0_road 101 = .ok (.iload_n 2, 1) := dk_28 (dk_at dksX0_road_4 6 rfl rfl)
theorem dX0_road_102 : decode cX0_road 102 = .ok (.iload_n 3, 1) := dk_29 (dk_at dksX0_road_4 7 rfl rfl)
theorem dX0_road_103 : decode cX0_road 103 = .ok (.invokespecial 83, 3) := dk_183 0 83 (dk_at dksX0_road_4 8 rfl rfl)
theorem dX0_road_106 : decode cX0_road 106 = .ok (.goto 14, 3) := dk_167 0 14 (dk_at dksX0_road_4 11 rfl rfl)
theorem dX0_road_109 : decode cX0_road 109 = .ok (.new 84, 3) := dk_187 0 84 (dk_at dksX0_road_4 14 rfl rfl)
theorem dX0_road_112 : decode cX0_road 112 = .ok (.dup, 1) := dk_89 (dk_at dksX0_road_4 17 rfl rfl)
theorem dX0_road_113 : decode cX0_road 113 = .ok (.aload_n 0, 1) := dk_42 (dk_at dksX0_road_4 18 rfl rfl)
theorem dX0_road_114 : decode cX0_road 114 = .ok (.iload_n 1, 1) := dk_27 (dk_at dksX0_road_4 19 rfl rfl)
theorem dX0_road_115 : decode cX0_road 115 = .ok (.iload_n 2, 1) := dk_28 (dk_at dksX0_road_4 20 rfl rfl)
theorem dX0_road_116 : decode cX0_road 116 = .ok (.iload_n 3, 1) := dk_29 (dk_at dksX0_road_4 21 rfl rfl)
theorem dX0_road_117 : decode cX0_road 117 = .ok (.invokespecial 86, 3) := dk_183 0 86 (dk_at dksX0_road_5 0 rfl rfl)
theorem dX0_road_120 : decode cX0_road 120 = .ok (.invokeinterface 87 2, 5) := by decide +kernel
theorem dX0_road_125 : decode cX0_road 125 = .ok (.pop, 1) := dk_87 (dk_at dksX0_road_5 8 rfl rfl)
theorem dX0_road_126 : decode cX0_road 126 = .ok (.aload_n 0, 1) := dk_42 (dk_at dksX0_road_5 9 rfl rfl)
theorem dX0_road_127 : decode cX0_road 127 = .ok (.getfield 12, 3) := dk_180 0 12 (dk_at dksX0_road_5 10 rfl rfl)
theorem dX0_road_130 : decode cX0_road 130 = .ok (.invokeinterface 56 1, 5) := by decide +kernel
theorem dX0_road_135 : decode cX0_road 135 = .ok (.iconst 1, 1) := dk_4 (dk_at dksX0_road_5 18 rfl rfl)
theorem dX0_road_136 : decode cX0_road 136 = .ok (.isub, 1) := dk_100 (dk_at dksX0_road_5 19 rfl rfl)
theorem dX0_road_137 : decode cX0_road 137 = .ok (.ireturn, 1) := dk_172 (dk_at dksX0_road_5 20 rfl rfl)
abbrev cX0_isSpot : ByteArray := prog_1_method_7_code
def yX0_isSpot : MethodName := ⟨RX0, "isSpot", "(I)Z"⟩
def dkwX0_isSpot_0 : List UInt8 := [26, 133, 9, 20, 0, 66, 184, 0, 62, 172]
abbrev dktX0_isSpot_0 : List UInt8 := dkwX0_isSpot_0 ++ []
theorem dksX0_isSpot_0 : cX0_isSpot.data.toList.drop 0 = dktX0_isSpot_0 := by decide +kernel
theorem dX0_isSpot_0 : decode cX0_isSpot 0 = .ok (.iload_n 0, 1) := dk_26 (dk_at dksX0_isSpot_0 0 rfl rfl)
theorem dX0_isSpot_1 : decode cX0_isSpot 1 = .ok (.i2l, 1) := dk_133 (dk_at dksX0_isSpot_0 1 rfl rfl)
theorem dX0_isSpot_2 : decode cX0_isSpot 2 = .ok (.lconst 0, 1) := dk_9 (dk_at dksX0_isSpot_0 2 rfl rfl)
theorem dX0_isSpot_3 : decode cX0_isSpot 3 = .ok (.ldc2_w 66, 3) := dk_20 0 66 (dk_at dksX0_isSpot_0 3 rfl rfl)
theorem dX0_isSpot_6 : decode cX0_isSpot 6 = .ok (.invokestatic 62, 3) := dk_184 0 62 (dk_at dksX0_isSpot_0 6 rfl rfl)
theorem dX0_isSpot_9 : decode cX0_isSpot 9 = .ok (.ireturn, 1) := dk_172 (dk_at dksX0_isSpot_0 9 rfl rfl)
abbrev cX0_isIn : ByteArray := prog_1_method_2_code
def yX0_isIn : MethodName := ⟨RX0, "isIn", "(JJJ)Z"⟩
def dkwX0_isIn_0 : List UInt8 := [30, 32, 148, 155, 0, 14, 30, 22, 4, 148, 157, 0, 7, 4, 167, 0, 4, 3, 172]
abbrev dktX0_isIn_0 : List UInt8 := dkwX0_isIn_0 ++ []
theorem dksX0_isIn_0 : cX0_isIn.data.toList.drop 0 = dktX0_isIn_0 := by decide +kernel
theorem dX0_isIn_0 : decode cX0_isIn 0 = .ok (.lload_n 0, 1) := dk_30 (dk_at dksX0_isIn_0 0 rfl rfl)
theorem dX0_isIn_1 : decode cX0_isIn 1 = .ok (.lload_n 2, 1) := dk_32 (dk_at dksX0_isIn_0 1 rfl rfl)
theorem dX0_isIn_2 : decode cX0_isIn 2 = .ok (.lcmp, 1) := dk_148 (dk_at dksX0_isIn_0 2 rfl rfl)
theorem dX0_isIn_3 : decode cX0_isIn 3 = .ok (.ifCond .lt 14, 3) := dk_155 0 14 (dk_at dksX0_isIn_0 3 rfl rfl)
theorem dX0_isIn_6 : decode cX0_isIn 6 = .ok (.lload_n 0, 1) := dk_30 (dk_at dksX0_isIn_0 6 rfl rfl)
theorem dX0_isIn_7 : decode cX0_isIn 7 = .ok (.lload 4, 2) := dk_22 4 (dk_at dksX0_isIn_0 7 rfl rfl)
theorem dX0_isIn_9 : decode cX0_isIn 9 = .ok (.lcmp, 1) := dk_148 (dk_at dksX0_isIn_0 9 rfl rfl)
theorem dX0_isIn_10 : decode cX0_isIn 10 = .ok (.ifCond .gt 7, 3) := dk_157 0 7 (dk_at dksX0_isIn_0 10 rfl rfl)
theorem dX0_isIn_13 : decode cX0_isIn 13 = .ok (.iconst 1, 1) := dk_4 (dk_at dksX0_isIn_0 13 rfl rfl)
theorem dX0_isIn_14 : decode cX0_isIn 14 = .ok (.goto 4, 3) := dk_167 0 4 (dk_at dksX0_isIn_0 14 rfl rfl)
theorem dX0_isIn_17 : decode cX0_isIn 17 = .ok (.iconst 0, 1) := dk_3 (dk_at dksX0_isIn_0 17 rfl rfl)
theorem dX0_isIn_18 : decode cX0_isIn 18 = .ok (.ireturn, 1) := dk_172 (dk_at dksX0_isIn_0 18 rfl rfl)
abbrev cX0_shut : ByteArray := prog_1_method_9_code
def yX0_shut : MethodName := ⟨RX0, "shut", "(IZ)I"⟩
def dkwX0_shut_1 : List UInt8 := [45, 180, 0, 98, 28, 160, 0, 7, 3, 167, 0, 4, 4, 54, 4, 45, 28, 181, 0, 98, 21, 4, 172]
abbrev dktX0_shut_1 : List UInt8 := dkwX0_shut_1 ++ []
def dkwX0_shut_0 : List UInt8 := [42, 27, 182, 0, 91, 154, 0, 5, 2, 172, 42, 180, 0, 12, 27, 185, 0, 94, 2, 0, 192, 0, 76, 78]
abbrev dktX0_shut_0 : List UInt8 := dkwX0_shut_0 ++ dktX0_shut_1
theorem dksX0_shut_0 : cX0_shut.data.toList.drop 0 = dktX0_shut_0 := by decide +kernel
theorem dksX0_shut_1 : cX0_shut.data.toList.drop 24 = dktX0_shut_1 := dk_seg dksX0_shut_0 24 rfl rfl
theorem dX0_shut_0 : decode cX0_shut 0 = .ok (.aload_n 0, 1) := dk_42 (dk_at dksX0_shut_0 0 rfl rfl)
theorem dX0_shut_1 : decode cX0_shut 1 = .ok (.iload_n 1, 1) := dk_27 (dk_at dksX0_shut_0 1 rfl rfl)
theorem dX0_shut_2 : decode cX0_shut 2 = .ok (.invokevirtual 91, 3) := dk_182 0 91 (dk_at dksX0_shut_0 2 rfl rfl)
theorem dX0_shut_5 : decode cX0_shut 5 = .ok (.ifCond .ne 5, 3) := dk_154 0 5 (dk_at dksX0_shut_0 5 rfl rfl)
theorem dX0_shut_8 : decode cX0_shut 8 = .ok (.iconst (-1), 1) := dk_2 (dk_at dksX0_shut_0 8 rfl rfl)
theorem dX0_shut_9 : decode cX0_shut 9 = .ok (.ireturn, 1) := dk_172 (dk_at dksX0_shut_0 9 rfl rfl)
theorem dX0_shut_10 : decode cX0_shut 10 = .ok (.aload_n 0, 1) := dk_42 (dk_at dksX0_shut_0 10 rfl rfl)
theorem dX0_shut_11 : decode cX0_shut 11 = .ok (.getfield 12, 3) := dk_180 0 12 (dk_at dksX0_shut_0 11 rfl rfl)
theorem dX0_shut_14 : decode cX0_shut 14 = .ok (.iload_n 1, 1) := dk_27 (dk_at dksX0_shut_0 14 rfl rfl)
theorem dX0_shut_15 : decode cX0_shut 15 = .ok (.invokeinterface 94 2, 5) := by decide +kernel
theorem dX0_shut_20 : decode cX0_shut 20 = .ok (.checkcast 76, 3) := dk_192 0 76 (dk_at dksX0_shut_0 20 rfl rfl)
theorem dX0_shut_23 : decode cX0_shut 23 = .ok (.astore_n 3, 1) := dk_78 (dk_at dksX0_shut_0 23 rfl rfl)
theorem dX0_shut_24 : decode cX0_shut 24 = .ok (.aload_n 3, 1) := dk_45 (dk_at dksX0_shut_1 0 rfl rfl)
theorem dX0_shut_25 : decode cX0_shut 25 = .ok (.getfield 98, 3) := dk_180 0 98 (dk_at dksX0_shut_1 1 rfl rfl)
theorem dX0_shut_28 : decode cX0_shut 28 = .ok (.iload_n 2, 1) := dk_28 (dk_at dksX0_shut_1 4 rfl rfl)
theorem dX0_shut_29 : decode cX0_shut 29 = .ok (.if_icmp .ne 7, 3) := dk_160 0 7 (dk_at dksX0_shut_1 5 rfl rfl)
theorem dX0_shut_32 : decode cX0_shut 32 = .ok (.iconst 0, 1) := dk_3 (dk_at dksX0_shut_1 8 rfl rfl)
theorem dX0_shut_33 : decode cX0_shut 33 = .ok (.goto 4, 3) := dk_167 0 4 (dk_at dksX0_shut_1 9 rfl rfl)
theorem dX0_shut_36 : decode cX0_shut 36 = .ok (.iconst 1, 1) := dk_4 (dk_at dksX0_shut_1 12 rfl rfl)
theorem dX0_shut_37 : decode cX0_shut 37 = .ok (.istore 4, 2) := dk_54 4 (dk_at dksX0_shut_1 13 rfl rfl)
theorem dX0_shut_39 : decode cX0_shut 39 = .ok (.aload_n 3, 1) := dk_45 (dk_at dksX0_shut_1 15 rfl rfl)
theorem dX0_shut_40 : decode cX0_shut 40 = .ok (.iload_n 2, 1) := dk_28 (dk_at dksX0_shut_1 16 rfl rfl)
theorem dX0_shut_41 : decode cX0_shut 41 = .ok (.putfield 98, 3) := dk_181 0 98 (dk_at dksX0_shut_1 17 rfl rfl)
theorem dX0_shut_44 : decode cX0_shut 44 = .ok (.iload 4, 2) := dk_21 4 (dk_at dksX0_shut_1 20 rfl rfl)
theorem dX0_shut_46 : decode cX0_shut 46 = .ok (.ireturn, 1) := dk_172 (dk_at dksX0_shut_1 22 rfl rfl)
abbrev cX0_isRoad : ByteArray := prog_1_method_6_code
def yX0_isRoad : MethodName := ⟨RX0, "isRoad", "(I)Z"⟩
def dkwX0_isRoad_0 : List UInt8 := [27, 133, 9, 42, 180, 0, 12, 185, 0, 56, 1, 0, 133, 10, 101, 184, 0, 62, 172]
abbrev dktX0_isRoad_0 : List UInt8 := dkwX0_isRoad_0 ++ []
theorem dksX0_isRoad_0 : cX0_isRoad.data.toList.drop 0 = dktX0_isRoad_0 := by decide +kernel
theorem dX0_isRoad_0 : decode cX0_isRoad 0 = .ok (.iload_n 1, 1) := dk_27 (dk_at dksX0_isRoad_0 0 rfl rfl)
theorem dX0_isRoad_1 : decode cX0_isRoad 1 = .ok (.i2l, 1) := dk_133 (dk_at dksX0_isRoad_0 1 rfl rfl)
theorem dX0_isRoad_2 : decode cX0_isRoad 2 = .ok (.lconst 0, 1) := dk_9 (dk_at dksX0_isRoad_0 2 rfl rfl)
theorem dX0_isRoad_3 : decode cX0_isRoad 3 = .ok (.aload_n 0, 1) := dk_42 (dk_at dksX0_isRoad_0 3 rfl rfl)
theorem dX0_isRoad_4 : decode cX0_isRoad 4 = .ok (.getfield 12, 3) := dk_180 0 12 (dk_at dksX0_isRoad_0 4 rfl rfl)
theorem dX0_isRoad_7 : decode cX0_isRoad 7 = .ok (.invokeinterface 56 1, 5) := by decide +kernel
theorem dX0_isRoad_12 : decode cX0_isRoad 12 = .ok (.i2l, 1) := dk_133 (dk_at dksX0_isRoad_0 12 rfl rfl)
theorem dX0_isRoad_13 : decode cX0_isRoad 13 = .ok (.lconst 1, 1) := dk_10 (dk_at dksX0_isRoad_0 13 rfl rfl)
theorem dX0_isRoad_14 : decode cX0_isRoad 14 = .ok (.lsub, 1) := dk_101 (dk_at dksX0_isRoad_0 14 rfl rfl)
theorem dX0_isRoad_15 : decode cX0_isRoad 15 = .ok (.invokestatic 62, 3) := dk_184 0 62 (dk_at dksX0_isRoad_0 15 rfl rfl)
theorem dX0_isRoad_18 : decode cX0_isRoad 18 = .ok (.ireturn, 1) := dk_172 (dk_at dksX0_isRoad_0 18 rfl rfl)
abbrev cX0_wet : ByteArray := prog_1_method_10_code
def yX0_wet : MethodName := ⟨RX0, "wet", "(IZ)I"⟩
def dkwX0_wet_2 : List UInt8 := [45, 28, 181, 0, 102, 21, 4, 172, 78, 42, 5, 182, 0, 107, 172]
abbrev dktX0_wet_2 : List UInt8 := dkwX0_wet_2 ++ []
def dkwX0_wet_1 : List UInt8 := [185, 0, 94, 2, 0, 192, 0, 84, 78, 45, 180, 0, 102, 28, 160, 0, 7, 3, 167, 0, 4, 4, 54, 4]
abbrev dktX0_wet_1 : List UInt8 := dkwX0_wet_1 ++ dktX0_wet_2
def dkwX0_wet_0 : List UInt8 := [42, 3, 181, 0, 47, 42, 27, 182, 0, 91, 154, 0, 5, 2, 172, 42, 180, 0, 12, 27]
abbrev dktX0_wet_0 : List UInt8 := dkwX0_wet_0 ++ dktX0_wet_1
theorem dksX0_wet_0 : cX0_wet.data.toList.drop 0 = dktX0_wet_0 := by decide +kernel
theorem dksX0_wet_1 : cX0_wet.data.toList.drop 20 = dktX0_wet_1 := dk_seg dksX0_wet_0 20 rfl rfl
theorem dksX0_wet_2 : cX0_wet.data.toList.drop 44 = dktX0_wet_2 := dk_seg dksX0_wet_1 24 rfl rfl
theorem dX0_wet_0 : decode cX0_wet 0 = .ok (.aload_n 0, 1) := dk_42 (dk_at dksX0_wet_0 0 rfl rfl)
theorem dX0_wet_1 : decode cX0_wet 1 = .ok (.iconst 0, 1) := dk_3 (dk_at dksX0_wet_0 1 rfl rfl)
theorem dX0_wet_2 : decode cX0_wet 2 = .ok (.putfield 47, 3) := dk_181 0 47 (dk_at dksX0_wet_0 2 rfl rfl)
theorem dX0_wet_5 : decode cX0_wet 5 = .ok (.aload_n 0, 1) := dk_42 (dk_at dksX0_wet_0 5 rfl rfl)
theorem dX0_wet_6 : decode cX0_wet 6 = .ok (.iload_n 1, 1) := dk_27 (dk_at dksX0_wet_0 6 rfl rfl)
theorem dX0_wet_7 : decode cX0_wet 7 = .ok (.invokevirtual 91, 3) := dk_182 0 91 (dk_at dksX0_wet_0 7 rfl rfl)
theorem dX0_wet_10 : decode cX0_wet 10 = .ok (.ifCond .ne 5, 3) := dk_154 0 5 (dk_at dksX0_wet_0 10 rfl rfl)
theorem dX0_wet_13 : decode cX0_wet 13 = .ok (.iconst (-1), 1) := dk_2 (dk_at dksX0_wet_0 13 rfl rfl)
theorem dX0_wet_14 : decode cX0_wet 14 = .ok (.ireturn, 1) := dk_172 (dk_at dksX0_wet_0 14 rfl rfl)
theorem dX0_wet_15 : decode cX0_wet 15 = .ok (.aload_n 0, 1) := dk_42 (dk_at dksX0_wet_0 15 rfl rfl)
theorem dX0_wet_16 : decode cX0_wet 16 = .ok (.getfield 12, 3) := dk_180 0 12 (dk_at dksX0_wet_0 16 rfl rfl)
theorem dX0_wet_19 : decode cX0_wet 19 = .ok (.iload_n 1, 1) := dk_27 (dk_at dksX0_wet_0 19 rfl rfl)
theorem dX0_wet_20 : decode cX0_wet 20 = .ok (.invokeinterface 94 2, 5) := by decide +kernel
theorem dX0_wet_25 : decode cX0_wet 25 = .ok (.checkcast 84, 3) := dk_192 0 84 (dk_at dksX0_wet_1 5 rfl rfl)
theorem dX0_wet_28 : decode cX0_wet 28 = .ok (.astore_n 3, 1) := dk_78 (dk_at dksX0_wet_1 8 rfl rfl)
theorem dX0_wet_29 : decode cX0_wet 29 = .ok (.aload_n 3, 1) := dk_45 (dk_at dksX0_wet_1 9 rfl rfl)
theorem dX0_wet_30 : decode cX0_wet 30 = .ok (.getfield 102, 3) := dk_180 0 102 (dk_at dksX0_wet_1 10 rfl rfl)
theorem dX0_wet_33 : decode cX0_wet 33 = .ok (.iload_n 2, 1) := dk_28 (dk_at dksX0_wet_1 13 rfl rfl)
theorem dX0_wet_34 : decode cX0_wet 34 = .ok (.if_icmp .ne 7, 3) := dk_160 0 7 (dk_at dksX0_wet_1 14 rfl rfl)
theorem dX0_wet_37 : decode cX0_wet 37 = .ok (.iconst 0, 1) := dk_3 (dk_at dksX0_wet_1 17 rfl rfl)
theorem dX0_wet_38 : decode cX0_wet 38 = .ok (.goto 4, 3) := dk_167 0 4 (dk_at dksX0_wet_1 18 rfl rfl)
theorem dX0_wet_41 : decode cX0_wet 41 = .ok (.iconst 1, 1) := dk_4 (dk_at dksX0_wet_1 21 rfl rfl)
theorem dX0_wet_42 : decode cX0_wet 42 = .ok (.istore 4, 2) := dk_54 4 (dk_at dksX0_wet_1 22 rfl rfl)
theorem dX0_wet_44 : decode cX0_wet 44 = .ok (.aload_n 3, 1) := dk_45 (dk_at dksX0_wet_2 0 rfl rfl)
theorem dX0_wet_45 : decode cX0_wet 45 = .ok (.iload_n 2, 1) := dk_28 (dk_at dksX0_wet_2 1 rfl rfl)
theorem dX0_wet_46 : decode cX0_wet 46 = .ok (.putfield 102, 3) := dk_181 0 102 (dk_at dksX0_wet_2 2 rfl rfl)
theorem dX0_wet_49 : decode cX0_wet 49 = .ok (.iload 4, 2) := dk_21 4 (dk_at dksX0_wet_2 5 rfl rfl)
theorem dX0_wet_51 : decode cX0_wet 51 = .ok (.ireturn, 1) := dk_172 (dk_at dksX0_wet_2 7 rfl rfl)
theorem dX0_wet_52 : decode cX0_wet 52 = .ok (.astore_n 3, 1) := dk_78 (dk_at dksX0_wet_2 8 rfl rfl)
theorem dX0_wet_53 : decode cX0_wet 53 = .ok (.aload_n 0, 1) := dk_42 (dk_at dksX0_wet_2 9 rfl rfl)
theorem dX0_wet_54 : decode cX0_wet 54 = .ok (.iconst 2, 1) := dk_5 (dk_at dksX0_wet_2 10 rfl rfl)
theorem dX0_wet_55 : decode cX0_wet 55 = .ok (.invokevirtual 107, 3) := dk_182 0 107 (dk_at dksX0_wet_2 11 rfl rfl)
theorem dX0_wet_58 : decode cX0_wet 58 = .ok (.ireturn, 1) := dk_172 (dk_at dksX0_wet_2 14 rfl rfl)
abbrev cX0_faulty : ByteArray := prog_1_method_3_code
def yX0_faulty : MethodName := ⟨RX0, "faulty", "(I)I"⟩
def dkwX0_faulty_0 : List UInt8 := [42, 27, 181, 0, 47, 16, 246, 27, 100, 172]
abbrev dktX0_faulty_0 : List UInt8 := dkwX0_faulty_0 ++ []
theorem dksX0_faulty_0 : cX0_faulty.data.toList.drop 0 = dktX0_faulty_0 := by decide +kernel
theorem dX0_faulty_0 : decode cX0_faulty 0 = .ok (.aload_n 0, 1) := dk_42 (dk_at dksX0_faulty_0 0 rfl rfl)
theorem dX0_faulty_1 : decode cX0_faulty 1 = .ok (.iload_n 1, 1) := dk_27 (dk_at dksX0_faulty_0 1 rfl rfl)
theorem dX0_faulty_2 : decode cX0_faulty 2 = .ok (.putfield 47, 3) := dk_181 0 47 (dk_at dksX0_faulty_0 2 rfl rfl)
theorem dX0_faulty_5 : decode cX0_faulty 5 = .ok (.bipush (-10), 2) := dk_16 246 (dk_at dksX0_faulty_0 5 rfl rfl)
theorem dX0_faulty_7 : decode cX0_faulty 7 = .ok (.iload_n 1, 1) := dk_27 (dk_at dksX0_faulty_0 7 rfl rfl)
theorem dX0_faulty_8 : decode cX0_faulty 8 = .ok (.isub, 1) := dk_100 (dk_at dksX0_faulty_0 8 rfl rfl)
theorem dX0_faulty_9 : decode cX0_faulty 9 = .ok (.ireturn, 1) := dk_172 (dk_at dksX0_faulty_0 9 rfl rfl)
abbrev cX0_about : ByteArray := prog_1_method_11_code
def yX0_about : MethodName := ⟨RX0, "about", "(II)I"⟩
def dkwX0_about_6 : List UInt8 := [172]
abbrev dktX0_about_6 : List UInt8 := dkwX0_about_6 ++ []
def dkwX0_about_5 : List UInt8 := [180, 0, 28, 21, 4, 46, 27, 160, 0, 6, 21, 4, 172, 132, 4, 1, 167, 255, 230, 16, 247, 172, 16, 254]
abbrev dktX0_about_5 : List UInt8 := dkwX0_about_5 ++ dktX0_about_6
def dkwX0_about_4 : List UInt8 := [153, 0, 7, 3, 167, 0, 4, 4, 172, 3, 54, 4, 21, 4, 42, 180, 0, 127, 162, 0, 23, 42]
abbrev dktX0_about_4 : List UInt8 := dkwX0_about_4 ++ dktX0_about_5
def dkwX0_about_3 : List UInt8 := [45, 180, 0, 111, 172, 45, 180, 0, 114, 172, 45, 180, 0, 117, 172, 45, 182, 0, 120, 172, 45, 182, 0, 123]
abbrev dktX0_about_3 : List UInt8 := dkwX0_about_3 ++ dktX0_about_4
def dkwX0_about_2 : List UInt8 := [170, 0, 0, 0, 0, 0, 107, 0, 0, 0, 0, 0, 0, 0, 5, 0, 0, 0, 39, 0, 0, 0, 44, 0, 0, 0, 49, 0, 0, 0, 54, 0, 0, 0, 59, 0, 0, 0, 72]
abbrev dktX0_about_2 : List UInt8 := dkwX0_about_2 ++ dktX0_about_3
def dkwX0_about_1 : List UInt8 := [28]
abbrev dktX0_about_1 : List UInt8 := dkwX0_about_1 ++ dktX0_about_2
def dkwX0_about_0 : List UInt8 := [42, 27, 182, 0, 91, 154, 0, 5, 2, 172, 42, 180, 0, 12, 27, 185, 0, 94, 2, 0, 192, 0, 76, 78]
abbrev dktX0_about_0 : List UInt8 := dkwX0_about_0 ++ dktX0_about_1
theorem dksX0_about_0 : cX0_about.data.toList.drop 0 = dktX0_about_0 := by decide +kernel
theorem dksX0_about_1 : cX0_about.data.toList.drop 24 = dktX0_about_1 := dk_seg dksX0_about_0 24 rfl rfl
theorem dksX0_about_2 : cX0_about.data.toList.drop 25 = dktX0_about_2 := dk_seg dksX0_about_1 1 rfl rfl
theorem dksX0_about_3 : cX0_about.data.toList.drop 64 = dktX0_about_3 := dk_seg dksX0_about_2 39 rfl rfl
theorem dksX0_about_4 : cX0_about.data.toList.drop 88 = dktX0_about_4 := dk_seg dksX0_about_3 24 rfl rfl
theorem dksX0_about_5 : cX0_about.data.toList.drop 110 = dktX0_about_5 := dk_seg dksX0_about_4 22 rfl rfl
theorem dksX0_about_6 : cX0_about.data.toList.drop 134 = dktX0_about_6 := dk_seg dksX0_about_5 24 rfl rfl
theorem dX0_about_0 : decode cX0_about 0 = .ok (.aload_n 0, 1) := dk_42 (dk_at dksX0_about_0 0 rfl rfl)
theorem dX0_about_1 : decode cX0_about 1 = .ok (.iload_n 1, 1) := dk_27 (dk_at dksX0_about_0 1 rfl rfl)
theorem dX0_about_2 : decode cX0_about 2 = .ok (.invokevirtual 91, 3) := dk_182 0 91 (dk_at dksX0_about_0 2 rfl rfl)
theorem dX0_about_5 : decode cX0_about 5 = .ok (.ifCond .ne 5, 3) := dk_154 0 5 (dk_at dksX0_about_0 5 rfl rfl)
theorem dX0_about_8 : decode cX0_about 8 = .ok (.iconst (-1), 1) := dk_2 (dk_at dksX0_about_0 8 rfl rfl)
theorem dX0_about_9 : decode cX0_about 9 = .ok (.ireturn, 1) := dk_172 (dk_at dksX0_about_0 9 rfl rfl)
theorem dX0_about_10 : decode cX0_about 10 = .ok (.aload_n 0, 1) := dk_42 (dk_at dksX0_about_0 10 rfl rfl)
theorem dX0_about_11 : decode cX0_about 11 = .ok (.getfield 12, 3) := dk_180 0 12 (dk_at dksX0_about_0 11 rfl rfl)
theorem dX0_about_14 : decode cX0_about 14 = .ok (.iload_n 1, 1) := dk_27 (dk_at dksX0_about_0 14 rfl rfl)
theorem dX0_about_15 : decode cX0_about 15 = .ok (.invokeinterface 94 2, 5) := by decide +kernel
theorem dX0_about_20 : decode cX0_about 20 = .ok (.checkcast 76, 3) := dk_192 0 76 (dk_at dksX0_about_0 20 rfl rfl)
theorem dX0_about_23 : decode cX0_about 23 = .ok (.astore_n 3, 1) := dk_78 (dk_at dksX0_about_0 23 rfl rfl)
theorem dX0_about_24 : decode cX0_about 24 = .ok (.iload_n 2, 1) := dk_28 (dk_at dksX0_about_1 0 rfl rfl)
theorem dX0_about_25 : decode cX0_about 25 = .ok (.tableswitch 107 0 5 #[39, 44, 49, 54, 59, 72], 39) := by decide +kernel
theorem dX0_about_64 : decode cX0_about 64 = .ok (.aload_n 3, 1) := dk_45 (dk_at dksX0_about_3 0 rfl rfl)
theorem dX0_about_65 : decode cX0_about 65 = .ok (.getfield 111, 3) := dk_180 0 111 (dk_at dksX0_about_3 1 rfl rfl)
theorem dX0_about_68 : decode cX0_about 68 = .ok (.ireturn, 1) := dk_172 (dk_at dksX0_about_3 4 rfl rfl)
theorem dX0_about_69 : decode cX0_about 69 = .ok (.aload_n 3, 1) := dk_45 (dk_at dksX0_about_3 5 rfl rfl)
theorem dX0_about_70 : decode cX0_about 70 = .ok (.getfield 114, 3) := dk_180 0 114 (dk_at dksX0_about_3 6 rfl rfl)
theorem dX0_about_73 : decode cX0_about 73 = .ok (.ireturn, 1) := dk_172 (dk_at dksX0_about_3 9 rfl rfl)
theorem dX0_about_74 : decode cX0_about 74 = .ok (.aload_n 3, 1) := dk_45 (dk_at dksX0_about_3 10 rfl rfl)
theorem dX0_about_75 : decode cX0_about 75 = .ok (.getfield 117, 3) := dk_180 0 117 (dk_at dksX0_about_3 11 rfl rfl)
theorem dX0_about_78 : decode cX0_about 78 = .ok (.ireturn, 1) := dk_172 (dk_at dksX0_about_3 14 rfl rfl)
theorem dX0_about_79 : decode cX0_about 79 = .ok (.aload_n 3, 1) := dk_45 (dk_at dksX0_about_3 15 rfl rfl)
theorem dX0_about_80 : decode cX0_about 80 = .ok (.invokevirtual 120, 3) := dk_182 0 120 (dk_at dksX0_about_3 16 rfl rfl)
theorem dX0_about_83 : decode cX0_about 83 = .ok (.ireturn, 1) := dk_172 (dk_at dksX0_about_3 19 rfl rfl)
theorem dX0_about_84 : decode cX0_about 84 = .ok (.aload_n 3, 1) := dk_45 (dk_at dksX0_about_3 20 rfl rfl)
theorem dX0_about_85 : decode cX0_about 85 = .ok (.invokevirtual 123, 3) := dk_182 0 123 (dk_at dksX0_about_3 21 rfl rfl)
theorem dX0_about_88 : decode cX0_about 88 = .ok (.ifCond .eq 7, 3) := dk_153 0 7 (dk_at dksX0_about_4 0 rfl rfl)
theorem dX0_about_91 : decode cX0_about 91 = .ok (.iconst 0, 1) := dk_3 (dk_at dksX0_about_4 3 rfl rfl)
theorem dX0_about_92 : decode cX0_about 92 = .ok (.goto 4, 3) := dk_167 0 4 (dk_at dksX0_about_4 4 rfl rfl)
theorem dX0_about_95 : decode cX0_about 95 = .ok (.iconst 1, 1) := dk_4 (dk_at dksX0_about_4 7 rfl rfl)
theorem dX0_about_96 : decode cX0_about 96 = .ok (.ireturn, 1) := dk_172 (dk_at dksX0_about_4 8 rfl rfl)
theorem dX0_about_97 : decode cX0_about 97 = .ok (.iconst 0, 1) := dk_3 (dk_at dksX0_about_4 9 rfl rfl)
theorem dX0_about_98 : decode cX0_about 98 = .ok (.istore 4, 2) := dk_54 4 (dk_at dksX0_about_4 10 rfl rfl)
theorem dX0_about_100 : decode cX0_about 100 = .ok (.iload 4, 2) := dk_21 4 (dk_at dksX0_about_4 12 rfl rfl)
theorem dX0_about_102 : decode cX0_about 102 = .ok (.aload_n 0, 1) := dk_42 (dk_at dksX0_about_4 14 rfl rfl)
theorem dX0_about_103 : decode cX0_about 103 = .ok (.getfield 127, 3) := dk_180 0 127 (dk_at dksX0_about_4 15 rfl rfl)
theorem dX0_about_106 : decode cX0_about 106 = .ok (.if_icmp .ge 23, 3) := dk_162 0 23 (dk_at dksX0_about_4 18 rfl rfl)
theorem dX0_about_109 : decode cX0_about 109 = .ok (.aload_n 0, 1) := dk_42 (dk_at dksX0_about_4 21 rfl rfl)
theorem dX0_about_110 : decode cX0_about 110 = .ok (.getfield 28, 3) := dk_180 0 28 (dk_at dksX0_about_5 0 rfl rfl)
theorem dX0_about_113 : decode cX0_about 113 = .ok (.iload 4, 2) := dk_21 4 (dk_at dksX0_about_5 3 rfl rfl)
theorem dX0_about_115 : decode cX0_about 115 = .ok (.iaload, 1) := dk_46 (dk_at dksX0_about_5 5 rfl rfl)
theorem dX0_about_116 : decode cX0_about 116 = .ok (.iload_n 1, 1) := dk_27 (dk_at dksX0_about_5 6 rfl rfl)
theorem dX0_about_117 : decode cX0_about 117 = .ok (.if_icmp .ne 6, 3) := dk_160 0 6 (dk_at dksX0_about_5 7 rfl rfl)
theorem dX0_about_120 : decode cX0_about 120 = .ok (.iload 4, 2) := dk_21 4 (dk_at dksX0_about_5 10 rfl rfl)
theorem dX0_about_122 : decode cX0_about 122 = .ok (.ireturn, 1) := dk_172 (dk_at dksX0_about_5 12 rfl rfl)
theorem dX0_about_123 : decode cX0_about 123 = .ok (.iinc 4 1, 3) := dk_132 4 1 (dk_at dksX0_about_5 13 rfl rfl)
theorem dX0_about_126 : decode cX0_about 126 = .ok (.goto (-26), 3) := dk_167 255 230 (dk_at dksX0_about_5 16 rfl rfl)
theorem dX0_about_129 : decode cX0_about 129 = .ok (.bipush (-9), 2) := dk_16 247 (dk_at dksX0_about_5 19 rfl rfl)
theorem dX0_about_131 : decode cX0_about 131 = .ok (.ireturn, 1) := dk_172 (dk_at dksX0_about_5 21 rfl rfl)
theorem dX0_about_132 : decode cX0_about 132 = .ok (.bipush (-2), 2) := dk_16 254 (dk_at dksX0_about_5 22 rfl rfl)
theorem dX0_about_134 : decode cX0_about 134 = .ok (.ireturn, 1) := dk_172 (dk_at dksX0_about_6 0 rfl rfl)
abbrev cX0_ways : ByteArray := prog_1_method_15_code
def yX0_ways : MethodName := ⟨RX0, "ways", "()I"⟩
def dkwX0_ways_0 : List UInt8 := [42, 180, 0, 130, 154, 0, 6, 16, 253, 172, 42, 182, 0, 167, 42, 180, 0, 140, 172, 76, 16, 250, 172]
abbrev dktX0_ways_0 : List UInt8 := dkwX0_ways_0 ++ []
theorem dksX0_ways_0 : cX0_ways.data.toList.drop 0 = dktX0_ways_0 := by decide +kernel
theorem dX0_ways_0 : decode cX0_ways 0 = .ok (.aload_n 0, 1) := dk_42 (dk_at dksX0_ways_0 0 rfl rfl)
theorem dX0_ways_1 : decode cX0_ways 1 = .ok (.getfield 130, 3) := dk_180 0 130 (dk_at dksX0_ways_0 1 rfl rfl)
theorem dX0_ways_4 : decode cX0_ways 4 = .ok (.ifCond .ne 6, 3) := dk_154 0 6 (dk_at dksX0_ways_0 4 rfl rfl)
theorem dX0_ways_7 : decode cX0_ways 7 = .ok (.bipush (-3), 2) := dk_16 253 (dk_at dksX0_ways_0 7 rfl rfl)
theorem dX0_ways_9 : decode cX0_ways 9 = .ok (.ireturn, 1) := dk_172 (dk_at dksX0_ways_0 9 rfl rfl)
theorem dX0_ways_10 : decode cX0_ways 10 = .ok (.aload_n 0, 1) := dk_42 (dk_at dksX0_ways_0 10 rfl rfl)
theorem dX0_ways_11 : decode cX0_ways 11 = .ok (.invokevirtual 167, 3) := dk_182 0 167 (dk_at dksX0_ways_0 11 rfl rfl)
theorem dX0_ways_14 : decode cX0_ways 14 = .ok (.aload_n 0, 1) := dk_42 (dk_at dksX0_ways_0 14 rfl rfl)
theorem dX0_ways_15 : decode cX0_ways 15 = .ok (.getfield 140, 3) := dk_180 0 140 (dk_at dksX0_ways_0 15 rfl rfl)
theorem dX0_ways_18 : decode cX0_ways 18 = .ok (.ireturn, 1) := dk_172 (dk_at dksX0_ways_0 18 rfl rfl)
theorem dX0_ways_19 : decode cX0_ways 19 = .ok (.astore_n 1, 1) := dk_76 (dk_at dksX0_ways_0 19 rfl rfl)
theorem dX0_ways_20 : decode cX0_ways 20 = .ok (.bipush (-6), 2) := dk_16 250 (dk_at dksX0_ways_0 20 rfl rfl)
theorem dX0_ways_22 : decode cX0_ways 22 = .ok (.ireturn, 1) := dk_172 (dk_at dksX0_ways_0 22 rfl rfl)
abbrev cX0_search : ByteArray := prog_1_method_14_code
def yX0_search : MethodName := ⟨RX0, "search", "()V"⟩
def dkwX0_search_1 : List UInt8 := [180, 0, 18, 3, 46, 4, 3, 3, 9, 182, 0, 163, 177]
abbrev dktX0_search_1 : List UInt8 := dkwX0_search_1 ++ []
def dkwX0_search_0 : List UInt8 := [42, 3, 181, 0, 133, 42, 9, 181, 0, 136, 42, 3, 181, 0, 140, 42, 3, 181, 0, 152, 42, 42]
abbrev dktX0_search_0 : List UInt8 := dkwX0_search_0 ++ dktX0_search_1
theorem dksX0_search_0 : cX0_search.data.toList.drop 0 = dktX0_search_0 := by decide +kernel
theorem dksX0_search_1 : cX0_search.data.toList.drop 22 = dktX0_search_1 := dk_seg dksX0_search_0 22 rfl rfl
theorem dX0_search_0 : decode cX0_search 0 = .ok (.aload_n 0, 1) := dk_42 (dk_at dksX0_search_0 0 rfl rfl)
theorem dX0_search_1 : decode cX0_search 1 = .ok (.iconst 0, 1) := dk_3 (dk_at dksX0_search_0 1 rfl rfl)
theorem dX0_search_2 : decode cX0_search 2 = .ok (.putfield 133, 3) := dk_181 0 133 (dk_at dksX0_search_0 2 rfl rfl)
theorem dX0_search_5 : decode cX0_search 5 = .ok (.aload_n 0, 1) := dk_42 (dk_at dksX0_search_0 5 rfl rfl)
theorem dX0_search_6 : decode cX0_search 6 = .ok (.lconst 0, 1) := dk_9 (dk_at dksX0_search_0 6 rfl rfl)
theorem dX0_search_7 : decode cX0_search 7 = .ok (.putfield 136, 3) := dk_181 0 136 (dk_at dksX0_search_0 7 rfl rfl)
theorem dX0_search_10 : decode cX0_search 10 = .ok (.aload_n 0, 1) := dk_42 (dk_at dksX0_search_0 10 rfl rfl)
theorem dX0_search_11 : decode cX0_search 11 = .ok (.iconst 0, 1) := dk_3 (dk_at dksX0_search_0 11 rfl rfl)
theorem dX0_search_12 : decode cX0_search 12 = .ok (.putfield 140, 3) := dk_181 0 140 (dk_at dksX0_search_0 12 rfl rfl)
theorem dX0_search_15 : decode cX0_search 15 = .ok (.aload_n 0, 1) := dk_42 (dk_at dksX0_search_0 15 rfl rfl)
theorem dX0_search_16 : decode cX0_search 16 = .ok (.iconst 0, 1) := dk_3 (dk_at dksX0_search_0 16 rfl rfl)
theorem dX0_search_17 : decode cX0_search 17 = .ok (.putfield 152, 3) := dk_181 0 152 (dk_at dksX0_search_0 17 rfl rfl)
theorem dX0_search_20 : decode cX0_search 20 = .ok (.aload_n 0, 1) := dk_42 (dk_at dksX0_search_0 20 rfl rfl)
theorem dX0_search_21 : decode cX0_search 21 = .ok (.aload_n 0, 1) := dk_42 (dk_at dksX0_search_0 21 rfl rfl)
theorem dX0_search_22 : decode cX0_search 22 = .ok (.getfield 18, 3) := dk_180 0 18 (dk_at dksX0_search_1 0 rfl rfl)
theorem dX0_search_25 : decode cX0_search 25 = .ok (.iconst 0, 1) := dk_3 (dk_at dksX0_search_1 3 rfl rfl)
theorem dX0_search_26 : decode cX0_search 26 = .ok (.iaload, 1) := dk_46 (dk_at dksX0_search_1 4 rfl rfl)
theorem dX0_search_27 : decode cX0_search 27 = .ok (.iconst 1, 1) := dk_4 (dk_at dksX0_search_1 5 rfl rfl)
theorem dX0_search_28 : decode cX0_search 28 = .ok (.iconst 0, 1) := dk_3 (dk_at dksX0_search_1 6 rfl rfl)
theorem dX0_search_29 : decode cX0_search 29 = .ok (.iconst 0, 1) := dk_3 (dk_at dksX0_search_1 7 rfl rfl)
theorem dX0_search_30 : decode cX0_search 30 = .ok (.lconst 0, 1) := dk_9 (dk_at dksX0_search_1 8 rfl rfl)
theorem dX0_search_31 : decode cX0_search 31 = .ok (.invokevirtual 163, 3) := dk_182 0 163 (dk_at dksX0_search_1 9 rfl rfl)
theorem dX0_search_34 : decode cX0_search 34 = .ok (.return_, 1) := dk_177 (dk_at dksX0_search_1 12 rfl rfl)
abbrev cX0_goOn : ByteArray := prog_1_method_13_code
def yX0_goOn : MethodName := ⟨RX0, "goOn", "(IIIIJ)V"⟩
def dkwX0_goOn_11 : List UInt8 := [167, 255, 103, 177]
abbrev dktX0_goOn_11 : List UInt8 := dkwX0_goOn_11 ++ []
def dkwX0_goOn_10 : List UInt8 := [21, 4, 4, 21, 7, 120, 128, 22, 5, 25, 8, 180, 0, 117, 133, 97, 182, 0, 163, 132, 7, 1]
abbrev dktX0_goOn_10 : List UInt8 := dkwX0_goOn_10 ++ dktX0_goOn_11
def dkwX0_goOn_9 : List UInt8 := [181, 0, 152, 42, 180, 0, 22, 29, 21, 7, 79, 42, 21, 9, 42, 21, 9, 28, 182, 0, 159, 29, 4, 96]
abbrev dktX0_goOn_9 : List UInt8 := dkwX0_goOn_9 ++ dktX0_goOn_10
def dkwX0_goOn_8 : List UInt8 := [180, 0, 152, 18, 155, 160, 0, 11, 187, 0, 156, 89, 183, 0, 158, 191, 42, 89, 180, 0, 152, 4, 96]
abbrev dktX0_goOn_8 : List UInt8 := dkwX0_goOn_8 ++ dktX0_goOn_9
def dkwX0_goOn_7 : List UInt8 := [158, 0, 23, 22, 5, 25, 8, 180, 0, 117, 133, 97, 42, 180, 0, 136, 148, 158, 0, 6, 167, 0, 70, 42]
abbrev dktX0_goOn_7 : List UInt8 := dkwX0_goOn_7 ++ dktX0_goOn_8
def dkwX0_goOn_6 : List UInt8 := [21, 4, 21, 7, 122, 4, 126, 4, 159, 0, 104, 21, 9, 16, 247, 159, 0, 97, 42, 180, 0, 133]
abbrev dktX0_goOn_6 : List UInt8 := dkwX0_goOn_6 ++ dktX0_goOn_7
def dkwX0_goOn_5 : List UInt8 := [180, 0, 12, 21, 7, 185, 0, 94, 2, 0, 192, 0, 76, 58, 8, 25, 8, 27, 182, 0, 149, 54, 9]
abbrev dktX0_goOn_5 : List UInt8 := dkwX0_goOn_5 ++ dktX0_goOn_6
def dkwX0_goOn_4 : List UInt8 := [160, 0, 4, 177, 3, 54, 7, 21, 7, 42, 180, 0, 12, 185, 0, 56, 1, 0, 162, 0, 145, 42]
abbrev dktX0_goOn_4 : List UInt8 := dkwX0_goOn_4 ++ dktX0_goOn_5
def dkwX0_goOn_3 : List UInt8 := [3, 42, 180, 0, 25, 3, 29, 184, 0, 143, 42, 29, 181, 0, 133, 42, 22, 5, 181, 0, 136, 29, 16, 10]
abbrev dktX0_goOn_3 : List UInt8 := dkwX0_goOn_3 ++ dktX0_goOn_4
def dkwX0_goOn_2 : List UInt8 := [180, 0, 140, 4, 96, 167, 0, 4, 4, 181, 0, 140, 42, 180, 0, 140, 4, 160, 0, 28, 42, 180, 0, 22]
abbrev dktX0_goOn_2 : List UInt8 := dkwX0_goOn_2 ++ dktX0_goOn_3
def dkwX0_goOn_1 : List UInt8 := [160, 0, 67, 42, 42, 180, 0, 133, 158, 0, 22, 22, 5, 42, 180, 0, 136, 148, 154, 0, 12, 42]
abbrev dktX0_goOn_1 : List UInt8 := dkwX0_goOn_1 ++ dktX0_goOn_2
def dkwX0_goOn_0 : List UInt8 := [29, 158, 0, 90, 28, 42, 180, 0, 130, 160, 0, 82, 27, 42, 180, 0, 18, 42, 180, 0, 130, 4, 100, 46]
abbrev dktX0_goOn_0 : List UInt8 := dkwX0_goOn_0 ++ dktX0_goOn_1
theorem dksX0_goOn_0 : cX0_goOn.data.toList.drop 0 = dktX0_goOn_0 := by decide +kernel
theorem dksX0_goOn_1 : cX0_goOn.data.toList.drop 24 = dktX0_goOn_1 := dk_seg dksX0_goOn_0 24 rfl rfl
theorem dksX0_goOn_2 : cX0_goOn.data.toList.drop 46 = dktX0_goOn_2 := dk_seg dksX0_goOn_1 22 rfl rfl
theorem dksX0_goOn_3 : cX0_goOn.data.toList.drop 70 = dktX0_goOn_3 := dk_seg dksX0_goOn_2 24 rfl rfl
theorem dksX0_goOn_4 : cX0_goOn.data.toList.drop 94 = dktX0_goOn_4 := dk_seg dksX0_goOn_3 24 rfl rfl
theorem dksX0_goOn_5 : cX0_goOn.data.toList.drop 116 = dktX0_goOn_5 := dk_seg dksX0_goOn_4 22 rfl rfl
theorem dksX0_goOn_6 : cX0_goOn.data.toList.drop 139 = dktX0_goOn_6 := dk_seg dksX0_goOn_5 23 rfl rfl
theorem dksX0_goOn_7 : cX0_goOn.data.toList.drop 161 = dktX0_goOn_7 := dk_seg dksX0_goOn_6 22 rfl rfl
theorem dksX0_goOn_8 : cX0_goOn.data.toList.drop 185 = dktX0_goOn_8 := dk_seg dksX0_goOn_7 24 rfl rfl
theorem dksX0_goOn_9 : cX0_goOn.data.toList.drop 208 = dktX0_goOn_9 := dk_seg dksX0_goOn_8 23 rfl rfl
theorem dksX0_goOn_10 : cX0_goOn.data.toList.drop 232 = dktX0_goOn_10 := dk_seg dksX0_goOn_9 24 rfl rfl
theorem dksX0_goOn_11 : cX0_goOn.data.toList.drop 254 = dktX0_goOn_11 := dk_seg dksX0_goOn_10 22 rfl rfl
theorem dX0_goOn_0 : decode cX0_goOn 0 = .ok (.iload_n 3, 1) := dk_29 (dk_at dksX0_goOn_0 0 rfl rfl)
theorem dX0_goOn_1 : decode cX0_goOn 1 = .ok (.ifCond .le 90, 3) := dk_158 0 90 (dk_at dksX0_goOn_0 1 rfl rfl)
theorem dX0_goOn_4 : decode cX0_goOn 4 = .ok (.iload_n 2, 1) := dk_28 (dk_at dksX0_goOn_0 4 rfl rfl)
theorem dX0_goOn_5 : decode cX0_goOn 5 = .ok (.aload_n 0, 1) := dk_42 (dk_at dksX0_goOn_0 5 rfl rfl)
theorem dX0_goOn_6 : decode cX0_goOn 6 = .ok (.getfield 130, 3) := dk_180 0 130 (dk_at dksX0_goOn_0 6 rfl rfl)
theorem dX0_goOn_9 : decode cX0_goOn 9 = .ok (.if_icmp .ne 82, 3) := dk_160 0 82 (dk_at dksX0_goOn_0 9 rfl rfl)
theorem dX0_goOn_12 : decode cX0_goOn 12 = .ok (.iload_n 1, 1) := dk_27 (dk_at dksX0_goOn_0 12 rfl rfl)
theorem dX0_goOn_13 : decode cX0_goOn 13 = .ok (.aload_n 0, 1) := dk_42 (dk_at dksX0_goOn_0 13 rfl rfl)
theorem dX0_goOn_14 : decode cX0_goOn 14 = .ok (.getfield 18, 3) := dk_180 0 18 (dk_at dksX0_goOn_0 14 rfl rfl)
theorem dX0_goOn_17 : decode cX0_goOn 17 = .ok (.aload_n 0, 1) := dk_42 (dk_at dksX0_goOn_0 17 rfl rfl)
theorem dX0_goOn_18 : decode cX0_goOn 18 = .ok (.getfield 130, 3) := dk_180 0 130 (dk_at dksX0_goOn_0 18 rfl rfl)
theorem dX0_goOn_21 : decode cX0_goOn 21 = .ok (.iconst 1, 1) := dk_4 (dk_at dksX0_goOn_0 21 rfl rfl)
theorem dX0_goOn_22 : decode cX0_goOn 22 = .ok (.isub, 1) := dk_100 (dk_at dksX0_goOn_0 22 rfl rfl)
theorem dX0_goOn_23 : decode cX0_goOn 23 = .ok (.iaload, 1) := dk_46 (dk_at dksX0_goOn_0 23 rfl rfl)
theorem dX0_goOn_24 : decode cX0_goOn 24 = .ok (.if_icmp .ne 67, 3) := dk_160 0 67 (dk_at dksX0_goOn_1 0 rfl rfl)
theorem dX0_goOn_27 : decode cX0_goOn 27 = .ok (.aload_n 0, 1) := dk_42 (dk_at dksX0_goOn_1 3 rfl rfl)
theorem dX0_goOn_28 : decode cX0_goOn 28 = .ok (.aload_n 0, 1) := dk_42 (dk_at dksX0_goOn_1 4 rfl rfl)
theorem dX0_goOn_29 : decode cX0_goOn 29 = .ok (.getfield 133, 3) := dk_180 0 133 (dk_at dksX0_goOn_1 5 rfl rfl)
theorem dX0_goOn_32 : decode cX0_goOn 32 = .ok (.ifCond .le 22, 3) := dk_158 0 22 (dk_at dksX0_goOn_1 8 rfl rfl)
theorem dX0_goOn_35 : decode cX0_goOn 35 = .ok (.lload 5, 2) := dk_22 5 (dk_at dksX0_goOn_1 11 rfl rfl)
theorem dX0_goOn_37 : decode cX0_goOn 37 = .ok (.aload_n 0, 1) := dk_42 (dk_at dksX0_goOn_1 13 rfl rfl)
theorem dX0_goOn_38 : decode cX0_goOn 38 = .ok (.getfield 136, 3) := dk_180 0 136 (dk_at dksX0_goOn_1 14 rfl rfl)
theorem dX0_goOn_41 : decode cX0_goOn 41 = .ok (.lcmp, 1) := dk_148 (dk_at dksX0_goOn_1 17 rfl rfl)
theorem dX0_goOn_42 : decode cX0_goOn 42 = .ok (.ifCond .ne 12, 3) := dk_154 0 12 (dk_at dksX0_goOn_1 18 rfl rfl)
theorem dX0_goOn_45 : decode cX0_goOn 45 = .ok (.aload_n 0, 1) := dk_42 (dk_at dksX0_goOn_1 21 rfl rfl)
theorem dX0_goOn_46 : decode cX0_goOn 46 = .ok (.getfield 140, 3) := dk_180 0 140 (dk_at dksX0_goOn_2 0 rfl rfl)
theorem dX0_goOn_49 : decode cX0_goOn 49 = .ok (.iconst 1, 1) := dk_4 (dk_at dksX0_goOn_2 3 rfl rfl)
theorem dX0_goOn_50 : decode cX0_goOn 50 = .ok (.iadd, 1) := dk_96 (dk_at dksX0_goOn_2 4 rfl rfl)
theorem dX0_goOn_51 : decode cX0_goOn 51 = .ok (.goto 4, 3) := dk_167 0 4 (dk_at dksX0_goOn_2 5 rfl rfl)
theorem dX0_goOn_54 : decode cX0_goOn 54 = .ok (.iconst 1, 1) := dk_4 (dk_at dksX0_goOn_2 8 rfl rfl)
theorem dX0_goOn_55 : decode cX0_goOn 55 = .ok (.putfield 140, 3) := dk_181 0 140 (dk_at dksX0_goOn_2 9 rfl rfl)
theorem dX0_goOn_58 : decode cX0_goOn 58 = .ok (.aload_n 0, 1) := dk_42 (dk_at dksX0_goOn_2 12 rfl rfl)
theorem dX0_goOn_59 : decode cX0_goOn 59 = .ok (.getfield 140, 3) := dk_180 0 140 (dk_at dksX0_goOn_2 13 rfl rfl)
theorem dX0_goOn_62 : decode cX0_goOn 62 = .ok (.iconst 1, 1) := dk_4 (dk_at dksX0_goOn_2 16 rfl rfl)
theorem dX0_goOn_63 : decode cX0_goOn 63 = .ok (.if_icmp .ne 28, 3) := dk_160 0 28 (dk_at dksX0_goOn_2 17 rfl rfl)
theorem dX0_goOn_66 : decode cX0_goOn 66 = .ok (.aload_n 0, 1) := dk_42 (dk_at dksX0_goOn_2 20 rfl rfl)
theorem dX0_goOn_67 : decode cX0_goOn 67 = .ok (.getfield 22, 3) := dk_180 0 22 (dk_at dksX0_goOn_2 21 rfl rfl)
theorem dX0_goOn_70 : decode cX0_goOn 70 = .ok (.iconst 0, 1) := dk_3 (dk_at dksX0_goOn_3 0 rfl rfl)
theorem dX0_goOn_71 : decode cX0_goOn 71 = .ok (.aload_n 0, 1) := dk_42 (dk_at dksX0_goOn_3 1 rfl rfl)
theorem dX0_goOn_72 : decode cX0_goOn 72 = .ok (.getfield 25, 3) := dk_180 0 25 (dk_at dksX0_goOn_3 2 rfl rfl)
theorem dX0_goOn_75 : decode cX0_goOn 75 = .ok (.iconst 0, 1) := dk_3 (dk_at dksX0_goOn_3 5 rfl rfl)
theorem dX0_goOn_76 : decode cX0_goOn 76 = .ok (.iload_n 3, 1) := dk_29 (dk_at dksX0_goOn_3 6 rfl rfl)
theorem dX0_goOn_77 : decode cX0_goOn 77 = .ok (.invokestatic 143, 3) := dk_184 0 143 (dk_at dksX0_goOn_3 7 rfl rfl)
theorem dX0_goOn_80 : decode cX0_goOn 80 = .ok (.aload_n 0, 1) := dk_42 (dk_at dksX0_goOn_3 10 rfl rfl)
theorem dX0_goOn_81 : decode cX0_goOn 81 = .ok (.iload_n 3, 1) := dk_29 (dk_at dksX0_goOn_3 11 rfl rfl)
theorem dX0_goOn_82 : decode cX0_goOn 82 = .ok (.putfield 133, 3) := dk_181 0 133 (dk_at dksX0_goOn_3 12 rfl rfl)
theorem dX0_goOn_85 : decode cX0_goOn 85 = .ok (.aload_n 0, 1) := dk_42 (dk_at dksX0_goOn_3 15 rfl rfl)
theorem dX0_goOn_86 : decode cX0_goOn 86 = .ok (.lload 5, 2) := dk_22 5 (dk_at dksX0_goOn_3 16 rfl rfl)
theorem dX0_goOn_88 : decode cX0_goOn 88 = .ok (.putfield 136, 3) := dk_181 0 136 (dk_at dksX0_goOn_3 18 rfl rfl)
theorem dX0_goOn_91 : decode cX0_goOn 91 = .ok (.iload_n 3, 1) := dk_29 (dk_at dksX0_goOn_3 21 rfl rfl)
theorem dX0_goOn_92 : decode cX0_goOn 92 = .ok (.bipush 10, 2) := dk_16 10 (dk_at dksX0_goOn_3 22 rfl rfl)
theorem dX0_goOn_94 : decode cX0_goOn 94 = .ok (.if_icmp .ne 4, 3) := dk_160 0 4 (dk_at dksX0_goOn_4 0 rfl rfl)
theorem dX0_goOn_97 : decode cX0_goOn 97 = .ok (.return_, 1) := dk_177 (dk_at dksX0_goOn_4 3 rfl rfl)
theorem dX0_goOn_98 : decode cX0_goOn 98 = .ok (.iconst 0, 1) := dk_3 (dk_at dksX0_goOn_4 4 rfl rfl)
theorem dX0_goOn_99 : decode cX0_goOn 99 = .ok (.istore 7, 2) := dk_54 7 (dk_at dksX0_goOn_4 5 rfl rfl)
theorem dX0_goOn_101 : decode cX0_goOn 101 = .ok (.iload 7, 2) := dk_21 7 (dk_at dksX0_goOn_4 7 rfl rfl)
theorem dX0_goOn_103 : decode cX0_goOn 103 = .ok (.aload_n 0, 1) := dk_42 (dk_at dksX0_goOn_4 9 rfl rfl)
theorem dX0_goOn_104 : decode cX0_goOn 104 = .ok (.getfield 12, 3) := dk_180 0 12 (dk_at dksX0_goOn_4 10 rfl rfl)
theorem dX0_goOn_107 : decode cX0_goOn 107 = .ok (.invokeinterface 56 1, 5) := by decide +kernel
theorem dX0_goOn_112 : decode cX0_goOn 112 = .ok (.if_icmp .ge 145, 3) := dk_162 0 145 (dk_at dksX0_goOn_4 18 rfl rfl)
theorem dX0_goOn_115 : decode cX0_goOn 115 = .ok (.aload_n 0, 1) := dk_42 (dk_at dksX0_goOn_4 21 rfl rfl)
theorem dX0_goOn_116 : decode cX0_goOn 116 = .ok (.getfield 12, 3) := dk_180 0 12 (dk_at dksX0_goOn_5 0 rfl rfl)
theorem dX0_goOn_119 : decode cX0_goOn 119 = .ok (.iload 7, 2) := dk_21 7 (dk_at dksX0_goOn_5 3 rfl rfl)
theorem dX0_goOn_121 : decode cX0_goOn 121 = .ok (.invokeinterface 94 2, 5) := by decide +kernel
theorem dX0_goOn_126 : decode cX0_goOn 126 = .ok (.checkcast 76, 3) := dk_192 0 76 (dk_at dksX0_goOn_5 10 rfl rfl)
theorem dX0_goOn_129 : decode cX0_goOn 129 = .ok (.astore 8, 2) := dk_58 8 (dk_at dksX0_goOn_5 13 rfl rfl)
theorem dX0_goOn_131 : decode cX0_goOn 131 = .ok (.aload 8, 2) := dk_25 8 (dk_at dksX0_goOn_5 15 rfl rfl)
theorem dX0_goOn_133 : decode cX0_goOn 133 = .ok (.iload_n 1, 1) := dk_27 (dk_at dksX0_goOn_5 17 rfl rfl)
theorem dX0_goOn_134 : decode cX0_goOn 134 = .ok (.invokevirtual 149, 3) := dk_182 0 149 (dk_at dksX0_goOn_5 18 rfl rfl)
theorem dX0_goOn_137 : decode cX0_goOn 137 = .ok (.istore 9, 2) := dk_54 9 (dk_at dksX0_goOn_5 21 rfl rfl)
theorem dX0_goOn_139 : decode cX0_goOn 139 = .ok (.iload 4, 2) := dk_21 4 (dk_at dksX0_goOn_6 0 rfl rfl)
theorem dX0_goOn_141 : decode cX0_goOn 141 = .ok (.iload 7, 2) := dk_21 7 (dk_at dksX0_goOn_6 2 rfl rfl)
theorem dX0_goOn_143 : decode cX0_goOn 143 = .ok (.ishr, 1) := dk_122 (dk_at dksX0_goOn_6 4 rfl rfl)
theorem dX0_goOn_144 : decode cX0_goOn 144 = .ok (.iconst 1, 1) := dk_4 (dk_at dksX0_goOn_6 5 rfl rfl)
theorem dX0_goOn_145 : decode cX0_goOn 145 = .ok (.iand, 1) := dk_126 (dk_at dksX0_goOn_6 6 rfl rfl)
theorem dX0_goOn_146 : decode cX0_goOn 146 = .ok (.iconst 1, 1) := dk_4 (dk_at dksX0_goOn_6 7 rfl rfl)
theorem dX0_goOn_147 : decode cX0_goOn 147 = .ok (.if_icmp .eq 104, 3) := dk_159 0 104 (dk_at dksX0_goOn_6 8 rfl rfl)
theorem dX0_goOn_150 : decode cX0_goOn 150 = .ok (.iload 9, 2) := dk_21 9 (dk_at dksX0_goOn_6 11 rfl rfl)
theorem dX0_goOn_152 : decode cX0_goOn 152 = .ok (.bipush (-9), 2) := dk_16 247 (dk_at dksX0_goOn_6 13 rfl rfl)
theorem dX0_goOn_154 : decode cX0_goOn 154 = .ok (.if_icmp .eq 97, 3) := dk_159 0 97 (dk_at dksX0_goOn_6 15 rfl rfl)
theorem dX0_goOn_157 : decode cX0_goOn 157 = .ok (.aload_n 0, 1) := dk_42 (dk_at dksX0_goOn_6 18 rfl rfl)
theorem dX0_goOn_158 : decode cX0_goOn 158 = .ok (.getfield 133, 3) := dk_180 0 133 (dk_at dksX0_goOn_6 19 rfl rfl)
theorem dX0_goOn_161 : decode cX0_goOn 161 = .ok (.ifCond .le 23, 3) := dk_158 0 23 (dk_at dksX0_goOn_7 0 rfl rfl)
theorem dX0_goOn_164 : decode cX0_goOn 164 = .ok (.lload 5, 2) := dk_22 5 (dk_at dksX0_goOn_7 3 rfl rfl)
theorem dX0_goOn_166 : decode cX0_goOn 166 = .ok (.aload 8, 2) := dk_25 8 (dk_at dksX0_goOn_7 5 rfl rfl)
theorem dX0_goOn_168 : decode cX0_goOn 168 = .ok (.getfield 117, 3) := dk_180 0 117 (dk_at dksX0_goOn_7 7 rfl rfl)
theorem dX0_goOn_171 : decode cX0_goOn 171 = .ok (.i2l, 1) := dk_133 (dk_at dksX0_goOn_7 10 rfl rfl)
theorem dX0_goOn_172 : decode cX0_goOn 172 = .ok (.ladd, 1) := dk_97 (dk_at dksX0_goOn_7 11 rfl rfl)
theorem dX0_goOn_173 : decode cX0_goOn 173 = .ok (.aload_n 0, 1) := dk_42 (dk_at dksX0_goOn_7 12 rfl rfl)
theorem dX0_goOn_174 : decode cX0_goOn 174 = .ok (.getfield 136, 3) := dk_180 0 136 (dk_at dksX0_goOn_7 13 rfl rfl)
theorem dX0_goOn_177 : decode cX0_goOn 177 = .ok (.lcmp, 1) := dk_148 (dk_at dksX0_goOn_7 16 rfl rfl)
theorem dX0_goOn_178 : decode cX0_goOn 178 = .ok (.ifCond .le 6, 3) := dk_158 0 6 (dk_at dksX0_goOn_7 17 rfl rfl)
theorem dX0_goOn_181 : decode cX0_goOn 181 = .ok (.goto 70, 3) := dk_167 0 70 (dk_at dksX0_goOn_7 20 rfl rfl)
theorem dX0_goOn_184 : decode cX0_goOn 184 = .ok (.aload_n 0, 1) := dk_42 (dk_at dksX0_goOn_7 23 rfl rfl)
theorem dX0_goOn_185 : decode cX0_goOn 185 = .ok (.getfield 152, 3) := dk_180 0 152 (dk_at dksX0_goOn_8 0 rfl rfl)
theorem dX0_goOn_188 : decode cX0_goOn 188 = .ok (.ldc 155, 2) := dk_18 155 (dk_at dksX0_goOn_8 3 rfl rfl)
theorem dX0_goOn_190 : decode cX0_goOn 190 = .ok (.if_icmp .ne 11, 3) := dk_160 0 11 (dk_at dksX0_goOn_8 5 rfl rfl)
theorem dX0_goOn_193 : decode cX0_goOn 193 = .ok (.new 156, 3) := dk_187 0 156 (dk_at dksX0_goOn_8 8 rfl rfl)
theorem dX0_goOn_196 : decode cX0_goOn 196 = .ok (.dup, 1) := dk_89 (dk_at dksX0_goOn_8 11 rfl rfl)
theorem dX0_goOn_197 : decode cX0_goOn 197 = .ok (.invokespecial 158, 3) := dk_183 0 158 (dk_at dksX0_goOn_8 12 rfl rfl)
theorem dX0_goOn_200 : decode cX0_goOn 200 = .ok (.athrow, 1) := dk_191 (dk_at dksX0_goOn_8 15 rfl rfl)
theorem dX0_goOn_201 : decode cX0_goOn 201 = .ok (.aload_n 0, 1) := dk_42 (dk_at dksX0_goOn_8 16 rfl rfl)
theorem dX0_goOn_202 : decode cX0_goOn 202 = .ok (.dup, 1) := dk_89 (dk_at dksX0_goOn_8 17 rfl rfl)
theorem dX0_goOn_203 : decode cX0_goOn 203 = .ok (.getfield 152, 3) := dk_180 0 152 (dk_at dksX0_goOn_8 18 rfl rfl)
theorem dX0_goOn_206 : decode cX0_goOn 206 = .ok (.iconst 1, 1) := dk_4 (dk_at dksX0_goOn_8 21 rfl rfl)
theorem dX0_goOn_207 : decode cX0_goOn 207 = .ok (.iadd, 1) := dk_96 (dk_at dksX0_goOn_8 22 rfl rfl)
theorem dX0_goOn_208 : decode cX0_goOn 208 = .ok (.putfield 152, 3) := dk_181 0 152 (dk_at dksX0_goOn_9 0 rfl rfl)
theorem dX0_goOn_211 : decode cX0_goOn 211 = .ok (.aload_n 0, 1) := dk_42 (dk_at dksX0_goOn_9 3 rfl rfl)
theorem dX0_goOn_212 : decode cX0_goOn 212 = .ok (.getfield 22, 3) := dk_180 0 22 (dk_at dksX0_goOn_9 4 rfl rfl)
theorem dX0_goOn_215 : decode cX0_goOn 215 = .ok (.iload_n 3, 1) := dk_29 (dk_at dksX0_goOn_9 7 rfl rfl)
theorem dX0_goOn_216 : decode cX0_goOn 216 = .ok (.iload 7, 2) := dk_21 7 (dk_at dksX0_goOn_9 8 rfl rfl)
theorem dX0_goOn_218 : decode cX0_goOn 218 = .ok (.iastore, 1) := dk_79 (dk_at dksX0_goOn_9 10 rfl rfl)
theorem dX0_goOn_219 : decode cX0_goOn 219 = .ok (.aload_n 0, 1) := dk_42 (dk_at dksX0_goOn_9 11 rfl rfl)
theorem dX0_goOn_220 : decode cX0_goOn 220 = .ok (.iload 9, 2) := dk_21 9 (dk_at dksX0_goOn_9 12 rfl rfl)
theorem dX0_goOn_222 : decode cX0_goOn 222 = .ok (.aload_n 0, 1) := dk_42 (dk_at dksX0_goOn_9 14 rfl rfl)
theorem dX0_goOn_223 : decode cX0_goOn 223 = .ok (.iload 9, 2) := dk_21 9 (dk_at dksX0_goOn_9 15 rfl rfl)
theorem dX0_goOn_225 : decode cX0_goOn 225 = .ok (.iload_n 2, 1) := dk_28 (dk_at dksX0_goOn_9 17 rfl rfl)
theorem dX0_goOn_226 : decode cX0_goOn 226 = .ok (.invokevirtual 159, 3) := dk_182 0 159 (dk_at dksX0_goOn_9 18 rfl rfl)
theorem dX0_goOn_229 : decode cX0_goOn 229 = .ok (.iload_n 3, 1) := dk_29 (dk_at dksX0_goOn_9 21 rfl rfl)
theorem dX0_goOn_230 : decode cX0_goOn 230 = .ok (.iconst 1, 1) := dk_4 (dk_at dksX0_goOn_9 22 rfl rfl)
theorem dX0_goOn_231 : decode cX0_goOn 231 = .ok (.iadd, 1) := dk_96 (dk_at dksX0_goOn_9 23 rfl rfl)
theorem dX0_goOn_232 : decode cX0_goOn 232 = .ok (.iload 4, 2) := dk_21 4 (dk_at dksX0_goOn_10 0 rfl rfl)
theorem dX0_goOn_234 : decode cX0_goOn 234 = .ok (.iconst 1, 1) := dk_4 (dk_at dksX0_goOn_10 2 rfl rfl)
theorem dX0_goOn_235 : decode cX0_goOn 235 = .ok (.iload 7, 2) := dk_21 7 (dk_at dksX0_goOn_10 3 rfl rfl)
theorem dX0_goOn_237 : decode cX0_goOn 237 = .ok (.ishl, 1) := dk_120 (dk_at dksX0_goOn_10 5 rfl rfl)
theorem dX0_goOn_238 : decode cX0_goOn 238 = .ok (.ior, 1) := dk_128 (dk_at dksX0_goOn_10 6 rfl rfl)
theorem dX0_goOn_239 : decode cX0_goOn 239 = .ok (.lload 5, 2) := dk_22 5 (dk_at dksX0_goOn_10 7 rfl rfl)
theorem dX0_goOn_241 : decode cX0_goOn 241 = .ok (.aload 8, 2) := dk_25 8 (dk_at dksX0_goOn_10 9 rfl rfl)
theorem dX0_goOn_243 : decode cX0_goOn 243 = .ok (.getfield 117, 3) := dk_180 0 117 (dk_at dksX0_goOn_10 11 rfl rfl)
theorem dX0_goOn_246 : decode cX0_goOn 246 = .ok (.i2l, 1) := dk_133 (dk_at dksX0_goOn_10 14 rfl rfl)
theorem dX0_goOn_247 : decode cX0_goOn 247 = .ok (.ladd, 1) := dk_97 (dk_at dksX0_goOn_10 15 rfl rfl)
theorem dX0_goOn_248 : decode cX0_goOn 248 = .ok (.invokevirtual 163, 3) := dk_182 0 163 (dk_at dksX0_goOn_10 16 rfl rfl)
theorem dX0_goOn_251 : decode cX0_goOn 251 = .ok (.iinc 7 1, 3) := dk_132 7 1 (dk_at dksX0_goOn_10 19 rfl rfl)
theorem dX0_goOn_254 : decode cX0_goOn 254 = .ok (.goto (-153), 3) := dk_167 255 103 (dk_at dksX0_goOn_11 0 rfl rfl)
theorem dX0_goOn_257 : decode cX0_goOn 257 = .ok (.return_, 1) := dk_177 (dk_at dksX0_goOn_11 3 rfl rfl)
abbrev cX0_metAt : ByteArray := prog_1_method_12_code
def yX0_metAt : MethodName := ⟨RX0, "metAt", "(II)I"⟩
def dkwX0_metAt_1 : List UInt8 := [28, 172]
abbrev dktX0_metAt_1 : List UInt8 := dkwX0_metAt_1 ++ []
def dkwX0_metAt_0 : List UInt8 := [28, 42, 180, 0, 130, 162, 0, 19, 42, 180, 0, 18, 28, 46, 27, 160, 0, 9, 28, 4, 96, 167, 0, 4]
abbrev dktX0_metAt_0 : List UInt8 := dkwX0_metAt_0 ++ dktX0_metAt_1
theorem dksX0_metAt_0 : cX0_metAt.data.toList.drop 0 = dktX0_metAt_0 := by decide +kernel
theorem dksX0_metAt_1 : cX0_metAt.data.toList.drop 24 = dktX0_metAt_1 := dk_seg dksX0_metAt_0 24 rfl rfl
theorem dX0_metAt_0 : decode cX0_metAt 0 = .ok (.iload_n 2, 1) := dk_28 (dk_at dksX0_metAt_0 0 rfl rfl)
theorem dX0_metAt_1 : decode cX0_metAt 1 = .ok (.aload_n 0, 1) := dk_42 (dk_at dksX0_metAt_0 1 rfl rfl)
theorem dX0_metAt_2 : decode cX0_metAt 2 = .ok (.getfield 130, 3) := dk_180 0 130 (dk_at dksX0_metAt_0 2 rfl rfl)
theorem dX0_metAt_5 : decode cX0_metAt 5 = .ok (.if_icmp .ge 19, 3) := dk_162 0 19 (dk_at dksX0_metAt_0 5 rfl rfl)
theorem dX0_metAt_8 : decode cX0_metAt 8 = .ok (.aload_n 0, 1) := dk_42 (dk_at dksX0_metAt_0 8 rfl rfl)
theorem dX0_metAt_9 : decode cX0_metAt 9 = .ok (.getfield 18, 3) := dk_180 0 18 (dk_at dksX0_metAt_0 9 rfl rfl)
theorem dX0_metAt_12 : decode cX0_metAt 12 = .ok (.iload_n 2, 1) := dk_28 (dk_at dksX0_metAt_0 12 rfl rfl)
theorem dX0_metAt_13 : decode cX0_metAt 13 = .ok (.iaload, 1) := dk_46 (dk_at dksX0_metAt_0 13 rfl rfl)
theorem dX0_metAt_14 : decode cX0_metAt 14 = .ok (.iload_n 1, 1) := dk_27 (dk_at dksX0_metAt_0 14 rfl rfl)
theorem dX0_metAt_15 : decode cX0_metAt 15 = .ok (.if_icmp .ne 9, 3) := dk_160 0 9 (dk_at dksX0_metAt_0 15 rfl rfl)
theorem dX0_metAt_18 : decode cX0_metAt 18 = .ok (.iload_n 2, 1) := dk_28 (dk_at dksX0_metAt_0 18 rfl rfl)
theorem dX0_metAt_19 : decode cX0_metAt 19 = .ok (.iconst 1, 1) := dk_4 (dk_at dksX0_metAt_0 19 rfl rfl)
theorem dX0_metAt_20 : decode cX0_metAt 20 = .ok (.iadd, 1) := dk_96 (dk_at dksX0_metAt_0 20 rfl rfl)
theorem dX0_metAt_21 : decode cX0_metAt 21 = .ok (.goto 4, 3) := dk_167 0 4 (dk_at dksX0_metAt_0 21 rfl rfl)
theorem dX0_metAt_24 : decode cX0_metAt 24 = .ok (.iload_n 2, 1) := dk_28 (dk_at dksX0_metAt_1 0 rfl rfl)
theorem dX0_metAt_25 : decode cX0_metAt 25 = .ok (.ireturn, 1) := dk_172 (dk_at dksX0_metAt_1 1 rfl rfl)
abbrev cX0_lay : ByteArray := prog_1_method_16_code
def yX0_lay : MethodName := ⟨RX0, "lay", "()I"⟩
def dkwX0_lay_5 : List UInt8 := [167, 255, 224, 42, 180, 0, 127, 172]
abbrev dktX0_lay_5 : List UInt8 := dkwX0_lay_5 ++ []
def dkwX0_lay_4 : List UInt8 := [162, 0, 25, 42, 180, 0, 40, 27, 185, 0, 94, 2, 0, 192, 0, 179, 182, 0, 181, 132, 1, 1]
abbrev dktX0_lay_4 : List UInt8 := dkwX0_lay_4 ++ dktX0_lay_5
def dkwX0_lay_3 : List UInt8 := [181, 0, 173, 42, 180, 0, 37, 185, 0, 176, 1, 0, 3, 60, 27, 42, 180, 0, 40, 185, 0, 56, 1, 0]
abbrev dktX0_lay_3 : List UInt8 := dkwX0_lay_3 ++ dktX0_lay_4
def dkwX0_lay_2 : List UInt8 := [184, 0, 143, 42, 42, 180, 0, 133, 181, 0, 127, 42, 42, 180, 0, 136, 136, 181, 0, 170, 42, 3]
abbrev dktX0_lay_2 : List UInt8 := dkwX0_lay_2 ++ dktX0_lay_3
def dkwX0_lay_1 : List UInt8 := [180, 0, 140, 154, 0, 6, 16, 247, 172, 42, 180, 0, 25, 3, 42, 180, 0, 28, 3, 42, 180, 0, 133]
abbrev dktX0_lay_1 : List UInt8 := dkwX0_lay_1 ++ dktX0_lay_2
def dkwX0_lay_0 : List UInt8 := [42, 180, 0, 130, 154, 0, 6, 16, 253, 172, 42, 182, 0, 167, 167, 0, 7, 76, 16, 250, 172, 42]
abbrev dktX0_lay_0 : List UInt8 := dkwX0_lay_0 ++ dktX0_lay_1
theorem dksX0_lay_0 : cX0_lay.data.toList.drop 0 = dktX0_lay_0 := by decide +kernel
theorem dksX0_lay_1 : cX0_lay.data.toList.drop 22 = dktX0_lay_1 := dk_seg dksX0_lay_0 22 rfl rfl
theorem dksX0_lay_2 : cX0_lay.data.toList.drop 45 = dktX0_lay_2 := dk_seg dksX0_lay_1 23 rfl rfl
theorem dksX0_lay_3 : cX0_lay.data.toList.drop 67 = dktX0_lay_3 := dk_seg dksX0_lay_2 22 rfl rfl
theorem dksX0_lay_4 : cX0_lay.data.toList.drop 91 = dktX0_lay_4 := dk_seg dksX0_lay_3 24 rfl rfl
theorem dksX0_lay_5 : cX0_lay.data.toList.drop 113 = dktX0_lay_5 := dk_seg dksX0_lay_4 22 rfl rfl
theorem dX0_lay_0 : decode cX0_lay 0 = .ok (.aload_n 0, 1) := dk_42 (dk_at dksX0_lay_0 0 rfl rfl)
theorem dX0_lay_1 : decode cX0_lay 1 = .ok (.getfield 130, 3) := dk_180 0 130 (dk_at dksX0_lay_0 1 rfl rfl)
theorem dX0_lay_4 : decode cX0_lay 4 = .ok (.ifCond .ne 6, 3) := dk_154 0 6 (dk_at dksX0_lay_0 4 rfl rfl)
theorem dX0_lay_7 : decode cX0_lay 7 = .ok (.bipush (-3), 2) := dk_16 253 (dk_at dksX0_lay_0 7 rfl rfl)
theorem dX0_lay_9 : decode cX0_lay 9 = .ok (.ireturn, 1) := dk_172 (dk_at dksX0_lay_0 9 rfl rfl)
theorem dX0_lay_10 : decode cX0_lay 10 = .ok (.aload_n 0, 1) := dk_42 (dk_at dksX0_lay_0 10 rfl rfl)
theorem dX0_lay_11 : decode cX0_lay 11 = .ok (.invokevirtual 167, 3) := dk_182 0 167 (dk_at dksX0_lay_0 11 rfl rfl)
theorem dX0_lay_14 : decode cX0_lay 14 = .ok (.goto 7, 3) := dk_167 0 7 (dk_at dksX0_lay_0 14 rfl rfl)
theorem dX0_lay_17 : decode cX0_lay 17 = .ok (.astore_n 1, 1) := dk_76 (dk_at dksX0_lay_0 17 rfl rfl)
theorem dX0_lay_18 : decode cX0_lay 18 = .ok (.bipush (-6), 2) := dk_16 250 (dk_at dksX0_lay_0 18 rfl rfl)
theorem dX0_lay_20 : decode cX0_lay 20 = .ok (.ireturn, 1) := dk_172 (dk_at dksX0_lay_0 20 rfl rfl)
theorem dX0_lay_21 : decode cX0_lay 21 = .ok (.aload_n 0, 1) := dk_42 (dk_at dksX0_lay_0 21 rfl rfl)
theorem dX0_lay_22 : decode cX0_lay 22 = .ok (.getfield 140, 3) := dk_180 0 140 (dk_at dksX0_lay_1 0 rfl rfl)
theorem dX0_lay_25 : decode cX0_lay 25 = .ok (.ifCond .ne 6, 3) := dk_154 0 6 (dk_at dksX0_lay_1 3 rfl rfl)
theorem dX0_lay_28 : decode cX0_lay 28 = .ok (.bipush (-9), 2) := dk_16 247 (dk_at dksX0_lay_1 6 rfl rfl)
theorem dX0_lay_30 : decode cX0_lay 30 = .ok (.ireturn, 1) := dk_172 (dk_at dksX0_lay_1 8 rfl rfl)
theorem dX0_lay_31 : decode cX0_lay 31 = .ok (.aload_n 0, 1) := dk_42 (dk_at dksX0_lay_1 9 rfl rfl)
theorem dX0_lay_32 : decode cX0_lay 32 = .ok (.getfield 25, 3) := dk_180 0 25 (dk_at dksX0_lay_1 10 rfl rfl)
theorem dX0_lay_35 : decode cX0_lay 35 = .ok (.iconst 0, 1) := dk_3 (dk_at dksX0_lay_1 13 rfl rfl)
theorem dX0_lay_36 : decode cX0_lay 36 = .ok (.aload_n 0, 1) := dk_42 (dk_at dksX0_lay_1 14 rfl rfl)
theorem dX0_lay_37 : decode cX0_lay 37 = .ok (.getfield 28, 3) := dk_180 0 28 (dk_at dksX0_lay_1 15 rfl rfl)
theorem dX0_lay_40 : decode cX0_lay 40 = .ok (.iconst 0, 1) := dk_3 (dk_at dksX0_lay_1 18 rfl rfl)
theorem dX0_lay_41 : decode cX0_lay 41 = .ok (.aload_n 0, 1) := dk_42 (dk_at dksX0_lay_1 19 rfl rfl)
theorem dX0_lay_42 : decode cX0_lay 42 = .ok (.getfield 133, 3) := dk_180 0 133 (dk_at dksX0_lay_1 20 rfl rfl)
theorem dX0_lay_45 : decode cX0_lay 45 = .ok (.invokestatic 143, 3) := dk_184 0 143 (dk_at dksX0_lay_2 0 rfl rfl)
theorem dX0_lay_48 : decode cX0_lay 48 = .ok (.aload_n 0, 1) := dk_42 (dk_at dksX0_lay_2 3 rfl rfl)
theorem dX0_lay_49 : decode cX0_lay 49 = .ok (.aload_n 0, 1) := dk_42 (dk_at dksX0_lay_2 4 rfl rfl)
theorem dX0_lay_50 : decode cX0_lay 50 = .ok (.getfield 133, 3) := dk_180 0 133 (dk_at dksX0_lay_2 5 rfl rfl)
theorem dX0_lay_53 : decode cX0_lay 53 = .ok (.putfield 127, 3) := dk_181 0 127 (dk_at dksX0_lay_2 8 rfl rfl)
theorem dX0_lay_56 : decode cX0_lay 56 = .ok (.aload_n 0, 1) := dk_42 (dk_at dksX0_lay_2 11 rfl rfl)
theorem dX0_lay_57 : decode cX0_lay 57 = .ok (.aload_n 0, 1) := dk_42 (dk_at dksX0_lay_2 12 rfl rfl)
theorem dX0_lay_58 : decode cX0_lay 58 = .ok (.getfield 136, 3) := dk_180 0 136 (dk_at dksX0_lay_2 13 rfl rfl)
theorem dX0_lay_61 : decode cX0_lay 61 = .ok (.l2i, 1) := dk_136 (dk_at dksX0_lay_2 16 rfl rfl)
theorem dX0_lay_62 : decode cX0_lay 62 = .ok (.putfield 170, 3) := dk_181 0 170 (dk_at dksX0_lay_2 17 rfl rfl)
theorem dX0_lay_65 : decode cX0_lay 65 = .ok (.aload_n 0, 1) := dk_42 (dk_at dksX0_lay_2 20 rfl rfl)
theorem dX0_lay_66 : decode cX0_lay 66 = .ok (.iconst 0, 1) := dk_3 (dk_at dksX0_lay_2 21 rfl rfl)
theorem dX0_lay_67 : decode cX0_lay 67 = .ok (.putfield 173, 3) := dk_181 0 173 (dk_at dksX0_lay_3 0 rfl rfl)
theorem dX0_lay_70 : decode cX0_lay 70 = .ok (.aload_n 0, 1) := dk_42 (dk_at dksX0_lay_3 3 rfl rfl)
theorem dX0_lay_71 : decode cX0_lay 71 = .ok (.getfield 37, 3) := dk_180 0 37 (dk_at dksX0_lay_3 4 rfl rfl)
theorem dX0_lay_74 : decode cX0_lay 74 = .ok (.invokeinterface 176 1, 5) := by decide +kernel
theorem dX0_lay_79 : decode cX0_lay 79 = .ok (.iconst 0, 1) := dk_3 (dk_at dksX0_lay_3 12 rfl rfl)
theorem dX0_lay_80 : decode cX0_lay 80 = .ok (.istore_n 1, 1) := dk_60 (dk_at dksX0_lay_3 13 rfl rfl)
theorem dX0_lay_81 : decode cX0_lay 81 = .ok (.iload_n 1, 1) := dk_27 (dk_at dksX0_lay_3 14 rfl rfl)
theorem dX0_lay_82 : decode cX0_lay 82 = .ok (.aload_n 0, 1) := dk_42 (dk_at dksX0_lay_3 15 rfl rfl)
theorem dX0_lay_83 : decode cX0_lay 83 = .ok (.getfield 40, 3) := dk_180 0 40 (dk_at dksX0_lay_3 16 rfl rfl)
theorem dX0_lay_86 : decode cX0_lay 86 = .ok (.invokeinterface 56 1, 5) := by decide +kernel
theorem dX0_lay_91 : decode cX0_lay 91 = .ok (.if_icmp .ge 25, 3) := dk_162 0 25 (dk_at dksX0_lay_4 0 rfl rfl)
theorem dX0_lay_94 : decode cX0_lay 94 = .ok (.aload_n 0, 1) := dk_42 (dk_at dksX0_lay_4 3 rfl rfl)
theorem dX0_lay_95 : decode cX0_lay 95 = .ok (.getfield 40, 3) := dk_180 0 40 (dk_at dksX0_lay_4 4 rfl rfl)
theorem dX0_lay_98 : decode cX0_lay 98 = .ok (.iload_n 1, 1) := dk_27 (dk_at dksX0_lay_4 7 rfl rfl)
theorem dX0_lay_99 : decode cX0_lay 99 = .ok (.invokeinterface 94 2, 5) := by decide +kernel
theorem dX0_lay_104 : decode cX0_lay 104 = .ok (.checkcast 179, 3) := dk_192 0 179 (dk_at dksX0_lay_4 13 rfl rfl)
theorem dX0_lay_107 : decode cX0_lay 107 = .ok (.invokevirtual 181, 3) := dk_182 0 181 (dk_at dksX0_lay_4 16 rfl rfl)
theorem dX0_lay_110 : decode cX0_lay 110 = .ok (.iinc 1 1, 3) := dk_132 1 1 (dk_at dksX0_lay_4 19 rfl rfl)
theorem dX0_lay_113 : decode cX0_lay 113 = .ok (.goto (-32), 3) := dk_167 255 224 (dk_at dksX0_lay_5 0 rfl rfl)
theorem dX0_lay_116 : decode cX0_lay 116 = .ok (.aload_n 0, 1) := dk_42 (dk_at dksX0_lay_5 3 rfl rfl)
theorem dX0_lay_117 : decode cX0_lay 117 = .ok (.getfield 127, 3) := dk_180 0 127 (dk_at dksX0_lay_5 4 rfl rfl)
theorem dX0_lay_120 : decode cX0_lay 120 = .ok (.ireturn, 1) := dk_172 (dk_at dksX0_lay_5 7 rfl rfl)
abbrev cX0_laid : ByteArray := prog_1_method_17_code
def yX0_laid : MethodName := ⟨RX0, "laid", "(I)I"⟩
def dkwX0_laid_1 : List UInt8 := [167, 0, 4, 2, 172]
abbrev dktX0_laid_1 : List UInt8 := dkwX0_laid_1 ++ []
def dkwX0_laid_0 : List UInt8 := [27, 133, 9, 42, 180, 0, 127, 133, 10, 101, 184, 0, 62, 153, 0, 12, 42, 180, 0, 28, 27, 46]
abbrev dktX0_laid_0 : List UInt8 := dkwX0_laid_0 ++ dktX0_laid_1
theorem dksX0_laid_0 : cX0_laid.data.toList.drop 0 = dktX0_laid_0 := by decide +kernel
theorem dksX0_laid_1 : cX0_laid.data.toList.drop 22 = dktX0_laid_1 := dk_seg dksX0_laid_0 22 rfl rfl
theorem dX0_laid_0 : decode cX0_laid 0 = .ok (.iload_n 1, 1) := dk_27 (dk_at dksX0_laid_0 0 rfl rfl)
theorem dX0_laid_1 : decode cX0_laid 1 = .ok (.i2l, 1) := dk_133 (dk_at dksX0_laid_0 1 rfl rfl)
theorem dX0_laid_2 : decode cX0_laid 2 = .ok (.lconst 0, 1) := dk_9 (dk_at dksX0_laid_0 2 rfl rfl)
theorem dX0_laid_3 : decode cX0_laid 3 = .ok (.aload_n 0, 1) := dk_42 (dk_at dksX0_laid_0 3 rfl rfl)
theorem dX0_laid_4 : decode cX0_laid 4 = .ok (.getfield 127, 3) := dk_180 0 127 (dk_at dksX0_laid_0 4 rfl rfl)
theorem dX0_laid_7 : decode cX0_laid 7 = .ok (.i2l, 1) := dk_133 (dk_at dksX0_laid_0 7 rfl rfl)
theorem dX0_laid_8 : decode cX0_laid 8 = .ok (.lconst 1, 1) := dk_10 (dk_at dksX0_laid_0 8 rfl rfl)
theorem dX0_laid_9 : decode cX0_laid 9 = .ok (.lsub, 1) := dk_101 (dk_at dksX0_laid_0 9 rfl rfl)
theorem dX0_laid_10 : decode cX0_laid 10 = .ok (.invokestatic 62, 3) := dk_184 0 62 (dk_at dksX0_laid_0 10 rfl rfl)
theorem dX0_laid_13 : decode cX0_laid 13 = .ok (.ifCond .eq 12, 3) := dk_153 0 12 (dk_at dksX0_laid_0 13 rfl rfl)
theorem dX0_laid_16 : decode cX0_laid 16 = .ok (.aload_n 0, 1) := dk_42 (dk_at dksX0_laid_0 16 rfl rfl)
theorem dX0_laid_17 : decode cX0_laid 17 = .ok (.getfield 28, 3) := dk_180 0 28 (dk_at dksX0_laid_0 17 rfl rfl)
theorem dX0_laid_20 : decode cX0_laid 20 = .ok (.iload_n 1, 1) := dk_27 (dk_at dksX0_laid_0 20 rfl rfl)
theorem dX0_laid_21 : decode cX0_laid 21 = .ok (.iaload, 1) := dk_46 (dk_at dksX0_laid_0 21 rfl rfl)
theorem dX0_laid_22 : decode cX0_laid 22 = .ok (.goto 4, 3) := dk_167 0 4 (dk_at dksX0_laid_1 0 rfl rfl)
theorem dX0_laid_25 : decode cX0_laid 25 = .ok (.iconst (-1), 1) := dk_2 (dk_at dksX0_laid_1 3 rfl rfl)
theorem dX0_laid_26 : decode cX0_laid 26 = .ok (.ireturn, 1) := dk_172 (dk_at dksX0_laid_1 4 rfl rfl)
abbrev cX0_speed : ByteArray := prog_1_method_19_code
def yX0_speed : MethodName := ⟨RX0, "speed", "(II)I"⟩
def dkwX0_speed_3 : List UInt8 := [28, 79, 42, 89, 180, 0, 173, 4, 96, 181, 0, 173, 42, 180, 0, 173, 172]
abbrev dktX0_speed_3 : List UInt8 := dkwX0_speed_3 ++ []
def dkwX0_speed_2 : List UInt8 := [160, 0, 6, 16, 252, 172, 42, 180, 0, 31, 42, 180, 0, 173, 27, 79, 42, 180, 0, 34, 42, 180, 0, 173]
abbrev dktX0_speed_2 : List UInt8 := dkwX0_speed_2 ++ dktX0_speed_3
def dkwX0_speed_1 : List UInt8 := [172, 27, 133, 9, 42, 180, 0, 170, 133, 184, 0, 62, 154, 0, 6, 16, 254, 172, 42, 180, 0, 173, 16, 8]
abbrev dktX0_speed_1 : List UInt8 := dkwX0_speed_1 ++ dktX0_speed_2
def dkwX0_speed_0 : List UInt8 := [28, 133, 10, 20, 0, 190, 184, 0, 62, 154, 0, 6, 16, 254, 172, 42, 180, 0, 127, 154, 0, 6, 16, 253]
abbrev dktX0_speed_0 : List UInt8 := dkwX0_speed_0 ++ dktX0_speed_1
theorem dksX0_speed_0 : cX0_speed.data.toList.drop 0 = dktX0_speed_0 := by decide +kernel
theorem dksX0_speed_1 : cX0_speed.data.toList.drop 24 = dktX0_speed_1 := dk_seg dksX0_speed_0 24 rfl rfl
theorem dksX0_speed_2 : cX0_speed.data.toList.drop 48 = dktX0_speed_2 := dk_seg dksX0_speed_1 24 rfl rfl
theorem dksX0_speed_3 : cX0_speed.data.toList.drop 72 = dktX0_speed_3 := dk_seg dksX0_speed_2 24 rfl rfl
theorem dX0_speed_0 : decode cX0_speed 0 = .ok (.iload_n 2, 1) := dk_28 (dk_at dksX0_speed_0 0 rfl rfl)
theorem dX0_speed_1 : decode cX0_speed 1 = .ok (.i2l, 1) := dk_133 (dk_at dksX0_speed_0 1 rfl rfl)
theorem dX0_speed_2 : decode cX0_speed 2 = .ok (.lconst 1, 1) := dk_10 (dk_at dksX0_speed_0 2 rfl rfl)
theorem dX0_speed_3 : decode cX0_speed 3 = .ok (.ldc2_w 190, 3) := dk_20 0 190 (dk_at dksX0_speed_0 3 rfl rfl)
theorem dX0_speed_6 : decode cX0_speed 6 = .ok (.invokestatic 62, 3) := dk_184 0 62 (dk_at dksX0_speed_0 6 rfl rfl)
theorem dX0_speed_9 : decode cX0_speed 9 = .ok (.ifCond .ne 6, 3) := dk_154 0 6 (dk_at dksX0_speed_0 9 rfl rfl)
theorem dX0_speed_12 : decode cX0_speed 12 = .ok (.bipush (-2), 2) := dk_16 254 (dk_at dksX0_speed_0 12 rfl rfl)
theorem dX0_speed_14 : decode cX0_speed 14 = .ok (.ireturn, 1) := dk_172 (dk_at dksX0_speed_0 14 rfl rfl)
theorem dX0_speed_15 : decode cX0_speed 15 = .ok (.aload_n 0, 1) := dk_42 (dk_at dksX0_speed_0 15 rfl rfl)
theorem dX0_speed_16 : decode cX0_speed 16 = .ok (.getfield 127, 3) := dk_180 0 127 (dk_at dksX0_speed_0 16 rfl rfl)
theorem dX0_speed_19 : decode cX0_speed 19 = .ok (.ifCond .ne 6, 3) := dk_154 0 6 (dk_at dksX0_speed_0 19 rfl rfl)
theorem dX0_speed_22 : decode cX0_speed 22 = .ok (.bipush (-3), 2) := dk_16 253 (dk_at dksX0_speed_0 22 rfl rfl)
theorem dX0_speed_24 : decode cX0_speed 24 = .ok (.ireturn, 1) := dk_172 (dk_at dksX0_speed_1 0 rfl rfl)
theorem dX0_speed_25 : decode cX0_speed 25 = .ok (.iload_n 1, 1) := dk_27 (dk_at dksX0_speed_1 1 rfl rfl)
theorem dX0_speed_26 : decode cX0_speed 26 = .ok (.i2l, 1) := dk_133 (dk_at dksX0_speed_1 2 rfl rfl)
theorem dX0_speed_27 : decode cX0_speed 27 = .ok (.lconst 0, 1) := dk_9 (dk_at dksX0_speed_1 3 rfl rfl)
theorem dX0_speed_28 : decode cX0_speed 28 = .ok (.aload_n 0, 1) := dk_42 (dk_at dksX0_speed_1 4 rfl rfl)
theorem dX0_speed_29 : decode cX0_speed 29 = .ok (.getfield 170, 3) := dk_180 0 170 (dk_at dksX0_speed_1 5 rfl rfl)
theorem dX0_speed_32 : decode cX0_speed 32 = .ok (.i2l, 1) := dk_133 (dk_at dksX0_speed_1 8 rfl rfl)
theorem dX0_speed_33 : decode cX0_speed 33 = .ok (.invokestatic 62, 3) := dk_184 0 62 (dk_at dksX0_speed_1 9 rfl rfl)
theorem dX0_speed_36 : decode cX0_speed 36 = .ok (.ifCond .ne 6, 3) := dk_154 0 6 (dk_at dksX0_speed_1 12 rfl rfl)
theorem dX0_speed_39 : decode cX0_speed 39 = .ok (.bipush (-2), 2) := dk_16 254 (dk_at dksX0_speed_1 15 rfl rfl)
theorem dX0_speed_41 : decode cX0_speed 41 = .ok (.ireturn, 1) := dk_172 (dk_at dksX0_speed_1 17 rfl rfl)
theorem dX0_speed_42 : decode cX0_speed 42 = .ok (.aload_n 0, 1) := dk_42 (dk_at dksX0_speed_1 18 rfl rfl)
theorem dX0_speed_43 : decode cX0_speed 43 = .ok (.getfield 173, 3) := dk_180 0 173 (dk_at dksX0_speed_1 19 rfl rfl)
theorem dX0_speed_46 : decode cX0_speed 46 = .ok (.bipush 8, 2) := dk_16 8 (dk_at dksX0_speed_1 22 rfl rfl)
theorem dX0_speed_48 : decode cX0_speed 48 = .ok (.if_icmp .ne 6, 3) := dk_160 0 6 (dk_at dksX0_speed_2 0 rfl rfl)
theorem dX0_speed_51 : decode cX0_speed 51 = .ok (.bipush (-4), 2) := dk_16 252 (dk_at dksX0_speed_2 3 rfl rfl)
theorem dX0_speed_53 : decode cX0_speed 53 = .ok (.ireturn, 1) := dk_172 (dk_at dksX0_speed_2 5 rfl rfl)
theorem dX0_speed_54 : decode cX0_speed 54 = .ok (.aload_n 0, 1) := dk_42 (dk_at dksX0_speed_2 6 rfl rfl)
theorem dX0_speed_55 : decode cX0_speed 55 = .ok (.getfield 31, 3) := dk_180 0 31 (dk_at dksX0_speed_2 7 rfl rfl)
theorem dX0_speed_58 : decode cX0_speed 58 = .ok (.aload_n 0, 1) := dk_42 (dk_at dksX0_speed_2 10 rfl rfl)
theorem dX0_speed_59 : decode cX0_speed 59 = .ok (.getfield 173, 3) := dk_180 0 173 (dk_at dksX0_speed_2 11 rfl rfl)
theorem dX0_speed_62 : decode cX0_speed 62 = .ok (.iload_n 1, 1) := dk_27 (dk_at dksX0_speed_2 14 rfl rfl)
theorem dX0_speed_63 : decode cX0_speed 63 = .ok (.iastore, 1) := dk_79 (dk_at dksX0_speed_2 15 rfl rfl)
theorem dX0_speed_64 : decode cX0_speed 64 = .ok (.aload_n 0, 1) := dk_42 (dk_at dksX0_speed_2 16 rfl rfl)
theorem dX0_speed_65 : decode cX0_speed 65 = .ok (.getfield 34, 3) := dk_180 0 34 (dk_at dksX0_speed_2 17 rfl rfl)
theorem dX0_speed_68 : decode cX0_speed 68 = .ok (.aload_n 0, 1) := dk_42 (dk_at dksX0_speed_2 20 rfl rfl)
theorem dX0_speed_69 : decode cX0_speed 69 = .ok (.getfield 173, 3) := dk_180 0 173 (dk_at dksX0_speed_2 21 rfl rfl)
theorem dX0_speed_72 : decode cX0_speed 72 = .ok (.iload_n 2, 1) := dk_28 (dk_at dksX0_speed_3 0 rfl rfl)
theorem dX0_speed_73 : decode cX0_speed 73 = .ok (.iastore, 1) := dk_79 (dk_at dksX0_speed_3 1 rfl rfl)
theorem dX0_speed_74 : decode cX0_speed 74 = .ok (.aload_n 0, 1) := dk_42 (dk_at dksX0_speed_3 2 rfl rfl)
theorem dX0_speed_75 : decode cX0_speed 75 = .ok (.dup, 1) := dk_89 (dk_at dksX0_speed_3 3 rfl rfl)
theorem dX0_speed_76 : decode cX0_speed 76 = .ok (.getfield 173, 3) := dk_180 0 173 (dk_at dksX0_speed_3 4 rfl rfl)
theorem dX0_speed_79 : decode cX0_speed 79 = .ok (.iconst 1, 1) := dk_4 (dk_at dksX0_speed_3 7 rfl rfl)
theorem dX0_speed_80 : decode cX0_speed 80 = .ok (.iadd, 1) := dk_96 (dk_at dksX0_speed_3 8 rfl rfl)
theorem dX0_speed_81 : decode cX0_speed 81 = .ok (.putfield 173, 3) := dk_181 0 173 (dk_at dksX0_speed_3 9 rfl rfl)
theorem dX0_speed_84 : decode cX0_speed 84 = .ok (.aload_n 0, 1) := dk_42 (dk_at dksX0_speed_3 12 rfl rfl)
theorem dX0_speed_85 : decode cX0_speed 85 = .ok (.getfield 173, 3) := dk_180 0 173 (dk_at dksX0_speed_3 13 rfl rfl)
theorem dX0_speed_88 : decode cX0_speed 88 = .ok (.ireturn, 1) := dk_172 (dk_at dksX0_speed_3 16 rfl rfl)
abbrev cX0_due : ByteArray := prog_1_method_24_code
def yX0_due : MethodName := ⟨RX0, "due", "(I)J"⟩
def dkwX0_due_1 : List UInt8 := [182, 0, 208, 167, 0, 6, 20, 0, 51, 173]
abbrev dktX0_due_1 : List UInt8 := dkwX0_due_1 ++ []
def dkwX0_due_0 : List UInt8 := [42, 182, 0, 205, 153, 0, 25, 27, 133, 9, 42, 180, 0, 170, 133, 184, 0, 62, 153, 0, 11, 42, 27]
abbrev dktX0_due_0 : List UInt8 := dkwX0_due_0 ++ dktX0_due_1
theorem dksX0_due_0 : cX0_due.data.toList.drop 0 = dktX0_due_0 := by decide +kernel
theorem dksX0_due_1 : cX0_due.data.toList.drop 23 = dktX0_due_1 := dk_seg dksX0_due_0 23 rfl rfl
theorem dX0_due_0 : decode cX0_due 0 = .ok (.aload_n 0, 1) := dk_42 (dk_at dksX0_due_0 0 rfl rfl)
theorem dX0_due_1 : decode cX0_due 1 = .ok (.invokevirtual 205, 3) := dk_182 0 205 (dk_at dksX0_due_0 1 rfl rfl)
theorem dX0_due_4 : decode cX0_due 4 = .ok (.ifCond .eq 25, 3) := dk_153 0 25 (dk_at dksX0_due_0 4 rfl rfl)
theorem dX0_due_7 : decode cX0_due 7 = .ok (.iload_n 1, 1) := dk_27 (dk_at dksX0_due_0 7 rfl rfl)
theorem dX0_due_8 : decode cX0_due 8 = .ok (.i2l, 1) := dk_133 (dk_at dksX0_due_0 8 rfl rfl)
theorem dX0_due_9 : decode cX0_due 9 = .ok (.lconst 0, 1) := dk_9 (dk_at dksX0_due_0 9 rfl rfl)
theorem dX0_due_10 : decode cX0_due 10 = .ok (.aload_n 0, 1) := dk_42 (dk_at dksX0_due_0 10 rfl rfl)
theorem dX0_due_11 : decode cX0_due 11 = .ok (.getfield 170, 3) := dk_180 0 170 (dk_at dksX0_due_0 11 rfl rfl)
theorem dX0_due_14 : decode cX0_due 14 = .ok (.i2l, 1) := dk_133 (dk_at dksX0_due_0 14 rfl rfl)
theorem dX0_due_15 : decode cX0_due 15 = .ok (.invokestatic 62, 3) := dk_184 0 62 (dk_at dksX0_due_0 15 rfl rfl)
theorem dX0_due_18 : decode cX0_due 18 = .ok (.ifCond .eq 11, 3) := dk_153 0 11 (dk_at dksX0_due_0 18 rfl rfl)
theorem dX0_due_21 : decode cX0_due 21 = .ok (.aload_n 0, 1) := dk_42 (dk_at dksX0_due_0 21 rfl rfl)
theorem dX0_due_22 : decode cX0_due 22 = .ok (.iload_n 1, 1) := dk_27 (dk_at dksX0_due_0 22 rfl rfl)
theorem dX0_due_23 : decode cX0_due 23 = .ok (.invokevirtual 208, 3) := dk_182 0 208 (dk_at dksX0_due_1 0 rfl rfl)
theorem dX0_due_26 : decode cX0_due 26 = .ok (.goto 6, 3) := dk_167 0 6 (dk_at dksX0_due_1 3 rfl rfl)
theorem dX0_due_29 : decode cX0_due 29 = .ok (.ldc2_w 51, 3) := dk_20 0 51 (dk_at dksX0_due_1 6 rfl rfl)
theorem dX0_due_32 : decode cX0_due 32 = .ok (.lreturn, 1) := dk_173 (dk_at dksX0_due_1 9 rfl rfl)
abbrev cX0_isTimed : ByteArray := prog_1_method_22_code
def yX0_isTimed : MethodName := ⟨RX0, "isTimed", "()Z"⟩
def dkwX0_isTimed_0 : List UInt8 := [42, 180, 0, 127, 158, 0, 15, 42, 3, 182, 0, 197, 158, 0, 7, 4, 167, 0, 4, 3, 172]
abbrev dktX0_isTimed_0 : List UInt8 := dkwX0_isTimed_0 ++ []
theorem dksX0_isTimed_0 : cX0_isTimed.data.toList.drop 0 = dktX0_isTimed_0 := by decide +kernel
theorem dX0_isTimed_0 : decode cX0_isTimed 0 = .ok (.aload_n 0, 1) := dk_42 (dk_at dksX0_isTimed_0 0 rfl rfl)
theorem dX0_isTimed_1 : decode cX0_isTimed 1 = .ok (.getfield 127, 3) := dk_180 0 127 (dk_at dksX0_isTimed_0 1 rfl rfl)
theorem dX0_isTimed_4 : decode cX0_isTimed 4 = .ok (.ifCond .le 15, 3) := dk_158 0 15 (dk_at dksX0_isTimed_0 4 rfl rfl)
theorem dX0_isTimed_7 : decode cX0_isTimed 7 = .ok (.aload_n 0, 1) := dk_42 (dk_at dksX0_isTimed_0 7 rfl rfl)
theorem dX0_isTimed_8 : decode cX0_isTimed 8 = .ok (.iconst 0, 1) := dk_3 (dk_at dksX0_isTimed_0 8 rfl rfl)
theorem dX0_isTimed_9 : decode cX0_isTimed 9 = .ok (.invokevirtual 197, 3) := dk_182 0 197 (dk_at dksX0_isTimed_0 9 rfl rfl)
theorem dX0_isTimed_12 : decode cX0_isTimed 12 = .ok (.ifCond .le 7, 3) := dk_158 0 7 (dk_at dksX0_isTimed_0 12 rfl rfl)
theorem dX0_isTimed_15 : decode cX0_isTimed 15 = .ok (.iconst 1, 1) := dk_4 (dk_at dksX0_isTimed_0 15 rfl rfl)
theorem dX0_isTimed_16 : decode cX0_isTimed 16 = .ok (.goto 4, 3) := dk_167 0 4 (dk_at dksX0_isTimed_0 16 rfl rfl)
theorem dX0_isTimed_19 : decode cX0_isTimed 19 = .ok (.iconst 0, 1) := dk_3 (dk_at dksX0_isTimed_0 19 rfl rfl)
theorem dX0_isTimed_20 : decode cX0_isTimed 20 = .ok (.ireturn, 1) := dk_172 (dk_at dksX0_isTimed_0 20 rfl rfl)
abbrev cX0_speedAt : ByteArray := prog_1_method_20_code
def yX0_speedAt : MethodName := ⟨RX0, "speedAt", "(I)I"⟩
def dkwX0_speedAt_1 : List UInt8 := [180, 0, 34, 29, 46, 167, 0, 4, 28, 61, 132, 3, 1, 167, 255, 224, 28, 172]
abbrev dktX0_speedAt_1 : List UInt8 := dkwX0_speedAt_1 ++ []
def dkwX0_speedAt_0 : List UInt8 := [3, 61, 3, 62, 29, 42, 180, 0, 173, 162, 0, 30, 42, 180, 0, 31, 29, 46, 27, 160, 0, 12, 42]
abbrev dktX0_speedAt_0 : List UInt8 := dkwX0_speedAt_0 ++ dktX0_speedAt_1
theorem dksX0_speedAt_0 : cX0_speedAt.data.toList.drop 0 = dktX0_speedAt_0 := by decide +kernel
theorem dksX0_speedAt_1 : cX0_speedAt.data.toList.drop 23 = dktX0_speedAt_1 := dk_seg dksX0_speedAt_0 23 rfl rfl
theorem dX0_speedAt_0 : decode cX0_speedAt 0 = .ok (.iconst 0, 1) := dk_3 (dk_at dksX0_speedAt_0 0 rfl rfl)
theorem dX0_speedAt_1 : decode cX0_speedAt 1 = .ok (.istore_n 2, 1) := dk_61 (dk_at dksX0_speedAt_0 1 rfl rfl)
theorem dX0_speedAt_2 : decode cX0_speedAt 2 = .ok (.iconst 0, 1) := dk_3 (dk_at dksX0_speedAt_0 2 rfl rfl)
theorem dX0_speedAt_3 : decode cX0_speedAt 3 = .ok (.istore_n 3, 1) := dk_62 (dk_at dksX0_speedAt_0 3 rfl rfl)
theorem dX0_speedAt_4 : decode cX0_speedAt 4 = .ok (.iload_n 3, 1) := dk_29 (dk_at dksX0_speedAt_0 4 rfl rfl)
theorem dX0_speedAt_5 : decode cX0_speedAt 5 = .ok (.aload_n 0, 1) := dk_42 (dk_at dksX0_speedAt_0 5 rfl rfl)
theorem dX0_speedAt_6 : decode cX0_speedAt 6 = .ok (.getfield 173, 3) := dk_180 0 173 (dk_at dksX0_speedAt_0 6 rfl rfl)
theorem dX0_speedAt_9 : decode cX0_speedAt 9 = .ok (.if_icmp .ge 30, 3) := dk_162 0 30 (dk_at dksX0_speedAt_0 9 rfl rfl)
theorem dX0_speedAt_12 : decode cX0_speedAt 12 = .ok (.aload_n 0, 1) := dk_42 (dk_at dksX0_speedAt_0 12 rfl rfl)
theorem dX0_speedAt_13 : decode cX0_speedAt 13 = .ok (.getfield 31, 3) := dk_180 0 31 (dk_at dksX0_speedAt_0 13 rfl rfl)
theorem dX0_speedAt_16 : decode cX0_speedAt 16 = .ok (.iload_n 3, 1) := dk_29 (dk_at dksX0_speedAt_0 16 rfl rfl)
theorem dX0_speedAt_17 : decode cX0_speedAt 17 = .ok (.iaload, 1) := dk_46 (dk_at dksX0_speedAt_0 17 rfl rfl)
theorem dX0_speedAt_18 : decode cX0_speedAt 18 = .ok (.iload_n 1, 1) := dk_27 (dk_at dksX0_speedAt_0 18 rfl rfl)
theorem dX0_speedAt_19 : decode cX0_speedAt 19 = .ok (.if_icmp .ne 12, 3) := dk_160 0 12 (dk_at dksX0_speedAt_0 19 rfl rfl)
theorem dX0_speedAt_22 : decode cX0_speedAt 22 = .ok (.aload_n 0, 1) := dk_42 (dk_at dksX0_speedAt_0 22 rfl rfl)
theorem dX0_speedAt_23 : decode cX0_speedAt 23 = .ok (.getfield 34, 3) := dk_180 0 34 (dk_at dksX0_speedAt_1 0 rfl rfl)
theorem dX0_speedAt_26 : decode cX0_speedAt 26 = .ok (.iload_n 3, 1) := dk_29 (dk_at dksX0_speedAt_1 3 rfl rfl)
theorem dX0_speedAt_27 : decode cX0_speedAt 27 = .ok (.iaload, 1) := dk_46 (dk_at dksX0_speedAt_1 4 rfl rfl)
theorem dX0_speedAt_28 : decode cX0_speedAt 28 = .ok (.goto 4, 3) := dk_167 0 4 (dk_at dksX0_speedAt_1 5 rfl rfl)
theorem dX0_speedAt_31 : decode cX0_speedAt 31 = .ok (.iload_n 2, 1) := dk_28 (dk_at dksX0_speedAt_1 8 rfl rfl)
theorem dX0_speedAt_32 : decode cX0_speedAt 32 = .ok (.istore_n 2, 1) := dk_61 (dk_at dksX0_speedAt_1 9 rfl rfl)
theorem dX0_speedAt_33 : decode cX0_speedAt 33 = .ok (.iinc 3 1, 3) := dk_132 3 1 (dk_at dksX0_speedAt_1 10 rfl rfl)
theorem dX0_speedAt_36 : decode cX0_speedAt 36 = .ok (.goto (-32), 3) := dk_167 255 224 (dk_at dksX0_speedAt_1 13 rfl rfl)
theorem dX0_speedAt_39 : decode cX0_speedAt 39 = .ok (.iload_n 2, 1) := dk_28 (dk_at dksX0_speedAt_1 16 rfl rfl)
theorem dX0_speedAt_40 : decode cX0_speedAt 40 = .ok (.ireturn, 1) := dk_172 (dk_at dksX0_speedAt_1 17 rfl rfl)
abbrev cX0_dueAt : ByteArray := prog_1_method_23_code
def yX0_dueAt : MethodName := ⟨RX0, "dueAt", "(I)J"⟩
def dkwX0_dueAt_2 : List UInt8 := [32, 173]
abbrev dktX0_dueAt_2 : List UInt8 := dkwX0_dueAt_2 ++ []
def dkwX0_dueAt_1 : List UInt8 := [21, 5, 21, 4, 100, 133, 105, 42, 21, 4, 182, 0, 197, 133, 109, 97, 65, 21, 5, 54, 4, 167, 255, 216]
abbrev dktX0_dueAt_1 : List UInt8 := dkwX0_dueAt_1 ++ dktX0_dueAt_2
def dkwX0_dueAt_0 : List UInt8 := [9, 65, 3, 54, 4, 21, 4, 27, 162, 0, 40, 42, 21, 4, 27, 182, 0, 200, 54, 5, 32, 20, 0, 203]
abbrev dktX0_dueAt_0 : List UInt8 := dkwX0_dueAt_0 ++ dktX0_dueAt_1
theorem dksX0_dueAt_0 : cX0_dueAt.data.toList.drop 0 = dktX0_dueAt_0 := by decide +kernel
theorem dksX0_dueAt_1 : cX0_dueAt.data.toList.drop 24 = dktX0_dueAt_1 := dk_seg dksX0_dueAt_0 24 rfl rfl
theorem dksX0_dueAt_2 : cX0_dueAt.data.toList.drop 48 = dktX0_dueAt_2 := dk_seg dksX0_dueAt_1 24 rfl rfl
theorem dX0_dueAt_0 : decode cX0_dueAt 0 = .ok (.lconst 0, 1) := dk_9 (dk_at dksX0_dueAt_0 0 rfl rfl)
theorem dX0_dueAt_1 : decode cX0_dueAt 1 = .ok (.lstore_n 2, 1) := dk_65 (dk_at dksX0_dueAt_0 1 rfl rfl)
theorem dX0_dueAt_2 : decode cX0_dueAt 2 = .ok (.iconst 0, 1) := dk_3 (dk_at dksX0_dueAt_0 2 rfl rfl)
theorem dX0_dueAt_3 : decode cX0_dueAt 3 = .ok (.istore 4, 2) := dk_54 4 (dk_at dksX0_dueAt_0 3 rfl rfl)
theorem dX0_dueAt_5 : decode cX0_dueAt 5 = .ok (.iload 4, 2) := dk_21 4 (dk_at dksX0_dueAt_0 5 rfl rfl)
theorem dX0_dueAt_7 : decode cX0_dueAt 7 = .ok (.iload_n 1, 1) := dk_27 (dk_at dksX0_dueAt_0 7 rfl rfl)
theorem dX0_dueAt_8 : decode cX0_dueAt 8 = .ok (.if_icmp .ge 40, 3) := dk_162 0 40 (dk_at dksX0_dueAt_0 8 rfl rfl)
theorem dX0_dueAt_11 : decode cX0_dueAt 11 = .ok (.aload_n 0, 1) := dk_42 (dk_at dksX0_dueAt_0 11 rfl rfl)
theorem dX0_dueAt_12 : decode cX0_dueAt 12 = .ok (.iload 4, 2) := dk_21 4 (dk_at dksX0_dueAt_0 12 rfl rfl)
theorem dX0_dueAt_14 : decode cX0_dueAt 14 = .ok (.iload_n 1, 1) := dk_27 (dk_at dksX0_dueAt_0 14 rfl rfl)
theorem dX0_dueAt_15 : decode cX0_dueAt 15 = .ok (.invokevirtual 200, 3) := dk_182 0 200 (dk_at dksX0_dueAt_0 15 rfl rfl)
theorem dX0_dueAt_18 : decode cX0_dueAt 18 = .ok (.istore 5, 2) := dk_54 5 (dk_at dksX0_dueAt_0 18 rfl rfl)
theorem dX0_dueAt_20 : decode cX0_dueAt 20 = .ok (.lload_n 2, 1) := dk_32 (dk_at dksX0_dueAt_0 20 rfl rfl)
theorem dX0_dueAt_21 : decode cX0_dueAt 21 = .ok (.ldc2_w 203, 3) := dk_20 0 203 (dk_at dksX0_dueAt_0 21 rfl rfl)
theorem dX0_dueAt_24 : decode cX0_dueAt 24 = .ok (.iload 5, 2) := dk_21 5 (dk_at dksX0_dueAt_1 0 rfl rfl)
theorem dX0_dueAt_26 : decode cX0_dueAt 26 = .ok (.iload 4, 2) := dk_21 4 (dk_at dksX0_dueAt_1 2 rfl rfl)
theorem dX0_dueAt_28 : decode cX0_dueAt 28 = .ok (.isub, 1) := dk_100 (dk_at dksX0_dueAt_1 4 rfl rfl)
theorem dX0_dueAt_29 : decode cX0_dueAt 29 = .ok (.i2l, 1) := dk_133 (dk_at dksX0_dueAt_1 5 rfl rfl)
theorem dX0_dueAt_30 : decode cX0_dueAt 30 = .ok (.lmul, 1) := dk_105 (dk_at dksX0_dueAt_1 6 rfl rfl)
theorem dX0_dueAt_31 : decode cX0_dueAt 31 = .ok (.aload_n 0, 1) := dk_42 (dk_at dksX0_dueAt_1 7 rfl rfl)
theorem dX0_dueAt_32 : decode cX0_dueAt 32 = .ok (.iload 4, 2) := dk_21 4 (dk_at dksX0_dueAt_1 8 rfl rfl)
theorem dX0_dueAt_34 : decode cX0_dueAt 34 = .ok (.invokevirtual 197, 3) := dk_182 0 197 (dk_at dksX0_dueAt_1 10 rfl rfl)
theorem dX0_dueAt_37 : decode cX0_dueAt 37 = .ok (.i2l, 1) := dk_133 (dk_at dksX0_dueAt_1 13 rfl rfl)
theorem dX0_dueAt_38 : decode cX0_dueAt 38 = .ok (.ldiv, 1) := dk_109 (dk_at dksX0_dueAt_1 14 rfl rfl)
theorem dX0_dueAt_39 : decode cX0_dueAt 39 = .ok (.ladd, 1) := dk_97 (dk_at dksX0_dueAt_1 15 rfl rfl)
theorem dX0_dueAt_40 : decode cX0_dueAt 40 = .ok (.lstore_n 2, 1) := dk_65 (dk_at dksX0_dueAt_1 16 rfl rfl)
theorem dX0_dueAt_41 : decode cX0_dueAt 41 = .ok (.iload 5, 2) := dk_21 5 (dk_at dksX0_dueAt_1 17 rfl rfl)
theorem dX0_dueAt_43 : decode cX0_dueAt 43 = .ok (.istore 4, 2) := dk_54 4 (dk_at dksX0_dueAt_1 19 rfl rfl)
theorem dX0_dueAt_45 : decode cX0_dueAt 45 = .ok (.goto (-40), 3) := dk_167 255 216 (dk_at dksX0_dueAt_1 21 rfl rfl)
theorem dX0_dueAt_48 : decode cX0_dueAt 48 = .ok (.lload_n 2, 1) := dk_32 (dk_at dksX0_dueAt_2 0 rfl rfl)
theorem dX0_dueAt_49 : decode cX0_dueAt 49 = .ok (.lreturn, 1) := dk_173 (dk_at dksX0_dueAt_2 1 rfl rfl)
abbrev cX0_nextPlace : ByteArray := prog_1_method_21_code
def yX0_nextPlace : MethodName := ⟨RX0, "nextPlace", "(II)I"⟩
def dkwX0_nextPlace_1 : List UInt8 := [164, 0, 15, 29, 42, 180, 0, 31, 21, 4, 46, 184, 0, 192, 62, 132, 4, 1, 167, 255, 221, 29, 172]
abbrev dktX0_nextPlace_1 : List UInt8 := dkwX0_nextPlace_1 ++ []
def dkwX0_nextPlace_0 : List UInt8 := [28, 62, 3, 54, 4, 21, 4, 42, 180, 0, 173, 162, 0, 32, 42, 180, 0, 31, 21, 4, 46, 27]
abbrev dktX0_nextPlace_0 : List UInt8 := dkwX0_nextPlace_0 ++ dktX0_nextPlace_1
theorem dksX0_nextPlace_0 : cX0_nextPlace.data.toList.drop 0 = dktX0_nextPlace_0 := by decide +kernel
theorem dksX0_nextPlace_1 : cX0_nextPlace.data.toList.drop 22 = dktX0_nextPlace_1 := dk_seg dksX0_nextPlace_0 22 rfl rfl
theorem dX0_nextPlace_0 : decode cX0_nextPlace 0 = .ok (.iload_n 2, 1) := dk_28 (dk_at dksX0_nextPlace_0 0 rfl rfl)
theorem dX0_nextPlace_1 : decode cX0_nextPlace 1 = .ok (.istore_n 3, 1) := dk_62 (dk_at dksX0_nextPlace_0 1 rfl rfl)
theorem dX0_nextPlace_2 : decode cX0_nextPlace 2 = .ok (.iconst 0, 1) := dk_3 (dk_at dksX0_nextPlace_0 2 rfl rfl)
theorem dX0_nextPlace_3 : decode cX0_nextPlace 3 = .ok (.istore 4, 2) := dk_54 4 (dk_at dksX0_nextPlace_0 3 rfl rfl)
theorem dX0_nextPlace_5 : decode cX0_nextPlace 5 = .ok (.iload 4, 2) := dk_21 4 (dk_at dksX0_nextPlace_0 5 rfl rfl)
theorem dX0_nextPlace_7 : decode cX0_nextPlace 7 = .ok (.aload_n 0, 1) := dk_42 (dk_at dksX0_nextPlace_0 7 rfl rfl)
theorem dX0_nextPlace_8 : decode cX0_nextPlace 8 = .ok (.getfield 173, 3) := dk_180 0 173 (dk_at dksX0_nextPlace_0 8 rfl rfl)
theorem dX0_nextPlace_11 : decode cX0_nextPlace 11 = .ok (.if_icmp .ge 32, 3) := dk_162 0 32 (dk_at dksX0_nextPlace_0 11 rfl rfl)
theorem dX0_nextPlace_14 : decode cX0_nextPlace 14 = .ok (.aload_n 0, 1) := dk_42 (dk_at dksX0_nextPlace_0 14 rfl rfl)
theorem dX0_nextPlace_15 : decode cX0_nextPlace 15 = .ok (.getfield 31, 3) := dk_180 0 31 (dk_at dksX0_nextPlace_0 15 rfl rfl)
theorem dX0_nextPlace_18 : decode cX0_nextPlace 18 = .ok (.iload 4, 2) := dk_21 4 (dk_at dksX0_nextPlace_0 18 rfl rfl)
theorem dX0_nextPlace_20 : decode cX0_nextPlace 20 = .ok (.iaload, 1) := dk_46 (dk_at dksX0_nextPlace_0 20 rfl rfl)
theorem dX0_nextPlace_21 : decode cX0_nextPlace 21 = .ok (.iload_n 1, 1) := dk_27 (dk_at dksX0_nextPlace_0 21 rfl rfl)
theorem dX0_nextPlace_22 : decode cX0_nextPlace 22 = .ok (.if_icmp .le 15, 3) := dk_164 0 15 (dk_at dksX0_nextPlace_1 0 rfl rfl)
theorem dX0_nextPlace_25 : decode cX0_nextPlace 25 = .ok (.iload_n 3, 1) := dk_29 (dk_at dksX0_nextPlace_1 3 rfl rfl)
theorem dX0_nextPlace_26 : decode cX0_nextPlace 26 = .ok (.aload_n 0, 1) := dk_42 (dk_at dksX0_nextPlace_1 4 rfl rfl)
theorem dX0_nextPlace_27 : decode cX0_nextPlace 27 = .ok (.getfield 31, 3) := dk_180 0 31 (dk_at dksX0_nextPlace_1 5 rfl rfl)
theorem dX0_nextPlace_30 : decode cX0_nextPlace 30 = .ok (.iload 4, 2) := dk_21 4 (dk_at dksX0_nextPlace_1 8 rfl rfl)
theorem dX0_nextPlace_32 : decode cX0_nextPlace 32 = .ok (.iaload, 1) := dk_46 (dk_at dksX0_nextPlace_1 10 rfl rfl)
theorem dX0_nextPlace_33 : decode cX0_nextPlace 33 = .ok (.invokestatic 192, 3) := dk_184 0 192 (dk_at dksX0_nextPlace_1 11 rfl rfl)
theorem dX0_nextPlace_36 : decode cX0_nextPlace 36 = .ok (.istore_n 3, 1) := dk_62 (dk_at dksX0_nextPlace_1 14 rfl rfl)
theorem dX0_nextPlace_37 : decode cX0_nextPlace 37 = .ok (.iinc 4 1, 3) := dk_132 4 1 (dk_at dksX0_nextPlace_1 15 rfl rfl)
theorem dX0_nextPlace_40 : decode cX0_nextPlace 40 = .ok (.goto (-35), 3) := dk_167 255 221 (dk_at dksX0_nextPlace_1 18 rfl rfl)
theorem dX0_nextPlace_43 : decode cX0_nextPlace 43 = .ok (.iload_n 3, 1) := dk_29 (dk_at dksX0_nextPlace_1 21 rfl rfl)
theorem dX0_nextPlace_44 : decode cX0_nextPlace 44 = .ok (.ireturn, 1) := dk_172 (dk_at dksX0_nextPlace_1 22 rfl rfl)
abbrev cX0_roadAt : ByteArray := prog_1_method_25_code
def yX0_roadAt : MethodName := ⟨RX0, "roadAt", "(I)I"⟩
def dkwX0_roadAt_3 : List UInt8 := [29, 46, 172, 132, 3, 1, 167, 255, 209, 42, 180, 0, 28, 42, 180, 0, 127, 4, 100, 46, 172]
abbrev dktX0_roadAt_3 : List UInt8 := dkwX0_roadAt_3 ++ []
def dkwX0_roadAt_2 : List UInt8 := [29, 46, 185, 0, 94, 2, 0, 192, 0, 76, 180, 0, 117, 96, 61, 27, 28, 162, 0, 10, 42, 180, 0, 28]
abbrev dktX0_roadAt_2 : List UInt8 := dkwX0_roadAt_2 ++ dktX0_roadAt_3
def dkwX0_roadAt_1 : List UInt8 := [16, 254, 172, 3, 61, 3, 62, 29, 42, 180, 0, 127, 162, 0, 45, 28, 42, 180, 0, 12, 42, 180, 0, 28]
abbrev dktX0_roadAt_1 : List UInt8 := dkwX0_roadAt_1 ++ dktX0_roadAt_2
def dkwX0_roadAt_0 : List UInt8 := [42, 180, 0, 127, 154, 0, 6, 16, 253, 172, 27, 133, 9, 42, 180, 0, 170, 133, 184, 0, 62, 154, 0, 6]
abbrev dktX0_roadAt_0 : List UInt8 := dkwX0_roadAt_0 ++ dktX0_roadAt_1
theorem dksX0_roadAt_0 : cX0_roadAt.data.toList.drop 0 = dktX0_roadAt_0 := by decide +kernel
theorem dksX0_roadAt_1 : cX0_roadAt.data.toList.drop 24 = dktX0_roadAt_1 := dk_seg dksX0_roadAt_0 24 rfl rfl
theorem dksX0_roadAt_2 : cX0_roadAt.data.toList.drop 48 = dktX0_roadAt_2 := dk_seg dksX0_roadAt_1 24 rfl rfl
theorem dksX0_roadAt_3 : cX0_roadAt.data.toList.drop 72 = dktX0_roadAt_3 := dk_seg dksX0_roadAt_2 24 rfl rfl
theorem dX0_roadAt_0 : decode cX0_roadAt 0 = .ok (.aload_n 0, 1) := dk_42 (dk_at dksX0_roadAt_0 0 rfl rfl)
theorem dX0_roadAt_1 : decode cX0_roadAt 1 = .ok (.getfield 127, 3) := dk_180 0 127 (dk_at dksX0_roadAt_0 1 rfl rfl)
theorem dX0_roadAt_4 : decode cX0_roadAt 4 = .ok (.ifCond .ne 6, 3) := dk_154 0 6 (dk_at dksX0_roadAt_0 4 rfl rfl)
theorem dX0_roadAt_7 : decode cX0_roadAt 7 = .ok (.bipush (-3), 2) := dk_16 253 (dk_at dksX0_roadAt_0 7 rfl rfl)
theorem dX0_roadAt_9 : decode cX0_roadAt 9 = .ok (.ireturn, 1) := dk_172 (dk_at dksX0_roadAt_0 9 rfl rfl)
theorem dX0_roadAt_10 : decode cX0_roadAt 10 = .ok (.iload_n 1, 1) := dk_27 (dk_at dksX0_roadAt_0 10 rfl rfl)
theorem dX0_roadAt_11 : decode cX0_roadAt 11 = .ok (.i2l, 1) := dk_133 (dk_at dksX0_roadAt_0 11 rfl rfl)
theorem dX0_roadAt_12 : decode cX0_roadAt 12 = .ok (.lconst 0, 1) := dk_9 (dk_at dksX0_roadAt_0 12 rfl rfl)
theorem dX0_roadAt_13 : decode cX0_roadAt 13 = .ok (.aload_n 0, 1) := dk_42 (dk_at dksX0_roadAt_0 13 rfl rfl)
theorem dX0_roadAt_14 : decode cX0_roadAt 14 = .ok (.getfield 170, 3) := dk_180 0 170 (dk_at dksX0_roadAt_0 14 rfl rfl)
theorem dX0_roadAt_17 : decode cX0_roadAt 17 = .ok (.i2l, 1) := dk_133 (dk_at dksX0_roadAt_0 17 rfl rfl)
theorem dX0_roadAt_18 : decode cX0_roadAt 18 = .ok (.invokestatic 62, 3) := dk_184 0 62 (dk_at dksX0_roadAt_0 18 rfl rfl)
theorem dX0_roadAt_21 : decode cX0_roadAt 21 = .ok (.ifCond .ne 6, 3) := dk_154 0 6 (dk_at dksX0_roadAt_0 21 rfl rfl)
theorem dX0_roadAt_24 : decode cX0_roadAt 24 = .ok (.bipush (-2), 2) := dk_16 254 (dk_at dksX0_roadAt_1 0 rfl rfl)
theorem dX0_roadAt_26 : decode cX0_roadAt 26 = .ok (.ireturn, 1) := dk_172 (dk_at dksX0_roadAt_1 2 rfl rfl)
theorem dX0_roadAt_27 : decode cX0_roadAt 27 = .ok (.iconst 0, 1) := dk_3 (dk_at dksX0_roadAt_1 3 rfl rfl)
theorem dX0_roadAt_28 : decode cX0_roadAt 28 = .ok (.istore_n 2, 1) := dk_61 (dk_at dksX0_roadAt_1 4 rfl rfl)
theorem dX0_roadAt_29 : decode cX0_roadAt 29 = .ok (.iconst 0, 1) := dk_3 (dk_at dksX0_roadAt_1 5 rfl rfl)
theorem dX0_roadAt_30 : decode cX0_roadAt 30 = .ok (.istore_n 3, 1) := dk_62 (dk_at dksX0_roadAt_1 6 rfl rfl)
theorem dX0_roadAt_31 : decode cX0_roadAt 31 = .ok (.iload_n 3, 1) := dk_29 (dk_at dksX0_roadAt_1 7 rfl rfl)
theorem dX0_roadAt_32 : decode cX0_roadAt 32 = .ok (.aload_n 0, 1) := dk_42 (dk_at dksX0_roadAt_1 8 rfl rfl)
theorem dX0_roadAt_33 : decode cX0_roadAt 33 = .ok (.getfield 127, 3) := dk_180 0 127 (dk_at dksX0_roadAt_1 9 rfl rfl)
theorem dX0_roadAt_36 : decode cX0_roadAt 36 = .ok (.if_icmp .ge 45, 3) := dk_162 0 45 (dk_at dksX0_roadAt_1 12 rfl rfl)
theorem dX0_roadAt_39 : decode cX0_roadAt 39 = .ok (.iload_n 2, 1) := dk_28 (dk_at dksX0_roadAt_1 15 rfl rfl)
theorem dX0_roadAt_40 : decode cX0_roadAt 40 = .ok (.aload_n 0, 1) := dk_42 (dk_at dksX0_roadAt_1 16 rfl rfl)
theorem dX0_roadAt_41 : decode cX0_roadAt 41 = .ok (.getfield 12, 3) := dk_180 0 12 (dk_at dksX0_roadAt_1 17 rfl rfl)
theorem dX0_roadAt_44 : decode cX0_roadAt 44 = .ok (.aload_n 0, 1) := dk_42 (dk_at dksX0_roadAt_1 20 rfl rfl)
theorem dX0_roadAt_45 : decode cX0_roadAt 45 = .ok (.getfield 28, 3) := dk_180 0 28 (dk_at dksX0_roadAt_1 21 rfl rfl)
theorem dX0_roadAt_48 : decode cX0_roadAt 48 = .ok (.iload_n 3, 1) := dk_29 (dk_at dksX0_roadAt_2 0 rfl rfl)
theorem dX0_roadAt_49 : decode cX0_roadAt 49 = .ok (.iaload, 1) := dk_46 (dk_at dksX0_roadAt_2 1 rfl rfl)
theorem dX0_roadAt_50 : decode cX0_roadAt 50 = .ok (.invokeinterface 94 2, 5) := by decide +kernel
theorem dX0_roadAt_55 : decode cX0_roadAt 55 = .ok (.checkcast 76, 3) := dk_192 0 76 (dk_at dksX0_roadAt_2 7 rfl rfl)
theorem dX0_roadAt_58 : decode cX0_roadAt 58 = .ok (.getfield 117, 3) := dk_180 0 117 (dk_at dksX0_roadAt_2 10 rfl rfl)
theorem dX0_roadAt_61 : decode cX0_roadAt 61 = .ok (.iadd, 1) := dk_96 (dk_at dksX0_roadAt_2 13 rfl rfl)
theorem dX0_roadAt_62 : decode cX0_roadAt 62 = .ok (.istore_n 2, 1) := dk_61 (dk_at dksX0_roadAt_2 14 rfl rfl)
theorem dX0_roadAt_63 : decode cX0_roadAt 63 = .ok (.iload_n 1, 1) := dk_27 (dk_at dksX0_roadAt_2 15 rfl rfl)
theorem dX0_roadAt_64 : decode cX0_roadAt 64 = .ok (.iload_n 2, 1) := dk_28 (dk_at dksX0_roadAt_2 16 rfl rfl)
theorem dX0_roadAt_65 : decode cX0_roadAt 65 = .ok (.if_icmp .ge 10, 3) := dk_162 0 10 (dk_at dksX0_roadAt_2 17 rfl rfl)
theorem dX0_roadAt_68 : decode cX0_roadAt 68 = .ok (.aload_n 0, 1) := dk_42 (dk_at dksX0_roadAt_2 20 rfl rfl)
theorem dX0_roadAt_69 : decode cX0_roadAt 69 = .ok (.getfield 28, 3) := dk_180 0 28 (dk_at dksX0_roadAt_2 21 rfl rfl)
theorem dX0_roadAt_72 : decode cX0_roadAt 72 = .ok (.iload_n 3, 1) := dk_29 (dk_at dksX0_roadAt_3 0 rfl rfl)
theorem dX0_roadAt_73 : decode cX0_roadAt 73 = .ok (.iaload, 1) := dk_46 (dk_at dksX0_roadAt_3 1 rfl rfl)
theorem dX0_roadAt_74 : decode cX0_roadAt 74 = .ok (.ireturn, 1) := dk_172 (dk_at dksX0_roadAt_3 2 rfl rfl)
theorem dX0_roadAt_75 : decode cX0_roadAt 75 = .ok (.iinc 3 1, 3) := dk_132 3 1 (dk_at dksX0_roadAt_3 3 rfl rfl)
theorem dX0_roadAt_78 : decode cX0_roadAt 78 = .ok (.goto (-47), 3) := dk_167 255 209 (dk_at dksX0_roadAt_3 6 rfl rfl)
theorem dX0_roadAt_81 : decode cX0_roadAt 81 = .ok (.aload_n 0, 1) := dk_42 (dk_at dksX0_roadAt_3 9 rfl rfl)
theorem dX0_roadAt_82 : decode cX0_roadAt 82 = .ok (.getfield 28, 3) := dk_180 0 28 (dk_at dksX0_roadAt_3 10 rfl rfl)
theorem dX0_roadAt_85 : decode cX0_roadAt 85 = .ok (.aload_n 0, 1) := dk_42 (dk_at dksX0_roadAt_3 13 rfl rfl)
theorem dX0_roadAt_86 : decode cX0_roadAt 86 = .ok (.getfield 127, 3) := dk_180 0 127 (dk_at dksX0_roadAt_3 14 rfl rfl)
theorem dX0_roadAt_89 : decode cX0_roadAt 89 = .ok (.iconst 1, 1) := dk_4 (dk_at dksX0_roadAt_3 17 rfl rfl)
theorem dX0_roadAt_90 : decode cX0_roadAt 90 = .ok (.isub, 1) := dk_100 (dk_at dksX0_roadAt_3 18 rfl rfl)
theorem dX0_roadAt_91 : decode cX0_roadAt 91 = .ok (.iaload, 1) := dk_46 (dk_at dksX0_roadAt_3 19 rfl rfl)
theorem dX0_roadAt_92 : decode cX0_roadAt 92 = .ok (.ireturn, 1) := dk_172 (dk_at dksX0_roadAt_3 20 rfl rfl)
abbrev cX0_control : ByteArray := prog_1_method_27_code
def yX0_control : MethodName := ⟨RX0, "control", "(I)I"⟩
def dkwX0_control_4 : List UInt8 := [89, 27, 183, 0, 217, 185, 0, 87, 2, 0, 87, 42, 180, 0, 37, 185, 0, 56, 1, 0, 4, 100, 172]
abbrev dktX0_control_4 : List UInt8 := dkwX0_control_4 ++ []
def dkwX0_control_3 : List UInt8 := [42, 180, 0, 37, 185, 0, 56, 1, 0, 16, 8, 160, 0, 6, 16, 252, 172, 42, 180, 0, 37, 187, 0, 212]
abbrev dktX0_control_3 : List UInt8 := dkwX0_control_3 ++ dktX0_control_4
def dkwX0_control_2 : List UInt8 := [185, 0, 94, 2, 0, 192, 0, 212, 180, 0, 214, 27, 160, 0, 6, 16, 253, 172, 132, 2, 1, 167, 255, 217]
abbrev dktX0_control_2 : List UInt8 := dkwX0_control_2 ++ dktX0_control_3
def dkwX0_control_1 : List UInt8 := [16, 254, 172, 3, 61, 28, 42, 180, 0, 37, 185, 0, 56, 1, 0, 162, 0, 32, 42, 180, 0, 37, 28]
abbrev dktX0_control_1 : List UInt8 := dkwX0_control_1 ++ dktX0_control_2
def dkwX0_control_0 : List UInt8 := [42, 180, 0, 127, 154, 0, 6, 16, 253, 172, 27, 133, 10, 42, 180, 0, 170, 133, 184, 0, 62, 154, 0, 6]
abbrev dktX0_control_0 : List UInt8 := dkwX0_control_0 ++ dktX0_control_1
theorem dksX0_control_0 : cX0_control.data.toList.drop 0 = dktX0_control_0 := by decide +kernel
theorem dksX0_control_1 : cX0_control.data.toList.drop 24 = dktX0_control_1 := dk_seg dksX0_control_0 24 rfl rfl
theorem dksX0_control_2 : cX0_control.data.toList.drop 47 = dktX0_control_2 := dk_seg dksX0_control_1 23 rfl rfl
theorem dksX0_control_3 : cX0_control.data.toList.drop 71 = dktX0_control_3 := dk_seg dksX0_control_2 24 rfl rfl
theorem dksX0_control_4 : cX0_control.data.toList.drop 95 = dktX0_control_4 := dk_seg dksX0_control_3 24 rfl rfl
theorem dX0_control_0 : decode cX0_control 0 = .ok (.aload_n 0, 1) := dk_42 (dk_at dksX0_control_0 0 rfl rfl)
theorem dX0_control_1 : decode cX0_control 1 = .ok (.getfield 127, 3) := dk_180 0 127 (dk_at dksX0_control_0 1 rfl rfl)
theorem dX0_control_4 : decode cX0_control 4 = .ok (.ifCond .ne 6, 3) := dk_154 0 6 (dk_at dksX0_control_0 4 rfl rfl)
theorem dX0_control_7 : decode cX0_control 7 = .ok (.bipush (-3), 2) := dk_16 253 (dk_at dksX0_control_0 7 rfl rfl)
theorem dX0_control_9 : decode cX0_control 9 = .ok (.ireturn, 1) := dk_172 (dk_at dksX0_control_0 9 rfl rfl)
theorem dX0_control_10 : decode cX0_control 10 = .ok (.iload_n 1, 1) := dk_27 (dk_at dksX0_control_0 10 rfl rfl)
theorem dX0_control_11 : decode cX0_control 11 = .ok (.i2l, 1) := dk_133 (dk_at dksX0_control_0 11 rfl rfl)
theorem dX0_control_12 : decode cX0_control 12 = .ok (.lconst 1, 1) := dk_10 (dk_at dksX0_control_0 12 rfl rfl)
theorem dX0_control_13 : decode cX0_control 13 = .ok (.aload_n 0, 1) := dk_42 (dk_at dksX0_control_0 13 rfl rfl)
theorem dX0_control_14 : decode cX0_control 14 = .ok (.getfield 170, 3) := dk_180 0 170 (dk_at dksX0_control_0 14 rfl rfl)
theorem dX0_control_17 : decode cX0_control 17 = .ok (.i2l, 1) := dk_133 (dk_at dksX0_control_0 17 rfl rfl)
theorem dX0_control_18 : decode cX0_control 18 = .ok (.invokestatic 62, 3) := dk_184 0 62 (dk_at dksX0_control_0 18 rfl rfl)
theorem dX0_control_21 : decode cX0_control 21 = .ok (.ifCond .ne 6, 3) := dk_154 0 6 (dk_at dksX0_control_0 21 rfl rfl)
theorem dX0_control_24 : decode cX0_control 24 = .ok (.bipush (-2), 2) := dk_16 254 (dk_at dksX0_control_1 0 rfl rfl)
theorem dX0_control_26 : decode cX0_control 26 = .ok (.ireturn, 1) := dk_172 (dk_at dksX0_control_1 2 rfl rfl)
theorem dX0_control_27 : decode cX0_control 27 = .ok (.iconst 0, 1) := dk_3 (dk_at dksX0_control_1 3 rfl rfl)
theorem dX0_control_28 : decode cX0_control 28 = .ok (.istore_n 2, 1) := dk_61 (dk_at dksX0_control_1 4 rfl rfl)
theorem dX0_control_29 : decode cX0_control 29 = .ok (.iload_n 2, 1) := dk_28 (dk_at dksX0_control_1 5 rfl rfl)
theorem dX0_control_30 : decode cX0_control 30 = .ok (.aload_n 0, 1) := dk_42 (dk_at dksX0_control_1 6 rfl rfl)
theorem dX0_control_31 : decode cX0_control 31 = .ok (.getfield 37, 3) := dk_180 0 37 (dk_at dksX0_control_1 7 rfl rfl)
theorem dX0_control_34 : decode cX0_control 34 = .ok (.invokeinterface 56 1, 5) := by decide +kernel
theorem dX0_control_39 : decode cX0_control 39 = .ok (.if_icmp .ge 32, 3) := dk_162 0 32 (dk_at dksX0_control_1 15 rfl rfl)
theorem dX0_control_42 : decode cX0_control 42 = .ok (.aload_n 0, 1) := dk_42 (dk_at dksX0_control_1 18 rfl rfl)
theorem dX0_control_43 : decode cX0_control 43 = .ok (.getfield 37, 3) := dk_180 0 37 (dk_at dksX0_control_1 19 rfl rfl)
theorem dX0_control_46 : decode cX0_control 46 = .ok (.iload_n 2, 1) := dk_28 (dk_at dksX0_control_1 22 rfl rfl)
theorem dX0_control_47 : decode cX0_control 47 = .ok (.invokeinterface 94 2, 5) := by decide +kernel
theorem dX0_control_52 : decode cX0_control 52 = .ok (.checkcast 212, 3) := dk_192 0 212 (dk_at dksX0_control_2 5 rfl rfl)
theorem dX0_control_55 : decode cX0_control 55 = .ok (.getfield 214, 3) := dk_180 0 214 (dk_at dksX0_control_2 8 rfl rfl)
theorem dX0_control_58 : decode cX0_control 58 = .ok (.iload_n 1, 1) := dk_27 (dk_at dksX0_control_2 11 rfl rfl)
theorem dX0_control_59 : decode cX0_control 59 = .ok (.if_icmp .ne 6, 3) := dk_160 0 6 (dk_at dksX0_control_2 12 rfl rfl)
theorem dX0_control_62 : decode cX0_control 62 = .ok (.bipush (-3), 2) := dk_16 253 (dk_at dksX0_control_2 15 rfl rfl)
theorem dX0_control_64 : decode cX0_control 64 = .ok (.ireturn, 1) := dk_172 (dk_at dksX0_control_2 17 rfl rfl)
theorem dX0_control_65 : decode cX0_control 65 = .ok (.iinc 2 1, 3) := dk_132 2 1 (dk_at dksX0_control_2 18 rfl rfl)
theorem dX0_control_68 : decode cX0_control 68 = .ok (.goto (-39), 3) := dk_167 255 217 (dk_at dksX0_control_2 21 rfl rfl)
theorem dX0_control_71 : decode cX0_control 71 = .ok (.aload_n 0, 1) := dk_42 (dk_at dksX0_control_3 0 rfl rfl)
theorem dX0_control_72 : decode cX0_control 72 = .ok (.getfield 37, 3) := dk_180 0 37 (dk_at dksX0_control_3 1 rfl rfl)
theorem dX0_control_75 : decode cX0_control 75 = .ok (.invokeinterface 56 1, 5) := by decide +kernel
theorem dX0_control_80 : decode cX0_control 80 = .ok (.bipush 8, 2) := dk_16 8 (dk_at dksX0_control_3 9 rfl rfl)
theorem dX0_control_82 : decode cX0_control 82 = .ok (.if_icmp .ne 6, 3) := dk_160 0 6 (dk_at dksX0_control_3 11 rfl rfl)
theorem dX0_control_85 : decode cX0_control 85 = .ok (.bipush (-4), 2) := dk_16 252 (dk_at dksX0_control_3 14 rfl rfl)
theorem dX0_control_87 : decode cX0_control 87 = .ok (.ireturn, 1) := dk_172 (dk_at dksX0_control_3 16 rfl rfl)
theorem dX0_control_88 : decode cX0_control 88 = .ok (.aload_n 0, 1) := dk_42 (dk_at dksX0_control_3 17 rfl rfl)
theorem dX0_control_89 : decode cX0_control 89 = .ok (.getfield 37, 3) := dk_180 0 37 (dk_at dksX0_control_3 18 rfl rfl)
theorem dX0_control_92 : decode cX0_control 92 = .ok (.new 212, 3) := dk_187 0 212 (dk_at dksX0_control_3 21 rfl rfl)
theorem dX0_control_95 : decode cX0_control 95 = .ok (.dup, 1) := dk_89 (dk_at dksX0_control_4 0 rfl rfl)
theorem dX0_control_96 : decode cX0_control 96 = .ok (.iload_n 1, 1) := dk_27 (dk_at dksX0_control_4 1 rfl rfl)
theorem dX0_control_97 : decode cX0_control 97 = .ok (.invokespecial 217, 3) := dk_183 0 217 (dk_at dksX0_control_4 2 rfl rfl)
theorem dX0_control_100 : decode cX0_control 100 = .ok (.invokeinterface 87 2, 5) := by decide +kernel
theorem dX0_control_105 : decode cX0_control 105 = .ok (.pop, 1) := dk_87 (dk_at dksX0_control_4 10 rfl rfl)
theorem dX0_control_106 : decode cX0_control 106 = .ok (.aload_n 0, 1) := dk_42 (dk_at dksX0_control_4 11 rfl rfl)
theorem dX0_control_107 : decode cX0_control 107 = .ok (.getfield 37, 3) := dk_180 0 37 (dk_at dksX0_control_4 12 rfl rfl)
theorem dX0_control_110 : decode cX0_control 110 = .ok (.invokeinterface 56 1, 5) := by decide +kernel
theorem dX0_control_115 : decode cX0_control 115 = .ok (.iconst 1, 1) := dk_4 (dk_at dksX0_control_4 20 rfl rfl)
theorem dX0_control_116 : decode cX0_control 116 = .ok (.isub, 1) := dk_100 (dk_at dksX0_control_4 21 rfl rfl)
theorem dX0_control_117 : decode cX0_control 117 = .ok (.ireturn, 1) := dk_172 (dk_at dksX0_control_4 22 rfl rfl)
abbrev cX0_watch : ByteArray := prog_1_method_29_code
def yX0_watch : MethodName := ⟨RX0, "watch", "(IIIII)I"⟩
def dkwX0_watch_4 : List UInt8 := [181, 0, 233, 25, 6, 21, 5, 181, 0, 236, 4, 172]
abbrev dktX0_watch_4 : List UInt8 := dkwX0_watch_4 ++ []
def dkwX0_watch_3 : List UInt8 := [25, 6, 4, 181, 0, 228, 25, 6, 28, 181, 0, 231, 25, 6, 29, 181, 0, 232, 25, 6, 21, 4]
abbrev dktX0_watch_3 : List UInt8 := dkwX0_watch_3 ++ dktX0_watch_4
def dkwX0_watch_2 : List UInt8 := [21, 5, 161, 0, 6, 16, 254, 172, 42, 180, 0, 37, 27, 185, 0, 94, 2, 0, 192, 0, 212, 58, 6]
abbrev dktX0_watch_2 : List UInt8 := dkwX0_watch_2 ++ dktX0_watch_3
def dkwX0_watch_1 : List UInt8 := [21, 4, 184, 0, 225, 153, 0, 23, 21, 5, 184, 0, 225, 153, 0, 15, 28, 29, 162, 0, 10, 21, 4]
abbrev dktX0_watch_1 : List UInt8 := dkwX0_watch_1 ++ dktX0_watch_2
def dkwX0_watch_0 : List UInt8 := [42, 27, 182, 0, 222, 154, 0, 5, 2, 172, 28, 184, 0, 225, 153, 0, 38, 29, 184, 0, 225, 153, 0, 31]
abbrev dktX0_watch_0 : List UInt8 := dkwX0_watch_0 ++ dktX0_watch_1
theorem dksX0_watch_0 : cX0_watch.data.toList.drop 0 = dktX0_watch_0 := by decide +kernel
theorem dksX0_watch_1 : cX0_watch.data.toList.drop 24 = dktX0_watch_1 := dk_seg dksX0_watch_0 24 rfl rfl
theorem dksX0_watch_2 : cX0_watch.data.toList.drop 47 = dktX0_watch_2 := dk_seg dksX0_watch_1 23 rfl rfl
theorem dksX0_watch_3 : cX0_watch.data.toList.drop 70 = dktX0_watch_3 := dk_seg dksX0_watch_2 23 rfl rfl
theorem dksX0_watch_4 : cX0_watch.data.toList.drop 92 = dktX0_watch_4 := dk_seg dksX0_watch_3 22 rfl rfl
theorem dX0_watch_0 : decode cX0_watch 0 = .ok (.aload_n 0, 1) := dk_42 (dk_at dksX0_watch_0 0 rfl rfl)
theorem dX0_watch_1 : decode cX0_watch 1 = .ok (.iload_n 1, 1) := dk_27 (dk_at dksX0_watch_0 1 rfl rfl)
theorem dX0_watch_2 : decode cX0_watch 2 = .ok (.invokevirtual 222, 3) := dk_182 0 222 (dk_at dksX0_watch_0 2 rfl rfl)
theorem dX0_watch_5 : decode cX0_watch 5 = .ok (.ifCond .ne 5, 3) := dk_154 0 5 (dk_at dksX0_watch_0 5 rfl rfl)
theorem dX0_watch_8 : decode cX0_watch 8 = .ok (.iconst (-1), 1) := dk_2 (dk_at dksX0_watch_0 8 rfl rfl)
theorem dX0_watch_9 : decode cX0_watch 9 = .ok (.ireturn, 1) := dk_172 (dk_at dksX0_watch_0 9 rfl rfl)
theorem dX0_watch_10 : decode cX0_watch 10 = .ok (.iload_n 2, 1) := dk_28 (dk_at dksX0_watch_0 10 rfl rfl)
theorem dX0_watch_11 : decode cX0_watch 11 = .ok (.invokestatic 225, 3) := dk_184 0 225 (dk_at dksX0_watch_0 11 rfl rfl)
theorem dX0_watch_14 : decode cX0_watch 14 = .ok (.ifCond .eq 38, 3) := dk_153 0 38 (dk_at dksX0_watch_0 14 rfl rfl)
theorem dX0_watch_17 : decode cX0_watch 17 = .ok (.iload_n 3, 1) := dk_29 (dk_at dksX0_watch_0 17 rfl rfl)
theorem dX0_watch_18 : decode cX0_watch 18 = .ok (.invokestatic 225, 3) := dk_184 0 225 (dk_at dksX0_watch_0 18 rfl rfl)
theorem dX0_watch_21 : decode cX0_watch 21 = .ok (.ifCond .eq 31, 3) := dk_153 0 31 (dk_at dksX0_watch_0 21 rfl rfl)
theorem dX0_watch_24 : decode cX0_watch 24 = .ok (.iload 4, 2) := dk_21 4 (dk_at dksX0_watch_1 0 rfl rfl)
theorem dX0_watch_26 : decode cX0_watch 26 = .ok (.invokestatic 225, 3) := dk_184 0 225 (dk_at dksX0_watch_1 2 rfl rfl)
theorem dX0_watch_29 : decode cX0_watch 29 = .ok (.ifCond .eq 23, 3) := dk_153 0 23 (dk_at dksX0_watch_1 5 rfl rfl)
theorem dX0_watch_32 : decode cX0_watch 32 = .ok (.iload 5, 2) := dk_21 5 (dk_at dksX0_watch_1 8 rfl rfl)
theorem dX0_watch_34 : decode cX0_watch 34 = .ok (.invokestatic 225, 3) := dk_184 0 225 (dk_at dksX0_watch_1 10 rfl rfl)
theorem dX0_watch_37 : decode cX0_watch 37 = .ok (.ifCond .eq 15, 3) := dk_153 0 15 (dk_at dksX0_watch_1 13 rfl rfl)
theorem dX0_watch_40 : decode cX0_watch 40 = .ok (.iload_n 2, 1) := dk_28 (dk_at dksX0_watch_1 16 rfl rfl)
theorem dX0_watch_41 : decode cX0_watch 41 = .ok (.iload_n 3, 1) := dk_29 (dk_at dksX0_watch_1 17 rfl rfl)
theorem dX0_watch_42 : decode cX0_watch 42 = .ok (.if_icmp .ge 10, 3) := dk_162 0 10 (dk_at dksX0_watch_1 18 rfl rfl)
theorem dX0_watch_45 : decode cX0_watch 45 = .ok (.iload 4, 2) := dk_21 4 (dk_at dksX0_watch_1 21 rfl rfl)
theorem dX0_watch_47 : decode cX0_watch 47 = .ok (.iload 5, 2) := dk_21 5 (dk_at dksX0_watch_2 0 rfl rfl)
theorem dX0_watch_49 : decode cX0_watch 49 = .ok (.if_icmp .lt 6, 3) := dk_161 0 6 (dk_at dksX0_watch_2 2 rfl rfl)
theorem dX0_watch_52 : decode cX0_watch 52 = .ok (.bipush (-2), 2) := dk_16 254 (dk_at dksX0_watch_2 5 rfl rfl)
theorem dX0_watch_54 : decode cX0_watch 54 = .ok (.ireturn, 1) := dk_172 (dk_at dksX0_watch_2 7 rfl rfl)
theorem dX0_watch_55 : decode cX0_watch 55 = .ok (.aload_n 0, 1) := dk_42 (dk_at dksX0_watch_2 8 rfl rfl)
theorem dX0_watch_56 : decode cX0_watch 56 = .ok (.getfield 37, 3) := dk_180 0 37 (dk_at dksX0_watch_2 9 rfl rfl)
theorem dX0_watch_59 : decode cX0_watch 59 = .ok (.iload_n 1, 1) := dk_27 (dk_at dksX0_watch_2 12 rfl rfl)
theorem dX0_watch_60 : decode cX0_watch 60 = .ok (.invokeinterface 94 2, 5) := by decide +kernel
theorem dX0_watch_65 : decode cX0_watch 65 = .ok (.checkcast 212, 3) := dk_192 0 212 (dk_at dksX0_watch_2 18 rfl rfl)
theorem dX0_watch_68 : decode cX0_watch 68 = .ok (.astore 6, 2) := dk_58 6 (dk_at dksX0_watch_2 21 rfl rfl)
theorem dX0_watch_70 : decode cX0_watch 70 = .ok (.aload 6, 2) := dk_25 6 (dk_at dksX0_watch_3 0 rfl rfl)
theorem dX0_watch_72 : decode cX0_watch 72 = .ok (.iconst 1, 1) := dk_4 (dk_at dksX0_watch_3 2 rfl rfl)
theorem dX0_watch_73 : decode cX0_watch 73 = .ok (.putfield 228, 3) := dk_181 0 228 (dk_at dksX0_watch_3 3 rfl rfl)
theorem dX0_watch_76 : decode cX0_watch 76 = .ok (.aload 6, 2) := dk_25 6 (dk_at dksX0_watch_3 6 rfl rfl)
theorem dX0_watch_78 : decode cX0_watch 78 = .ok (.iload_n 2, 1) := dk_28 (dk_at dksX0_watch_3 8 rfl rfl)
theorem dX0_watch_79 : decode cX0_watch 79 = .ok (.putfield 231, 3) := dk_181 0 231 (dk_at dksX0_watch_3 9 rfl rfl)
theorem dX0_watch_82 : decode cX0_watch 82 = .ok (.aload 6, 2) := dk_25 6 (dk_at dksX0_watch_3 12 rfl rfl)
theorem dX0_watch_84 : decode cX0_watch 84 = .ok (.iload_n 3, 1) := dk_29 (dk_at dksX0_watch_3 14 rfl rfl)
theorem dX0_watch_85 : decode cX0_watch 85 = .ok (.putfield 232, 3) := dk_181 0 232 (dk_at dksX0_watch_3 15 rfl rfl)
theorem dX0_watch_88 : decode cX0_watch 88 = .ok (.aload 6, 2) := dk_25 6 (dk_at dksX0_watch_3 18 rfl rfl)
theorem dX0_watch_90 : decode cX0_watch 90 = .ok (.iload 4, 2) := dk_21 4 (dk_at dksX0_watch_3 20 rfl rfl)
theorem dX0_watch_92 : decode cX0_watch 92 = .ok (.putfield 233, 3) := dk_181 0 233 (dk_at dksX0_watch_4 0 rfl rfl)
theorem dX0_watch_95 : decode cX0_watch 95 = .ok (.aload 6, 2) := dk_25 6 (dk_at dksX0_watch_4 3 rfl rfl)
theorem dX0_watch_97 : decode cX0_watch 97 = .ok (.iload 5, 2) := dk_21 5 (dk_at dksX0_watch_4 5 rfl rfl)
theorem dX0_watch_99 : decode cX0_watch 99 = .ok (.putfield 236, 3) := dk_181 0 236 (dk_at dksX0_watch_4 7 rfl rfl)
theorem dX0_watch_102 : decode cX0_watch 102 = .ok (.iconst 1, 1) := dk_4 (dk_at dksX0_watch_4 10 rfl rfl)
theorem dX0_watch_103 : decode cX0_watch 103 = .ok (.ireturn, 1) := dk_172 (dk_at dksX0_watch_4 11 rfl rfl)
abbrev cX0_isControl : ByteArray := prog_1_method_26_code
def yX0_isControl : MethodName := ⟨RX0, "isControl", "(I)Z"⟩
def dkwX0_isControl_0 : List UInt8 := [27, 133, 9, 42, 180, 0, 37, 185, 0, 56, 1, 0, 133, 10, 101, 184, 0, 62, 172]
abbrev dktX0_isControl_0 : List UInt8 := dkwX0_isControl_0 ++ []
theorem dksX0_isControl_0 : cX0_isControl.data.toList.drop 0 = dktX0_isControl_0 := by decide +kernel
theorem dX0_isControl_0 : decode cX0_isControl 0 = .ok (.iload_n 1, 1) := dk_27 (dk_at dksX0_isControl_0 0 rfl rfl)
theorem dX0_isControl_1 : decode cX0_isControl 1 = .ok (.i2l, 1) := dk_133 (dk_at dksX0_isControl_0 1 rfl rfl)
theorem dX0_isControl_2 : decode cX0_isControl 2 = .ok (.lconst 0, 1) := dk_9 (dk_at dksX0_isControl_0 2 rfl rfl)
theorem dX0_isControl_3 : decode cX0_isControl 3 = .ok (.aload_n 0, 1) := dk_42 (dk_at dksX0_isControl_0 3 rfl rfl)
theorem dX0_isControl_4 : decode cX0_isControl 4 = .ok (.getfield 37, 3) := dk_180 0 37 (dk_at dksX0_isControl_0 4 rfl rfl)
theorem dX0_isControl_7 : decode cX0_isControl 7 = .ok (.invokeinterface 56 1, 5) := by decide +kernel
theorem dX0_isControl_12 : decode cX0_isControl 12 = .ok (.i2l, 1) := dk_133 (dk_at dksX0_isControl_0 12 rfl rfl)
theorem dX0_isControl_13 : decode cX0_isControl 13 = .ok (.lconst 1, 1) := dk_10 (dk_at dksX0_isControl_0 13 rfl rfl)
theorem dX0_isControl_14 : decode cX0_isControl 14 = .ok (.lsub, 1) := dk_101 (dk_at dksX0_isControl_0 14 rfl rfl)
theorem dX0_isControl_15 : decode cX0_isControl 15 = .ok (.invokestatic 62, 3) := dk_184 0 62 (dk_at dksX0_isControl_0 15 rfl rfl)
theorem dX0_isControl_18 : decode cX0_isControl 18 = .ok (.ireturn, 1) := dk_172 (dk_at dksX0_isControl_0 18 rfl rfl)
abbrev cX0_isTime : ByteArray := prog_1_method_28_code
def yX0_isTime : MethodName := ⟨RX0, "isTime", "(I)Z"⟩
def dkwX0_isTime_0 : List UInt8 := [26, 133, 9, 20, 0, 220, 184, 0, 62, 172]
abbrev dktX0_isTime_0 : List UInt8 := dkwX0_isTime_0 ++ []
theorem dksX0_isTime_0 : cX0_isTime.data.toList.drop 0 = dktX0_isTime_0 := by decide +kernel
theorem dX0_isTime_0 : decode cX0_isTime 0 = .ok (.iload_n 0, 1) := dk_26 (dk_at dksX0_isTime_0 0 rfl rfl)
theorem dX0_isTime_1 : decode cX0_isTime 1 = .ok (.i2l, 1) := dk_133 (dk_at dksX0_isTime_0 1 rfl rfl)
theorem dX0_isTime_2 : decode cX0_isTime 2 = .ok (.lconst 0, 1) := dk_9 (dk_at dksX0_isTime_0 2 rfl rfl)
theorem dX0_isTime_3 : decode cX0_isTime 3 = .ok (.ldc2_w 220, 3) := dk_20 0 220 (dk_at dksX0_isTime_0 3 rfl rfl)
theorem dX0_isTime_6 : decode cX0_isTime 6 = .ok (.invokestatic 62, 3) := dk_184 0 62 (dk_at dksX0_isTime_0 6 rfl rfl)
theorem dX0_isTime_9 : decode cX0_isTime 9 = .ok (.ireturn, 1) := dk_172 (dk_at dksX0_isTime_0 9 rfl rfl)
abbrev cX0_right : ByteArray := prog_1_method_30_code
def yX0_right : MethodName := ⟨RX0, "right", "(II)J"⟩
def dkwX0_right_1 : List UInt8 := [185, 0, 94, 2, 0, 192, 0, 212, 28, 182, 0, 239, 167, 0, 6, 20, 0, 51, 173]
abbrev dktX0_right_1 : List UInt8 := dkwX0_right_1 ++ []
def dkwX0_right_0 : List UInt8 := [42, 27, 182, 0, 222, 153, 0, 30, 28, 184, 0, 225, 153, 0, 23, 42, 180, 0, 37, 27]
abbrev dktX0_right_0 : List UInt8 := dkwX0_right_0 ++ dktX0_right_1
theorem dksX0_right_0 : cX0_right.data.toList.drop 0 = dktX0_right_0 := by decide +kernel
theorem dksX0_right_1 : cX0_right.data.toList.drop 20 = dktX0_right_1 := dk_seg dksX0_right_0 20 rfl rfl
theorem dX0_right_0 : decode cX0_right 0 = .ok (.aload_n 0, 1) := dk_42 (dk_at dksX0_right_0 0 rfl rfl)
theorem dX0_right_1 : decode cX0_right 1 = .ok (.iload_n 1, 1) := dk_27 (dk_at dksX0_right_0 1 rfl rfl)
theorem dX0_right_2 : decode cX0_right 2 = .ok (.invokevirtual 222, 3) := dk_182 0 222 (dk_at dksX0_right_0 2 rfl rfl)
theorem dX0_right_5 : decode cX0_right 5 = .ok (.ifCond .eq 30, 3) := dk_153 0 30 (dk_at dksX0_right_0 5 rfl rfl)
theorem dX0_right_8 : decode cX0_right 8 = .ok (.iload_n 2, 1) := dk_28 (dk_at dksX0_right_0 8 rfl rfl)
theorem dX0_right_9 : decode cX0_right 9 = .ok (.invokestatic 225, 3) := dk_184 0 225 (dk_at dksX0_right_0 9 rfl rfl)
theorem dX0_right_12 : decode cX0_right 12 = .ok (.ifCond .eq 23, 3) := dk_153 0 23 (dk_at dksX0_right_0 12 rfl rfl)
theorem dX0_right_15 : decode cX0_right 15 = .ok (.aload_n 0, 1) := dk_42 (dk_at dksX0_right_0 15 rfl rfl)
theorem dX0_right_16 : decode cX0_right 16 = .ok (.getfield 37, 3) := dk_180 0 37 (dk_at dksX0_right_0 16 rfl rfl)
theorem dX0_right_19 : decode cX0_right 19 = .ok (.iload_n 1, 1) := dk_27 (dk_at dksX0_right_0 19 rfl rfl)
theorem dX0_right_20 : decode cX0_right 20 = .ok (.invokeinterface 94 2, 5) := by decide +kernel
theorem dX0_right_25 : decode cX0_right 25 = .ok (.checkcast 212, 3) := dk_192 0 212 (dk_at dksX0_right_1 5 rfl rfl)
theorem dX0_right_28 : decode cX0_right 28 = .ok (.iload_n 2, 1) := dk_28 (dk_at dksX0_right_1 8 rfl rfl)
theorem dX0_right_29 : decode cX0_right 29 = .ok (.invokevirtual 239, 3) := dk_182 0 239 (dk_at dksX0_right_1 9 rfl rfl)
theorem dX0_right_32 : decode cX0_right 32 = .ok (.goto 6, 3) := dk_167 0 6 (dk_at dksX0_right_1 12 rfl rfl)
theorem dX0_right_35 : decode cX0_right 35 = .ok (.ldc2_w 51, 3) := dk_20 0 51 (dk_at dksX0_right_1 15 rfl rfl)
theorem dX0_right_38 : decode cX0_right 38 = .ok (.lreturn, 1) := dk_173 (dk_at dksX0_right_1 18 rfl rfl)
abbrev cX0_strike : ByteArray := prog_1_method_31_code
def yX0_strike : MethodName := ⟨RX0, "strike", "(IZ)I"⟩
def dkwX0_strike_1 : List UInt8 := [45, 180, 0, 242, 28, 160, 0, 7, 3, 167, 0, 4, 4, 54, 4, 45, 28, 181, 0, 242, 21, 4, 172]
abbrev dktX0_strike_1 : List UInt8 := dkwX0_strike_1 ++ []
def dkwX0_strike_0 : List UInt8 := [42, 27, 182, 0, 222, 154, 0, 5, 2, 172, 42, 180, 0, 37, 27, 185, 0, 94, 2, 0, 192, 0, 212, 78]
abbrev dktX0_strike_0 : List UInt8 := dkwX0_strike_0 ++ dktX0_strike_1
theorem dksX0_strike_0 : cX0_strike.data.toList.drop 0 = dktX0_strike_0 := by decide +kernel
theorem dksX0_strike_1 : cX0_strike.data.toList.drop 24 = dktX0_strike_1 := dk_seg dksX0_strike_0 24 rfl rfl
theorem dX0_strike_0 : decode cX0_strike 0 = .ok (.aload_n 0, 1) := dk_42 (dk_at dksX0_strike_0 0 rfl rfl)
theorem dX0_strike_1 : decode cX0_strike 1 = .ok (.iload_n 1, 1) := dk_27 (dk_at dksX0_strike_0 1 rfl rfl)
theorem dX0_strike_2 : decode cX0_strike 2 = .ok (.invokevirtual 222, 3) := dk_182 0 222 (dk_at dksX0_strike_0 2 rfl rfl)
theorem dX0_strike_5 : decode cX0_strike 5 = .ok (.ifCond .ne 5, 3) := dk_154 0 5 (dk_at dksX0_strike_0 5 rfl rfl)
theorem dX0_strike_8 : decode cX0_strike 8 = .ok (.iconst (-1), 1) := dk_2 (dk_at dksX0_strike_0 8 rfl rfl)
theorem dX0_strike_9 : decode cX0_strike 9 = .ok (.ireturn, 1) := dk_172 (dk_at dksX0_strike_0 9 rfl rfl)
theorem dX0_strike_10 : decode cX0_strike 10 = .ok (.aload_n 0, 1) := dk_42 (dk_at dksX0_strike_0 10 rfl rfl)
theorem dX0_strike_11 : decode cX0_strike 11 = .ok (.getfield 37, 3) := dk_180 0 37 (dk_at dksX0_strike_0 11 rfl rfl)
theorem dX0_strike_14 : decode cX0_strike 14 = .ok (.iload_n 1, 1) := dk_27 (dk_at dksX0_strike_0 14 rfl rfl)
theorem dX0_strike_15 : decode cX0_strike 15 = .ok (.invokeinterface 94 2, 5) := by decide +kernel
theorem dX0_strike_20 : decode cX0_strike 20 = .ok (.checkcast 212, 3) := dk_192 0 212 (dk_at dksX0_strike_0 20 rfl rfl)
theorem dX0_strike_23 : decode cX0_strike 23 = .ok (.astore_n 3, 1) := dk_78 (dk_at dksX0_strike_0 23 rfl rfl)
theorem dX0_strike_24 : decode cX0_strike 24 = .ok (.aload_n 3, 1) := dk_45 (dk_at dksX0_strike_1 0 rfl rfl)
theorem dX0_strike_25 : decode cX0_strike 25 = .ok (.getfield 242, 3) := dk_180 0 242 (dk_at dksX0_strike_1 1 rfl rfl)
theorem dX0_strike_28 : decode cX0_strike 28 = .ok (.iload_n 2, 1) := dk_28 (dk_at dksX0_strike_1 4 rfl rfl)
theorem dX0_strike_29 : decode cX0_strike 29 = .ok (.if_icmp .ne 7, 3) := dk_160 0 7 (dk_at dksX0_strike_1 5 rfl rfl)
theorem dX0_strike_32 : decode cX0_strike 32 = .ok (.iconst 0, 1) := dk_3 (dk_at dksX0_strike_1 8 rfl rfl)
theorem dX0_strike_33 : decode cX0_strike 33 = .ok (.goto 4, 3) := dk_167 0 4 (dk_at dksX0_strike_1 9 rfl rfl)
theorem dX0_strike_36 : decode cX0_strike 36 = .ok (.iconst 1, 1) := dk_4 (dk_at dksX0_strike_1 12 rfl rfl)
theorem dX0_strike_37 : decode cX0_strike 37 = .ok (.istore 4, 2) := dk_54 4 (dk_at dksX0_strike_1 13 rfl rfl)
theorem dX0_strike_39 : decode cX0_strike 39 = .ok (.aload_n 3, 1) := dk_45 (dk_at dksX0_strike_1 15 rfl rfl)
theorem dX0_strike_40 : decode cX0_strike 40 = .ok (.iload_n 2, 1) := dk_28 (dk_at dksX0_strike_1 16 rfl rfl)
theorem dX0_strike_41 : decode cX0_strike 41 = .ok (.putfield 242, 3) := dk_181 0 242 (dk_at dksX0_strike_1 17 rfl rfl)
theorem dX0_strike_44 : decode cX0_strike 44 = .ok (.iload 4, 2) := dk_21 4 (dk_at dksX0_strike_1 20 rfl rfl)
theorem dX0_strike_46 : decode cX0_strike 46 = .ok (.ireturn, 1) := dk_172 (dk_at dksX0_strike_1 22 rfl rfl)
abbrev cX0_car : ByteArray := prog_1_method_33_code
def yX0_car : MethodName := ⟨RX0, "car", "(II)I"⟩
def dkwX0_car_4 : List UInt8 := [183, 0, 255, 185, 0, 87, 2, 0, 87, 29, 172]
abbrev dktX0_car_4 : List UInt8 := dkwX0_car_4 ++ []
def dkwX0_car_3 : List UInt8 := [160, 0, 16, 187, 0, 250, 89, 42, 29, 27, 183, 0, 252, 167, 0, 13, 187, 0, 253, 89, 42, 29, 27]
abbrev dktX0_car_3 : List UInt8 := dkwX0_car_3 ++ dktX0_car_4
def dkwX0_car_2 : List UInt8 := [180, 0, 40, 28, 154, 0, 16, 187, 0, 179, 89, 42, 29, 27, 183, 0, 247, 167, 0, 31, 28, 4]
abbrev dktX0_car_2 : List UInt8 := dkwX0_car_2 ++ dktX0_car_3
def dkwX0_car_1 : List UInt8 := [16, 254, 172, 42, 180, 0, 40, 185, 0, 56, 1, 0, 62, 29, 16, 8, 160, 0, 6, 16, 252, 172, 42]
abbrev dktX0_car_1 : List UInt8 := dkwX0_car_1 ++ dktX0_car_2
def dkwX0_car_0 : List UInt8 := [27, 133, 9, 20, 0, 245, 184, 0, 62, 153, 0, 15, 28, 133, 9, 20, 0, 74, 184, 0, 62, 154, 0, 6]
abbrev dktX0_car_0 : List UInt8 := dkwX0_car_0 ++ dktX0_car_1
theorem dksX0_car_0 : cX0_car.data.toList.drop 0 = dktX0_car_0 := by decide +kernel
theorem dksX0_car_1 : cX0_car.data.toList.drop 24 = dktX0_car_1 := dk_seg dksX0_car_0 24 rfl rfl
theorem dksX0_car_2 : cX0_car.data.toList.drop 47 = dktX0_car_2 := dk_seg dksX0_car_1 23 rfl rfl
theorem dksX0_car_3 : cX0_car.data.toList.drop 69 = dktX0_car_3 := dk_seg dksX0_car_2 22 rfl rfl
theorem dksX0_car_4 : cX0_car.data.toList.drop 92 = dktX0_car_4 := dk_seg dksX0_car_3 23 rfl rfl
theorem dX0_car_0 : decode cX0_car 0 = .ok (.iload_n 1, 1) := dk_27 (dk_at dksX0_car_0 0 rfl rfl)
theorem dX0_car_1 : decode cX0_car 1 = .ok (.i2l, 1) := dk_133 (dk_at dksX0_car_0 1 rfl rfl)
theorem dX0_car_2 : decode cX0_car 2 = .ok (.lconst 0, 1) := dk_9 (dk_at dksX0_car_0 2 rfl rfl)
theorem dX0_car_3 : decode cX0_car 3 = .ok (.ldc2_w 245, 3) := dk_20 0 245 (dk_at dksX0_car_0 3 rfl rfl)
theorem dX0_car_6 : decode cX0_car 6 = .ok (.invokestatic 62, 3) := dk_184 0 62 (dk_at dksX0_car_0 6 rfl rfl)
theorem dX0_car_9 : decode cX0_car 9 = .ok (.ifCond .eq 15, 3) := dk_153 0 15 (dk_at dksX0_car_0 9 rfl rfl)
theorem dX0_car_12 : decode cX0_car 12 = .ok (.iload_n 2, 1) := dk_28 (dk_at dksX0_car_0 12 rfl rfl)
theorem dX0_car_13 : decode cX0_car 13 = .ok (.i2l, 1) := dk_133 (dk_at dksX0_car_0 13 rfl rfl)
theorem dX0_car_14 : decode cX0_car 14 = .ok (.lconst 0, 1) := dk_9 (dk_at dksX0_car_0 14 rfl rfl)
theorem dX0_car_15 : decode cX0_car 15 = .ok (.ldc2_w 74, 3) := dk_20 0 74 (dk_at dksX0_car_0 15 rfl rfl)
theorem dX0_car_18 : decode cX0_car 18 = .ok (.invokestatic 62, 3) := dk_184 0 62 (dk_at dksX0_car_0 18 rfl rfl)
theorem dX0_car_21 : decode cX0_car 21 = .ok (.ifCond .ne 6, 3) := dk_154 0 6 (dk_at dksX0_car_0 21 rfl rfl)
theorem dX0_car_24 : decode cX0_car 24 = .ok (.bipush (-2), 2) := dk_16 254 (dk_at dksX0_car_1 0 rfl rfl)
theorem dX0_car_26 : decode cX0_car 26 = .ok (.ireturn, 1) := dk_172 (dk_at dksX0_car_1 2 rfl rfl)
theorem dX0_car_27 : decode cX0_car 27 = .ok (.aload_n 0, 1) := dk_42 (dk_at dksX0_car_1 3 rfl rfl)
theorem dX0_car_28 : decode cX0_car 28 = .ok (.getfield 40, 3) := dk_180 0 40 (dk_at dksX0_car_1 4 rfl rfl)
theorem dX0_car_31 : decode cX0_car 31 = .ok (.invokeinterface 56 1, 5) := by decide +kernel
theorem dX0_car_36 : decode cX0_car 36 = .ok (.istore_n 3, 1) := dk_62 (dk_at dksX0_car_1 12 rfl rfl)
theorem dX0_car_37 : decode cX0_car 37 = .ok (.iload_n 3, 1) := dk_29 (dk_at dksX0_car_1 13 rfl rfl)
theorem dX0_car_38 : decode cX0_car 38 = .ok (.bipush 8, 2) := dk_16 8 (dk_at dksX0_car_1 14 rfl rfl)
theorem dX0_car_40 : decode cX0_car 40 = .ok (.if_icmp .ne 6, 3) := dk_160 0 6 (dk_at dksX0_car_1 16 rfl rfl)
theorem dX0_car_43 : decode cX0_car 43 = .ok (.bipush (-4), 2) := dk_16 252 (dk_at dksX0_car_1 19 rfl rfl)
theorem dX0_car_45 : decode cX0_car 45 = .ok (.ireturn, 1) := dk_172 (dk_at dksX0_car_1 21 rfl rfl)
theorem dX0_car_46 : decode cX0_car 46 = .ok (.aload_n 0, 1) := dk_42 (dk_at dksX0_car_1 22 rfl rfl)
theorem dX0_car_47 : decode cX0_car 47 = .ok (.getfield 40, 3) := dk_180 0 40 (dk_at dksX0_car_2 0 rfl rfl)
theorem dX0_car_50 : decode cX0_car 50 = .ok (.iload_n 2, 1) := dk_28 (dk_at dksX0_car_2 3 rfl rfl)
theorem dX0_car_51 : decode cX0_car 51 = .ok (.ifCond .ne 16, 3) := dk_154 0 16 (dk_at dksX0_car_2 4 rfl rfl)
theorem dX0_car_54 : decode cX0_car 54 = .ok (.new 179, 3) := dk_187 0 179 (dk_at dksX0_car_2 7 rfl rfl)
theorem dX0_car_57 : decode cX0_car 57 = .ok (.dup, 1) := dk_89 (dk_at dksX0_car_2 10 rfl rfl)
theorem dX0_car_58 : decode cX0_car 58 = .ok (.aload_n 0, 1) := dk_42 (dk_at dksX0_car_2 11 rfl rfl)
theorem dX0_car_59 : decode cX0_car 59 = .ok (.iload_n 3, 1) := dk_29 (dk_at dksX0_car_2 12 rfl rfl)
theorem dX0_car_60 : decode cX0_car 60 = .ok (.iload_n 1, 1) := dk_27 (dk_at dksX0_car_2 13 rfl rfl)
theorem dX0_car_61 : decode cX0_car 61 = .ok (.invokespecial 247, 3) := dk_183 0 247 (dk_at dksX0_car_2 14 rfl rfl)
theorem dX0_car_64 : decode cX0_car 64 = .ok (.goto 31, 3) := dk_167 0 31 (dk_at dksX0_car_2 17 rfl rfl)
theorem dX0_car_67 : decode cX0_car 67 = .ok (.iload_n 2, 1) := dk_28 (dk_at dksX0_car_2 20 rfl rfl)
theorem dX0_car_68 : decode cX0_car 68 = .ok (.iconst 1, 1) := dk_4 (dk_at dksX0_car_2 21 rfl rfl)
theorem dX0_car_69 : decode cX0_car 69 = .ok (.if_icmp .ne 16, 3) := dk_160 0 16 (dk_at dksX0_car_3 0 rfl rfl)
theorem dX0_car_72 : decode cX0_car 72 = .ok (.new 250, 3) := dk_187 0 250 (dk_at dksX0_car_3 3 rfl rfl)
theorem dX0_car_75 : decode cX0_car 75 = .ok (.dup, 1) := dk_89 (dk_at dksX0_car_3 6 rfl rfl)
theorem dX0_car_76 : decode cX0_car 76 = .ok (.aload_n 0, 1) := dk_42 (dk_at dksX0_car_3 7 rfl rfl)
theorem dX0_car_77 : decode cX0_car 77 = .ok (.iload_n 3, 1) := dk_29 (dk_at dksX0_car_3 8 rfl rfl)
theorem dX0_car_78 : decode cX0_car 78 = .ok (.iload_n 1, 1) := dk_27 (dk_at dksX0_car_3 9 rfl rfl)
theorem dX0_car_79 : decode cX0_car 79 = .ok (.invokespecial 252, 3) := dk_183 0 252 (dk_at dksX0_car_3 10 rfl rfl)
theorem dX0_car_82 : decode cX0_car 82 = .ok (.goto 13, 3) := dk_167 0 13 (dk_at dksX0_car_3 13 rfl rfl)
theorem dX0_car_85 : decode cX0_car 85 = .ok (.new 253, 3) := dk_187 0 253 (dk_at dksX0_car_3 16 rfl rfl)
theorem dX0_car_88 : decode cX0_car 88 = .ok (.dup, 1) := dk_89 (dk_at dksX0_car_3 19 rfl rfl)
theorem dX0_car_89 : decode cX0_car 89 = .ok (.aload_n 0, 1) := dk_42 (dk_at dksX0_car_3 20 rfl rfl)
theorem dX0_car_90 : decode cX0_car 90 = .ok (.iload_n 3, 1) := dk_29 (dk_at dksX0_car_3 21 rfl rfl)
theorem dX0_car_91 : decode cX0_car 91 = .ok (.iload_n 1, 1) := dk_27 (dk_at dksX0_car_3 22 rfl rfl)
theorem dX0_car_92 : decode cX0_car 92 = .ok (.invokespecial 255, 3) := dk_183 0 255 (dk_at dksX0_car_4 0 rfl rfl)
theorem dX0_car_95 : decode cX0_car 95 = .ok (.invokeinterface 87 2, 5) := by decide +kernel
theorem dX0_car_100 : decode cX0_car 100 = .ok (.pop, 1) := dk_87 (dk_at dksX0_car_4 8 rfl rfl)
theorem dX0_car_101 : decode cX0_car 101 = .ok (.iload_n 3, 1) := dk_29 (dk_at dksX0_car_4 9 rfl rfl)
theorem dX0_car_102 : decode cX0_car 102 = .ok (.ireturn, 1) := dk_172 (dk_at dksX0_car_4 10 rfl rfl)
abbrev cX0_clock : ByteArray := prog_1_method_34_code
def yX0_clock : MethodName := ⟨RX0, "clock", "(III)I"⟩
def dkwX0_clock_3 : List UInt8 := [4, 172]
abbrev dktX0_clock_3 : List UInt8 := dkwX0_clock_3 ++ []
def dkwX0_clock_2 : List UInt8 := [153, 0, 6, 16, 253, 172, 42, 180, 0, 40, 27, 185, 0, 94, 2, 0, 192, 0, 179, 28, 29, 182, 1, 6]
abbrev dktX0_clock_2 : List UInt8 := dkwX0_clock_2 ++ dktX0_clock_3
def dkwX0_clock_1 : List UInt8 := [154, 0, 6, 16, 254, 172, 42, 180, 0, 40, 27, 185, 0, 94, 2, 0, 192, 0, 179, 28, 182, 1, 3]
abbrev dktX0_clock_1 : List UInt8 := dkwX0_clock_1 ++ dktX0_clock_2
def dkwX0_clock_0 : List UInt8 := [42, 27, 182, 1, 0, 153, 0, 11, 42, 28, 182, 0, 222, 154, 0, 5, 2, 172, 29, 184, 0, 225]
abbrev dktX0_clock_0 : List UInt8 := dkwX0_clock_0 ++ dktX0_clock_1
theorem dksX0_clock_0 : cX0_clock.data.toList.drop 0 = dktX0_clock_0 := by decide +kernel
theorem dksX0_clock_1 : cX0_clock.data.toList.drop 22 = dktX0_clock_1 := dk_seg dksX0_clock_0 22 rfl rfl
theorem dksX0_clock_2 : cX0_clock.data.toList.drop 45 = dktX0_clock_2 := dk_seg dksX0_clock_1 23 rfl rfl
theorem dksX0_clock_3 : cX0_clock.data.toList.drop 69 = dktX0_clock_3 := dk_seg dksX0_clock_2 24 rfl rfl
theorem dX0_clock_0 : decode cX0_clock 0 = .ok (.aload_n 0, 1) := dk_42 (dk_at dksX0_clock_0 0 rfl rfl)
theorem dX0_clock_1 : decode cX0_clock 1 = .ok (.iload_n 1, 1) := dk_27 (dk_at dksX0_clock_0 1 rfl rfl)
theorem dX0_clock_2 : decode cX0_clock 2 = .ok (.invokevirtual 256, 3) := dk_182 1 0 (dk_at dksX0_clock_0 2 rfl rfl)
theorem dX0_clock_5 : decode cX0_clock 5 = .ok (.ifCond .eq 11, 3) := dk_153 0 11 (dk_at dksX0_clock_0 5 rfl rfl)
theorem dX0_clock_8 : decode cX0_clock 8 = .ok (.aload_n 0, 1) := dk_42 (dk_at dksX0_clock_0 8 rfl rfl)
theorem dX0_clock_9 : decode cX0_clock 9 = .ok (.iload_n 2, 1) := dk_28 (dk_at dksX0_clock_0 9 rfl rfl)
theorem dX0_clock_10 : decode cX0_clock 10 = .ok (.invokevirtual 222, 3) := dk_182 0 222 (dk_at dksX0_clock_0 10 rfl rfl)
theorem dX0_clock_13 : decode cX0_clock 13 = .ok (.ifCond .ne 5, 3) := dk_154 0 5 (dk_at dksX0_clock_0 13 rfl rfl)
theorem dX0_clock_16 : decode cX0_clock 16 = .ok (.iconst (-1), 1) := dk_2 (dk_at dksX0_clock_0 16 rfl rfl)
theorem dX0_clock_17 : decode cX0_clock 17 = .ok (.ireturn, 1) := dk_172 (dk_at dksX0_clock_0 17 rfl rfl)
theorem dX0_clock_18 : decode cX0_clock 18 = .ok (.iload_n 3, 1) := dk_29 (dk_at dksX0_clock_0 18 rfl rfl)
theorem dX0_clock_19 : decode cX0_clock 19 = .ok (.invokestatic 225, 3) := dk_184 0 225 (dk_at dksX0_clock_0 19 rfl rfl)
theorem dX0_clock_22 : decode cX0_clock 22 = .ok (.ifCond .ne 6, 3) := dk_154 0 6 (dk_at dksX0_clock_1 0 rfl rfl)
theorem dX0_clock_25 : decode cX0_clock 25 = .ok (.bipush (-2), 2) := dk_16 254 (dk_at dksX0_clock_1 3 rfl rfl)
theorem dX0_clock_27 : decode cX0_clock 27 = .ok (.ireturn, 1) := dk_172 (dk_at dksX0_clock_1 5 rfl rfl)
theorem dX0_clock_28 : decode cX0_clock 28 = .ok (.aload_n 0, 1) := dk_42 (dk_at dksX0_clock_1 6 rfl rfl)
theorem dX0_clock_29 : decode cX0_clock 29 = .ok (.getfield 40, 3) := dk_180 0 40 (dk_at dksX0_clock_1 7 rfl rfl)
theorem dX0_clock_32 : decode cX0_clock 32 = .ok (.iload_n 1, 1) := dk_27 (dk_at dksX0_clock_1 10 rfl rfl)
theorem dX0_clock_33 : decode cX0_clock 33 = .ok (.invokeinterface 94 2, 5) := by decide +kernel
theorem dX0_clock_38 : decode cX0_clock 38 = .ok (.checkcast 179, 3) := dk_192 0 179 (dk_at dksX0_clock_1 16 rfl rfl)
theorem dX0_clock_41 : decode cX0_clock 41 = .ok (.iload_n 2, 1) := dk_28 (dk_at dksX0_clock_1 19 rfl rfl)
theorem dX0_clock_42 : decode cX0_clock 42 = .ok (.invokevirtual 259, 3) := dk_182 1 3 (dk_at dksX0_clock_1 20 rfl rfl)
theorem dX0_clock_45 : decode cX0_clock 45 = .ok (.ifCond .eq 6, 3) := dk_153 0 6 (dk_at dksX0_clock_2 0 rfl rfl)
theorem dX0_clock_48 : decode cX0_clock 48 = .ok (.bipush (-3), 2) := dk_16 253 (dk_at dksX0_clock_2 3 rfl rfl)
theorem dX0_clock_50 : decode cX0_clock 50 = .ok (.ireturn, 1) := dk_172 (dk_at dksX0_clock_2 5 rfl rfl)
theorem dX0_clock_51 : decode cX0_clock 51 = .ok (.aload_n 0, 1) := dk_42 (dk_at dksX0_clock_2 6 rfl rfl)
theorem dX0_clock_52 : decode cX0_clock 52 = .ok (.getfield 40, 3) := dk_180 0 40 (dk_at dksX0_clock_2 7 rfl rfl)
theorem dX0_clock_55 : decode cX0_clock 55 = .ok (.iload_n 1, 1) := dk_27 (dk_at dksX0_clock_2 10 rfl rfl)
theorem dX0_clock_56 : decode cX0_clock 56 = .ok (.invokeinterface 94 2, 5) := by decide +kernel
theorem dX0_clock_61 : decode cX0_clock 61 = .ok (.checkcast 179, 3) := dk_192 0 179 (dk_at dksX0_clock_2 16 rfl rfl)
theorem dX0_clock_64 : decode cX0_clock 64 = .ok (.iload_n 2, 1) := dk_28 (dk_at dksX0_clock_2 19 rfl rfl)
theorem dX0_clock_65 : decode cX0_clock 65 = .ok (.iload_n 3, 1) := dk_29 (dk_at dksX0_clock_2 20 rfl rfl)
theorem dX0_clock_66 : decode cX0_clock 66 = .ok (.invokevirtual 262, 3) := dk_182 1 6 (dk_at dksX0_clock_2 21 rfl rfl)
theorem dX0_clock_69 : decode cX0_clock 69 = .ok (.iconst 1, 1) := dk_4 (dk_at dksX0_clock_3 0 rfl rfl)
theorem dX0_clock_70 : decode cX0_clock 70 = .ok (.ireturn, 1) := dk_172 (dk_at dksX0_clock_3 1 rfl rfl)
abbrev cX0_isCar : ByteArray := prog_1_method_32_code
def yX0_isCar : MethodName := ⟨RX0, "isCar", "(I)Z"⟩
def dkwX0_isCar_0 : List UInt8 := [27, 133, 9, 42, 180, 0, 40, 185, 0, 56, 1, 0, 133, 10, 101, 184, 0, 62, 172]
abbrev dktX0_isCar_0 : List UInt8 := dkwX0_isCar_0 ++ []
theorem dksX0_isCar_0 : cX0_isCar.data.toList.drop 0 = dktX0_isCar_0 := by decide +kernel
theorem dX0_isCar_0 : decode cX0_isCar 0 = .ok (.iload_n 1, 1) := dk_27 (dk_at dksX0_isCar_0 0 rfl rfl)
theorem dX0_isCar_1 : decode cX0_isCar 1 = .ok (.i2l, 1) := dk_133 (dk_at dksX0_isCar_0 1 rfl rfl)
theorem dX0_isCar_2 : decode cX0_isCar 2 = .ok (.lconst 0, 1) := dk_9 (dk_at dksX0_isCar_0 2 rfl rfl)
theorem dX0_isCar_3 : decode cX0_isCar 3 = .ok (.aload_n 0, 1) := dk_42 (dk_at dksX0_isCar_0 3 rfl rfl)
theorem dX0_isCar_4 : decode cX0_isCar 4 = .ok (.getfield 40, 3) := dk_180 0 40 (dk_at dksX0_isCar_0 4 rfl rfl)
theorem dX0_isCar_7 : decode cX0_isCar 7 = .ok (.invokeinterface 56 1, 5) := by decide +kernel
theorem dX0_isCar_12 : decode cX0_isCar 12 = .ok (.i2l, 1) := dk_133 (dk_at dksX0_isCar_0 12 rfl rfl)
theorem dX0_isCar_13 : decode cX0_isCar 13 = .ok (.lconst 1, 1) := dk_10 (dk_at dksX0_isCar_0 13 rfl rfl)
theorem dX0_isCar_14 : decode cX0_isCar 14 = .ok (.lsub, 1) := dk_101 (dk_at dksX0_isCar_0 14 rfl rfl)
theorem dX0_isCar_15 : decode cX0_isCar 15 = .ok (.invokestatic 62, 3) := dk_184 0 62 (dk_at dksX0_isCar_0 15 rfl rfl)
theorem dX0_isCar_18 : decode cX0_isCar 18 = .ok (.ireturn, 1) := dk_172 (dk_at dksX0_isCar_0 18 rfl rfl)
abbrev cX0_allow : ByteArray := prog_1_method_35_code
def yX0_allow : MethodName := ⟨RX0, "allow", "(III)I"⟩
def dkwX0_allow_3 : List UInt8 := [29, 79, 21, 4, 172]
abbrev dktX0_allow_3 : List UInt8 := dkwX0_allow_3 ++ []
def dkwX0_allow_2 : List UInt8 := [180, 1, 10, 28, 46, 54, 4, 42, 180, 0, 40, 27, 185, 0, 94, 2, 0, 192, 0, 179, 180, 1, 10, 28]
abbrev dktX0_allow_2 : List UInt8 := dkwX0_allow_2 ++ dktX0_allow_3
def dkwX0_allow_1 : List UInt8 := [184, 0, 62, 154, 0, 6, 16, 254, 172, 42, 180, 0, 40, 27, 185, 0, 94, 2, 0, 192, 0, 179]
abbrev dktX0_allow_1 : List UInt8 := dkwX0_allow_1 ++ dktX0_allow_2
def dkwX0_allow_0 : List UInt8 := [42, 27, 182, 1, 0, 153, 0, 11, 42, 28, 182, 0, 222, 154, 0, 5, 2, 172, 29, 133, 9, 20, 0, 190]
abbrev dktX0_allow_0 : List UInt8 := dkwX0_allow_0 ++ dktX0_allow_1
theorem dksX0_allow_0 : cX0_allow.data.toList.drop 0 = dktX0_allow_0 := by decide +kernel
theorem dksX0_allow_1 : cX0_allow.data.toList.drop 24 = dktX0_allow_1 := dk_seg dksX0_allow_0 24 rfl rfl
theorem dksX0_allow_2 : cX0_allow.data.toList.drop 46 = dktX0_allow_2 := dk_seg dksX0_allow_1 22 rfl rfl
theorem dksX0_allow_3 : cX0_allow.data.toList.drop 70 = dktX0_allow_3 := dk_seg dksX0_allow_2 24 rfl rfl
theorem dX0_allow_0 : decode cX0_allow 0 = .ok (.aload_n 0, 1) := dk_42 (dk_at dksX0_allow_0 0 rfl rfl)
theorem dX0_allow_1 : decode cX0_allow 1 = .ok (.iload_n 1, 1) := dk_27 (dk_at dksX0_allow_0 1 rfl rfl)
theorem dX0_allow_2 : decode cX0_allow 2 = .ok (.invokevirtual 256, 3) := dk_182 1 0 (dk_at dksX0_allow_0 2 rfl rfl)
theorem dX0_allow_5 : decode cX0_allow 5 = .ok (.ifCond .eq 11, 3) := dk_153 0 11 (dk_at dksX0_allow_0 5 rfl rfl)
theorem dX0_allow_8 : decode cX0_allow 8 = .ok (.aload_n 0, 1) := dk_42 (dk_at dksX0_allow_0 8 rfl rfl)
theorem dX0_allow_9 : decode cX0_allow 9 = .ok (.iload_n 2, 1) := dk_28 (dk_at dksX0_allow_0 9 rfl rfl)
theorem dX0_allow_10 : decode cX0_allow 10 = .ok (.invokevirtual 222, 3) := dk_182 0 222 (dk_at dksX0_allow_0 10 rfl rfl)
theorem dX0_allow_13 : decode cX0_allow 13 = .ok (.ifCond .ne 5, 3) := dk_154 0 5 (dk_at dksX0_allow_0 13 rfl rfl)
theorem dX0_allow_16 : decode cX0_allow 16 = .ok (.iconst (-1), 1) := dk_2 (dk_at dksX0_allow_0 16 rfl rfl)
theorem dX0_allow_17 : decode cX0_allow 17 = .ok (.ireturn, 1) := dk_172 (dk_at dksX0_allow_0 17 rfl rfl)
theorem dX0_allow_18 : decode cX0_allow 18 = .ok (.iload_n 3, 1) := dk_29 (dk_at dksX0_allow_0 18 rfl rfl)
theorem dX0_allow_19 : decode cX0_allow 19 = .ok (.i2l, 1) := dk_133 (dk_at dksX0_allow_0 19 rfl rfl)
theorem dX0_allow_20 : decode cX0_allow 20 = .ok (.lconst 0, 1) := dk_9 (dk_at dksX0_allow_0 20 rfl rfl)
theorem dX0_allow_21 : decode cX0_allow 21 = .ok (.ldc2_w 190, 3) := dk_20 0 190 (dk_at dksX0_allow_0 21 rfl rfl)
theorem dX0_allow_24 : decode cX0_allow 24 = .ok (.invokestatic 62, 3) := dk_184 0 62 (dk_at dksX0_allow_1 0 rfl rfl)
theorem dX0_allow_27 : decode cX0_allow 27 = .ok (.ifCond .ne 6, 3) := dk_154 0 6 (dk_at dksX0_allow_1 3 rfl rfl)
theorem dX0_allow_30 : decode cX0_allow 30 = .ok (.bipush (-2), 2) := dk_16 254 (dk_at dksX0_allow_1 6 rfl rfl)
theorem dX0_allow_32 : decode cX0_allow 32 = .ok (.ireturn, 1) := dk_172 (dk_at dksX0_allow_1 8 rfl rfl)
theorem dX0_allow_33 : decode cX0_allow 33 = .ok (.aload_n 0, 1) := dk_42 (dk_at dksX0_allow_1 9 rfl rfl)
theorem dX0_allow_34 : decode cX0_allow 34 = .ok (.getfield 40, 3) := dk_180 0 40 (dk_at dksX0_allow_1 10 rfl rfl)
theorem dX0_allow_37 : decode cX0_allow 37 = .ok (.iload_n 1, 1) := dk_27 (dk_at dksX0_allow_1 13 rfl rfl)
theorem dX0_allow_38 : decode cX0_allow 38 = .ok (.invokeinterface 94 2, 5) := by decide +kernel
theorem dX0_allow_43 : decode cX0_allow 43 = .ok (.checkcast 179, 3) := dk_192 0 179 (dk_at dksX0_allow_1 19 rfl rfl)
theorem dX0_allow_46 : decode cX0_allow 46 = .ok (.getfield 266, 3) := dk_180 1 10 (dk_at dksX0_allow_2 0 rfl rfl)
theorem dX0_allow_49 : decode cX0_allow 49 = .ok (.iload_n 2, 1) := dk_28 (dk_at dksX0_allow_2 3 rfl rfl)
theorem dX0_allow_50 : decode cX0_allow 50 = .ok (.iaload, 1) := dk_46 (dk_at dksX0_allow_2 4 rfl rfl)
theorem dX0_allow_51 : decode cX0_allow 51 = .ok (.istore 4, 2) := dk_54 4 (dk_at dksX0_allow_2 5 rfl rfl)
theorem dX0_allow_53 : decode cX0_allow 53 = .ok (.aload_n 0, 1) := dk_42 (dk_at dksX0_allow_2 7 rfl rfl)
theorem dX0_allow_54 : decode cX0_allow 54 = .ok (.getfield 40, 3) := dk_180 0 40 (dk_at dksX0_allow_2 8 rfl rfl)
theorem dX0_allow_57 : decode cX0_allow 57 = .ok (.iload_n 1, 1) := dk_27 (dk_at dksX0_allow_2 11 rfl rfl)
theorem dX0_allow_58 : decode cX0_allow 58 = .ok (.invokeinterface 94 2, 5) := by decide +kernel
theorem dX0_allow_63 : decode cX0_allow 63 = .ok (.checkcast 179, 3) := dk_192 0 179 (dk_at dksX0_allow_2 17 rfl rfl)
theorem dX0_allow_66 : decode cX0_allow 66 = .ok (.getfield 266, 3) := dk_180 1 10 (dk_at dksX0_allow_2 20 rfl rfl)
theorem dX0_allow_69 : decode cX0_allow 69 = .ok (.iload_n 2, 1) := dk_28 (dk_at dksX0_allow_2 23 rfl rfl)
theorem dX0_allow_70 : decode cX0_allow 70 = .ok (.iload_n 3, 1) := dk_29 (dk_at dksX0_allow_3 0 rfl rfl)
theorem dX0_allow_71 : decode cX0_allow 71 = .ok (.iastore, 1) := dk_79 (dk_at dksX0_allow_3 1 rfl rfl)
theorem dX0_allow_72 : decode cX0_allow 72 = .ok (.iload 4, 2) := dk_21 4 (dk_at dksX0_allow_3 2 rfl rfl)
theorem dX0_allow_74 : decode cX0_allow 74 = .ok (.ireturn, 1) := dk_172 (dk_at dksX0_allow_3 4 rfl rfl)
abbrev cX0_error : ByteArray := prog_1_method_36_code
def yX0_error : MethodName := ⟨RX0, "error", "(II)J"⟩
def dkwX0_error_2 : List UInt8 := [180, 0, 40, 27, 185, 0, 94, 2, 0, 192, 0, 179, 28, 182, 1, 13, 167, 0, 6, 20, 0, 51, 173]
abbrev dktX0_error_2 : List UInt8 := dkwX0_error_2 ++ []
def dkwX0_error_1 : List UInt8 := [185, 0, 94, 2, 0, 192, 0, 179, 28, 182, 1, 3, 153, 0, 30, 42, 182, 0, 205, 153, 0, 23, 42]
abbrev dktX0_error_1 : List UInt8 := dkwX0_error_1 ++ dktX0_error_2
def dkwX0_error_0 : List UInt8 := [42, 27, 182, 1, 0, 153, 0, 58, 42, 28, 182, 0, 222, 153, 0, 50, 42, 180, 0, 40, 27]
abbrev dktX0_error_0 : List UInt8 := dkwX0_error_0 ++ dktX0_error_1
theorem dksX0_error_0 : cX0_error.data.toList.drop 0 = dktX0_error_0 := by decide +kernel
theorem dksX0_error_1 : cX0_error.data.toList.drop 21 = dktX0_error_1 := dk_seg dksX0_error_0 21 rfl rfl
theorem dksX0_error_2 : cX0_error.data.toList.drop 44 = dktX0_error_2 := dk_seg dksX0_error_1 23 rfl rfl
theorem dX0_error_0 : decode cX0_error 0 = .ok (.aload_n 0, 1) := dk_42 (dk_at dksX0_error_0 0 rfl rfl)
theorem dX0_error_1 : decode cX0_error 1 = .ok (.iload_n 1, 1) := dk_27 (dk_at dksX0_error_0 1 rfl rfl)
theorem dX0_error_2 : decode cX0_error 2 = .ok (.invokevirtual 256, 3) := dk_182 1 0 (dk_at dksX0_error_0 2 rfl rfl)
theorem dX0_error_5 : decode cX0_error 5 = .ok (.ifCond .eq 58, 3) := dk_153 0 58 (dk_at dksX0_error_0 5 rfl rfl)
theorem dX0_error_8 : decode cX0_error 8 = .ok (.aload_n 0, 1) := dk_42 (dk_at dksX0_error_0 8 rfl rfl)
theorem dX0_error_9 : decode cX0_error 9 = .ok (.iload_n 2, 1) := dk_28 (dk_at dksX0_error_0 9 rfl rfl)
theorem dX0_error_10 : decode cX0_error 10 = .ok (.invokevirtual 222, 3) := dk_182 0 222 (dk_at dksX0_error_0 10 rfl rfl)
theorem dX0_error_13 : decode cX0_error 13 = .ok (.ifCond .eq 50, 3) := dk_153 0 50 (dk_at dksX0_error_0 13 rfl rfl)
theorem dX0_error_16 : decode cX0_error 16 = .ok (.aload_n 0, 1) := dk_42 (dk_at dksX0_error_0 16 rfl rfl)
theorem dX0_error_17 : decode cX0_error 17 = .ok (.getfield 40, 3) := dk_180 0 40 (dk_at dksX0_error_0 17 rfl rfl)
theorem dX0_error_20 : decode cX0_error 20 = .ok (.iload_n 1, 1) := dk_27 (dk_at dksX0_error_0 20 rfl rfl)
theorem dX0_error_21 : decode cX0_error 21 = .ok (.invokeinterface 94 2, 5) := by decide +kernel
theorem dX0_error_26 : decode cX0_error 26 = .ok (.checkcast 179, 3) := dk_192 0 179 (dk_at dksX0_error_1 5 rfl rfl)
theorem dX0_error_29 : decode cX0_error 29 = .ok (.iload_n 2, 1) := dk_28 (dk_at dksX0_error_1 8 rfl rfl)
theorem dX0_error_30 : decode cX0_error 30 = .ok (.invokevirtual 259, 3) := dk_182 1 3 (dk_at dksX0_error_1 9 rfl rfl)
theorem dX0_error_33 : decode cX0_error 33 = .ok (.ifCond .eq 30, 3) := dk_153 0 30 (dk_at dksX0_error_1 12 rfl rfl)
theorem dX0_error_36 : decode cX0_error 36 = .ok (.aload_n 0, 1) := dk_42 (dk_at dksX0_error_1 15 rfl rfl)
theorem dX0_error_37 : decode cX0_error 37 = .ok (.invokevirtual 205, 3) := dk_182 0 205 (dk_at dksX0_error_1 16 rfl rfl)
theorem dX0_error_40 : decode cX0_error 40 = .ok (.ifCond .eq 23, 3) := dk_153 0 23 (dk_at dksX0_error_1 19 rfl rfl)
theorem dX0_error_43 : decode cX0_error 43 = .ok (.aload_n 0, 1) := dk_42 (dk_at dksX0_error_1 22 rfl rfl)
theorem dX0_error_44 : decode cX0_error 44 = .ok (.getfield 40, 3) := dk_180 0 40 (dk_at dksX0_error_2 0 rfl rfl)
theorem dX0_error_47 : decode cX0_error 47 = .ok (.iload_n 1, 1) := dk_27 (dk_at dksX0_error_2 3 rfl rfl)
theorem dX0_error_48 : decode cX0_error 48 = .ok (.invokeinterface 94 2, 5) := by decide +kernel
theorem dX0_error_53 : decode cX0_error 53 = .ok (.checkcast 179, 3) := dk_192 0 179 (dk_at dksX0_error_2 9 rfl rfl)
theorem dX0_error_56 : decode cX0_error 56 = .ok (.iload_n 2, 1) := dk_28 (dk_at dksX0_error_2 12 rfl rfl)
theorem dX0_error_57 : decode cX0_error 57 = .ok (.invokevirtual 269, 3) := dk_182 1 13 (dk_at dksX0_error_2 13 rfl rfl)
theorem dX0_error_60 : decode cX0_error 60 = .ok (.goto 6, 3) := dk_167 0 6 (dk_at dksX0_error_2 16 rfl rfl)
theorem dX0_error_63 : decode cX0_error 63 = .ok (.ldc2_w 51, 3) := dk_20 0 51 (dk_at dksX0_error_2 19 rfl rfl)
theorem dX0_error_66 : decode cX0_error 66 = .ok (.lreturn, 1) := dk_173 (dk_at dksX0_error_2 22 rfl rfl)
abbrev cX0_points : ByteArray := prog_1_method_37_code
def yX0_points : MethodName := ⟨RX0, "points", "(II)I"⟩
def dkwX0_points_2 : List UInt8 := [16, 253, 172]
abbrev dktX0_points_2 : List UInt8 := dkwX0_points_2 ++ []
def dkwX0_points_1 : List UInt8 := [153, 0, 23, 42, 180, 0, 40, 27, 185, 0, 94, 2, 0, 192, 0, 179, 28, 182, 1, 16, 167, 0, 5]
abbrev dktX0_points_1 : List UInt8 := dkwX0_points_1 ++ dktX0_points_2
def dkwX0_points_0 : List UInt8 := [42, 27, 182, 1, 0, 153, 0, 11, 42, 28, 182, 0, 222, 154, 0, 5, 2, 172, 42, 182, 0, 205]
abbrev dktX0_points_0 : List UInt8 := dkwX0_points_0 ++ dktX0_points_1
theorem dksX0_points_0 : cX0_points.data.toList.drop 0 = dktX0_points_0 := by decide +kernel
theorem dksX0_points_1 : cX0_points.data.toList.drop 22 = dktX0_points_1 := dk_seg dksX0_points_0 22 rfl rfl
theorem dksX0_points_2 : cX0_points.data.toList.drop 45 = dktX0_points_2 := dk_seg dksX0_points_1 23 rfl rfl
theorem dX0_points_0 : decode cX0_points 0 = .ok (.aload_n 0, 1) := dk_42 (dk_at dksX0_points_0 0 rfl rfl)
theorem dX0_points_1 : decode cX0_points 1 = .ok (.iload_n 1, 1) := dk_27 (dk_at dksX0_points_0 1 rfl rfl)
theorem dX0_points_2 : decode cX0_points 2 = .ok (.invokevirtual 256, 3) := dk_182 1 0 (dk_at dksX0_points_0 2 rfl rfl)
theorem dX0_points_5 : decode cX0_points 5 = .ok (.ifCond .eq 11, 3) := dk_153 0 11 (dk_at dksX0_points_0 5 rfl rfl)
theorem dX0_points_8 : decode cX0_points 8 = .ok (.aload_n 0, 1) := dk_42 (dk_at dksX0_points_0 8 rfl rfl)
theorem dX0_points_9 : decode cX0_points 9 = .ok (.iload_n 2, 1) := dk_28 (dk_at dksX0_points_0 9 rfl rfl)
theorem dX0_points_10 : decode cX0_points 10 = .ok (.invokevirtual 222, 3) := dk_182 0 222 (dk_at dksX0_points_0 10 rfl rfl)
theorem dX0_points_13 : decode cX0_points 13 = .ok (.ifCond .ne 5, 3) := dk_154 0 5 (dk_at dksX0_points_0 13 rfl rfl)
theorem dX0_points_16 : decode cX0_points 16 = .ok (.iconst (-1), 1) := dk_2 (dk_at dksX0_points_0 16 rfl rfl)
theorem dX0_points_17 : decode cX0_points 17 = .ok (.ireturn, 1) := dk_172 (dk_at dksX0_points_0 17 rfl rfl)
theorem dX0_points_18 : decode cX0_points 18 = .ok (.aload_n 0, 1) := dk_42 (dk_at dksX0_points_0 18 rfl rfl)
theorem dX0_points_19 : decode cX0_points 19 = .ok (.invokevirtual 205, 3) := dk_182 0 205 (dk_at dksX0_points_0 19 rfl rfl)
theorem dX0_points_22 : decode cX0_points 22 = .ok (.ifCond .eq 23, 3) := dk_153 0 23 (dk_at dksX0_points_1 0 rfl rfl)
theorem dX0_points_25 : decode cX0_points 25 = .ok (.aload_n 0, 1) := dk_42 (dk_at dksX0_points_1 3 rfl rfl)
theorem dX0_points_26 : decode cX0_points 26 = .ok (.getfield 40, 3) := dk_180 0 40 (dk_at dksX0_points_1 4 rfl rfl)
theorem dX0_points_29 : decode cX0_points 29 = .ok (.iload_n 1, 1) := dk_27 (dk_at dksX0_points_1 7 rfl rfl)
theorem dX0_points_30 : decode cX0_points 30 = .ok (.invokeinterface 94 2, 5) := by decide +kernel
theorem dX0_points_35 : decode cX0_points 35 = .ok (.checkcast 179, 3) := dk_192 0 179 (dk_at dksX0_points_1 13 rfl rfl)
theorem dX0_points_38 : decode cX0_points 38 = .ok (.iload_n 2, 1) := dk_28 (dk_at dksX0_points_1 16 rfl rfl)
theorem dX0_points_39 : decode cX0_points 39 = .ok (.invokevirtual 272, 3) := dk_182 1 16 (dk_at dksX0_points_1 17 rfl rfl)
theorem dX0_points_42 : decode cX0_points 42 = .ok (.goto 5, 3) := dk_167 0 5 (dk_at dksX0_points_1 20 rfl rfl)
theorem dX0_points_45 : decode cX0_points 45 = .ok (.bipush (-3), 2) := dk_16 253 (dk_at dksX0_points_2 0 rfl rfl)
theorem dX0_points_47 : decode cX0_points 47 = .ok (.ireturn, 1) := dk_172 (dk_at dksX0_points_2 2 rfl rfl)
abbrev cX0_result : ByteArray := prog_1_method_40_code
def yX0_result : MethodName := ⟨RX0, "result", "(II)I"⟩
def dkwX0_result_10 : List UInt8 := [54, 4, 132, 5, 1, 167, 255, 157, 21, 4, 172]
abbrev dktX0_result_10 : List UInt8 := dkwX0_result_10 ++ []
def dkwX0_result_9 : List UInt8 := [153, 0, 7, 4, 167, 0, 4, 3, 54, 6, 21, 4, 21, 6, 153, 0, 7, 4, 167, 0, 4, 3, 96]
abbrev dktX0_result_9 : List UInt8 := dkwX0_result_9 ++ dktX0_result_10
def dkwX0_result_8 : List UInt8 := [182, 1, 3, 154, 0, 28, 167, 0, 21, 45, 21, 5, 182, 1, 3, 153, 0, 16, 45, 21, 5, 182, 1, 34]
abbrev dktX0_result_8 : List UInt8 := dkwX0_result_8 ++ dktX0_result_9
def dkwX0_result_7 : List UInt8 := [21, 5, 185, 0, 94, 2, 0, 192, 0, 212, 180, 0, 242, 154, 0, 42, 28, 5, 160, 0, 15, 45, 21, 5]
abbrev dktX0_result_7 : List UInt8 := dkwX0_result_7 ++ dktX0_result_8
def dkwX0_result_6 : List UInt8 := [21, 5, 42, 180, 0, 37, 185, 0, 56, 1, 0, 162, 0, 91, 28, 4, 164, 0, 86, 42, 180, 0, 37]
abbrev dktX0_result_6 : List UInt8 := dkwX0_result_6 ++ dktX0_result_7
def dkwX0_result_5 : List UInt8 := [182, 1, 30, 153, 0, 7, 4, 167, 0, 4, 3, 96, 54, 4, 132, 5, 1, 167, 255, 196, 3, 54, 5]
abbrev dktX0_result_5 : List UInt8 := dkwX0_result_5 ++ dktX0_result_6
def dkwX0_result_4 : List UInt8 := [21, 5, 27, 159, 0, 29, 42, 42, 180, 0, 40, 21, 5, 185, 0, 94, 2, 0, 192, 0, 179, 45]
abbrev dktX0_result_4 : List UInt8 := dkwX0_result_4 ++ dktX0_result_5
def dkwX0_result_3 : List UInt8 := [54, 5, 21, 5, 42, 180, 0, 40, 185, 0, 56, 1, 0, 162, 0, 52, 28, 4, 160, 0, 47, 21, 4]
abbrev dktX0_result_3 : List UInt8 := dkwX0_result_3 ++ dktX0_result_4
def dkwX0_result_2 : List UInt8 := [78, 28, 154, 0, 8, 45, 182, 1, 19, 172, 28, 4, 160, 0, 7, 4, 167, 0, 4, 3, 54, 4, 3]
abbrev dktX0_result_2 : List UInt8 := dkwX0_result_2 ++ dktX0_result_3
def dkwX0_result_1 : List UInt8 := [172, 42, 182, 0, 205, 154, 0, 6, 16, 253, 172, 42, 180, 0, 40, 27, 185, 0, 94, 2, 0, 192, 0, 179]
abbrev dktX0_result_1 : List UInt8 := dkwX0_result_1 ++ dktX0_result_2
def dkwX0_result_0 : List UInt8 := [42, 27, 182, 1, 0, 154, 0, 5, 2, 172, 28, 133, 9, 20, 1, 28, 184, 0, 62, 154, 0, 6, 16, 254]
abbrev dktX0_result_0 : List UInt8 := dkwX0_result_0 ++ dktX0_result_1
theorem dksX0_result_0 : cX0_result.data.toList.drop 0 = dktX0_result_0 := by decide +kernel
theorem dksX0_result_1 : cX0_result.data.toList.drop 24 = dktX0_result_1 := dk_seg dksX0_result_0 24 rfl rfl
theorem dksX0_result_2 : cX0_result.data.toList.drop 48 = dktX0_result_2 := dk_seg dksX0_result_1 24 rfl rfl
theorem dksX0_result_3 : cX0_result.data.toList.drop 71 = dktX0_result_3 := dk_seg dksX0_result_2 23 rfl rfl
theorem dksX0_result_4 : cX0_result.data.toList.drop 94 = dktX0_result_4 := dk_seg dksX0_result_3 23 rfl rfl
theorem dksX0_result_5 : cX0_result.data.toList.drop 116 = dktX0_result_5 := dk_seg dksX0_result_4 22 rfl rfl
theorem dksX0_result_6 : cX0_result.data.toList.drop 139 = dktX0_result_6 := dk_seg dksX0_result_5 23 rfl rfl
theorem dksX0_result_7 : cX0_result.data.toList.drop 162 = dktX0_result_7 := dk_seg dksX0_result_6 23 rfl rfl
theorem dksX0_result_8 : cX0_result.data.toList.drop 186 = dktX0_result_8 := dk_seg dksX0_result_7 24 rfl rfl
theorem dksX0_result_9 : cX0_result.data.toList.drop 210 = dktX0_result_9 := dk_seg dksX0_result_8 24 rfl rfl
theorem dksX0_result_10 : cX0_result.data.toList.drop 233 = dktX0_result_10 := dk_seg dksX0_result_9 23 rfl rfl
theorem dX0_result_0 : decode cX0_result 0 = .ok (.aload_n 0, 1) := dk_42 (dk_at dksX0_result_0 0 rfl rfl)
theorem dX0_result_1 : decode cX0_result 1 = .ok (.iload_n 1, 1) := dk_27 (dk_at dksX0_result_0 1 rfl rfl)
theorem dX0_result_2 : decode cX0_result 2 = .ok (.invokevirtual 256, 3) := dk_182 1 0 (dk_at dksX0_result_0 2 rfl rfl)
theorem dX0_result_5 : decode cX0_result 5 = .ok (.ifCond .ne 5, 3) := dk_154 0 5 (dk_at dksX0_result_0 5 rfl rfl)
theorem dX0_result_8 : decode cX0_result 8 = .ok (.iconst (-1), 1) := dk_2 (dk_at dksX0_result_0 8 rfl rfl)
theorem dX0_result_9 : decode cX0_result 9 = .ok (.ireturn, 1) := dk_172 (dk_at dksX0_result_0 9 rfl rfl)
theorem dX0_result_10 : decode cX0_result 10 = .ok (.iload_n 2, 1) := dk_28 (dk_at dksX0_result_0 10 rfl rfl)
theorem dX0_result_11 : decode cX0_result 11 = .ok (.i2l, 1) := dk_133 (dk_at dksX0_result_0 11 rfl rfl)
theorem dX0_result_12 : decode cX0_result 12 = .ok (.lconst 0, 1) := dk_9 (dk_at dksX0_result_0 12 rfl rfl)
theorem dX0_result_13 : decode cX0_result 13 = .ok (.ldc2_w 284, 3) := dk_20 1 28 (dk_at dksX0_result_0 13 rfl rfl)
theorem dX0_result_16 : decode cX0_result 16 = .ok (.invokestatic 62, 3) := dk_184 0 62 (dk_at dksX0_result_0 16 rfl rfl)
theorem dX0_result_19 : decode cX0_result 19 = .ok (.ifCond .ne 6, 3) := dk_154 0 6 (dk_at dksX0_result_0 19 rfl rfl)
theorem dX0_result_22 : decode cX0_result 22 = .ok (.bipush (-2), 2) := dk_16 254 (dk_at dksX0_result_0 22 rfl rfl)
theorem dX0_result_24 : decode cX0_result 24 = .ok (.ireturn, 1) := dk_172 (dk_at dksX0_result_1 0 rfl rfl)
theorem dX0_result_25 : decode cX0_result 25 = .ok (.aload_n 0, 1) := dk_42 (dk_at dksX0_result_1 1 rfl rfl)
theorem dX0_result_26 : decode cX0_result 26 = .ok (.invokevirtual 205, 3) := dk_182 0 205 (dk_at dksX0_result_1 2 rfl rfl)
theorem dX0_result_29 : decode cX0_result 29 = .ok (.ifCond .ne 6, 3) := dk_154 0 6 (dk_at dksX0_result_1 5 rfl rfl)
theorem dX0_result_32 : decode cX0_result 32 = .ok (.bipush (-3), 2) := dk_16 253 (dk_at dksX0_result_1 8 rfl rfl)
theorem dX0_result_34 : decode cX0_result 34 = .ok (.ireturn, 1) := dk_172 (dk_at dksX0_result_1 10 rfl rfl)
theorem dX0_result_35 : decode cX0_result 35 = .ok (.aload_n 0, 1) := dk_42 (dk_at dksX0_result_1 11 rfl rfl)
theorem dX0_result_36 : decode cX0_result 36 = .ok (.getfield 40, 3) := dk_180 0 40 (dk_at dksX0_result_1 12 rfl rfl)
theorem dX0_result_39 : decode cX0_result 39 = .ok (.iload_n 1, 1) := dk_27 (dk_at dksX0_result_1 15 rfl rfl)
theorem dX0_result_40 : decode cX0_result 40 = .ok (.invokeinterface 94 2, 5) := by decide +kernel
theorem dX0_result_45 : decode cX0_result 45 = .ok (.checkcast 179, 3) := dk_192 0 179 (dk_at dksX0_result_1 21 rfl rfl)
theorem dX0_result_48 : decode cX0_result 48 = .ok (.astore_n 3, 1) := dk_78 (dk_at dksX0_result_2 0 rfl rfl)
theorem dX0_result_49 : decode cX0_result 49 = .ok (.iload_n 2, 1) := dk_28 (dk_at dksX0_result_2 1 rfl rfl)
theorem dX0_result_50 : decode cX0_result 50 = .ok (.ifCond .ne 8, 3) := dk_154 0 8 (dk_at dksX0_result_2 2 rfl rfl)
theorem dX0_result_53 : decode cX0_result 53 = .ok (.aload_n 3, 1) := dk_45 (dk_at dksX0_result_2 5 rfl rfl)
theorem dX0_result_54 : decode cX0_result 54 = .ok (.invokevirtual 275, 3) := dk_182 1 19 (dk_at dksX0_result_2 6 rfl rfl)
theorem dX0_result_57 : decode cX0_result 57 = .ok (.ireturn, 1) := dk_172 (dk_at dksX0_result_2 9 rfl rfl)
theorem dX0_result_58 : decode cX0_result 58 = .ok (.iload_n 2, 1) := dk_28 (dk_at dksX0_result_2 10 rfl rfl)
theorem dX0_result_59 : decode cX0_result 59 = .ok (.iconst 1, 1) := dk_4 (dk_at dksX0_result_2 11 rfl rfl)
theorem dX0_result_60 : decode cX0_result 60 = .ok (.if_icmp .ne 7, 3) := dk_160 0 7 (dk_at dksX0_result_2 12 rfl rfl)
theorem dX0_result_63 : decode cX0_result 63 = .ok (.iconst 1, 1) := dk_4 (dk_at dksX0_result_2 15 rfl rfl)
theorem dX0_result_64 : decode cX0_result 64 = .ok (.goto 4, 3) := dk_167 0 4 (dk_at dksX0_result_2 16 rfl rfl)
theorem dX0_result_67 : decode cX0_result 67 = .ok (.iconst 0, 1) := dk_3 (dk_at dksX0_result_2 19 rfl rfl)
theorem dX0_result_68 : decode cX0_result 68 = .ok (.istore 4, 2) := dk_54 4 (dk_at dksX0_result_2 20 rfl rfl)
theorem dX0_result_70 : decode cX0_result 70 = .ok (.iconst 0, 1) := dk_3 (dk_at dksX0_result_2 22 rfl rfl)
theorem dX0_result_71 : decode cX0_result 71 = .ok (.istore 5, 2) := dk_54 5 (dk_at dksX0_result_3 0 rfl rfl)
theorem dX0_result_73 : decode cX0_result 73 = .ok (.iload 5, 2) := dk_21 5 (dk_at dksX0_result_3 2 rfl rfl)
theorem dX0_result_75 : decode cX0_result 75 = .ok (.aload_n 0, 1) := dk_42 (dk_at dksX0_result_3 4 rfl rfl)
theorem dX0_result_76 : decode cX0_result 76 = .ok (.getfield 40, 3) := dk_180 0 40 (dk_at dksX0_result_3 5 rfl rfl)
theorem dX0_result_79 : decode cX0_result 79 = .ok (.invokeinterface 56 1, 5) := by decide +kernel
theorem dX0_result_84 : decode cX0_result 84 = .ok (.if_icmp .ge 52, 3) := dk_162 0 52 (dk_at dksX0_result_3 13 rfl rfl)
theorem dX0_result_87 : decode cX0_result 87 = .ok (.iload_n 2, 1) := dk_28 (dk_at dksX0_result_3 16 rfl rfl)
theorem dX0_result_88 : decode cX0_result 88 = .ok (.iconst 1, 1) := dk_4 (dk_at dksX0_result_3 17 rfl rfl)
theorem dX0_result_89 : decode cX0_result 89 = .ok (.if_icmp .ne 47, 3) := dk_160 0 47 (dk_at dksX0_result_3 18 rfl rfl)
theorem dX0_result_92 : decode cX0_result 92 = .ok (.iload 4, 2) := dk_21 4 (dk_at dksX0_result_3 21 rfl rfl)
theorem dX0_result_94 : decode cX0_result 94 = .ok (.iload 5, 2) := dk_21 5 (dk_at dksX0_result_4 0 rfl rfl)
theorem dX0_result_96 : decode cX0_result 96 = .ok (.iload_n 1, 1) := dk_27 (dk_at dksX0_result_4 2 rfl rfl)
theorem dX0_result_97 : decode cX0_result 97 = .ok (.if_icmp .eq 29, 3) := dk_159 0 29 (dk_at dksX0_result_4 3 rfl rfl)
theorem dX0_result_100 : decode cX0_result 100 = .ok (.aload_n 0, 1) := dk_42 (dk_at dksX0_result_4 6 rfl rfl)
theorem dX0_result_101 : decode cX0_result 101 = .ok (.aload_n 0, 1) := dk_42 (dk_at dksX0_result_4 7 rfl rfl)
theorem dX0_result_102 : decode cX0_result 102 = .ok (.getfield 40, 3) := dk_180 0 40 (dk_at dksX0_result_4 8 rfl rfl)
theorem dX0_result_105 : decode cX0_result 105 = .ok (.iload 5, 2) := dk_21 5 (dk_at dksX0_result_4 11 rfl rfl)
theorem dX0_result_107 : decode cX0_result 107 = .ok (.invokeinterface 94 2, 5) := by decide +kernel
theorem dX0_result_112 : decode cX0_result 112 = .ok (.checkcast 179, 3) := dk_192 0 179 (dk_at dksX0_result_4 18 rfl rfl)
theorem dX0_result_115 : decode cX0_result 115 = .ok (.aload_n 3, 1) := dk_45 (dk_at dksX0_result_4 21 rfl rfl)
theorem dX0_result_116 : decode cX0_result 116 = .ok (.invokevirtual 286, 3) := dk_182 1 30 (dk_at dksX0_result_5 0 rfl rfl)
theorem dX0_result_119 : decode cX0_result 119 = .ok (.ifCond .eq 7, 3) := dk_153 0 7 (dk_at dksX0_result_5 3 rfl rfl)
theorem dX0_result_122 : decode cX0_result 122 = .ok (.iconst 1, 1) := dk_4 (dk_at dksX0_result_5 6 rfl rfl)
theorem dX0_result_123 : decode cX0_result 123 = .ok (.goto 4, 3) := dk_167 0 4 (dk_at dksX0_result_5 7 rfl rfl)
theorem dX0_result_126 : decode cX0_result 126 = .ok (.iconst 0, 1) := dk_3 (dk_at dksX0_result_5 10 rfl rfl)
theorem dX0_result_127 : decode cX0_result 127 = .ok (.iadd, 1) := dk_96 (dk_at dksX0_result_5 11 rfl rfl)
theorem dX0_result_128 : decode cX0_result 128 = .ok (.istore 4, 2) := dk_54 4 (dk_at dksX0_result_5 12 rfl rfl)
theorem dX0_result_130 : decode cX0_result 130 = .ok (.iinc 5 1, 3) := dk_132 5 1 (dk_at dksX0_result_5 14 rfl rfl)
theorem dX0_result_133 : decode cX0_result 133 = .ok (.goto (-60), 3) := dk_167 255 196 (dk_at dksX0_result_5 17 rfl rfl)
theorem dX0_result_136 : decode cX0_result 136 = .ok (.iconst 0, 1) := dk_3 (dk_at dksX0_result_5 20 rfl rfl)
theorem dX0_result_137 : decode cX0_result 137 = .ok (.istore 5, 2) := dk_54 5 (dk_at dksX0_result_5 21 rfl rfl)
theorem dX0_result_139 : decode cX0_result 139 = .ok (.iload 5, 2) := dk_21 5 (dk_at dksX0_result_6 0 rfl rfl)
theorem dX0_result_141 : decode cX0_result 141 = .ok (.aload_n 0, 1) := dk_42 (dk_at dksX0_result_6 2 rfl rfl)
theorem dX0_result_142 : decode cX0_result 142 = .ok (.getfield 37, 3) := dk_180 0 37 (dk_at dksX0_result_6 3 rfl rfl)
theorem dX0_result_145 : decode cX0_result 145 = .ok (.invokeinterface 56 1, 5) := by decide +kernel
theorem dX0_result_150 : decode cX0_result 150 = .ok (.if_icmp .ge 91, 3) := dk_162 0 91 (dk_at dksX0_result_6 11 rfl rfl)
theorem dX0_result_153 : decode cX0_result 153 = .ok (.iload_n 2, 1) := dk_28 (dk_at dksX0_result_6 14 rfl rfl)
theorem dX0_result_154 : decode cX0_result 154 = .ok (.iconst 1, 1) := dk_4 (dk_at dksX0_result_6 15 rfl rfl)
theorem dX0_result_155 : decode cX0_result 155 = .ok (.if_icmp .le 86, 3) := dk_164 0 86 (dk_at dksX0_result_6 16 rfl rfl)
theorem dX0_result_158 : decode cX0_result 158 = .ok (.aload_n 0, 1) := dk_42 (dk_at dksX0_result_6 19 rfl rfl)
theorem dX0_result_159 : decode cX0_result 159 = .ok (.getfield 37, 3) := dk_180 0 37 (dk_at dksX0_result_6 20 rfl rfl)
theorem dX0_result_162 : decode cX0_result 162 = .ok (.iload 5, 2) := dk_21 5 (dk_at dksX0_result_7 0 rfl rfl)
theorem dX0_result_164 : decode cX0_result 164 = .ok (.invokeinterface 94 2, 5) := by decide +kernel
theorem dX0_result_169 : decode cX0_result 169 = .ok (.checkcast 212, 3) := dk_192 0 212 (dk_at dksX0_result_7 7 rfl rfl)
theorem dX0_result_172 : decode cX0_result 172 = .ok (.getfield 242, 3) := dk_180 0 242 (dk_at dksX0_result_7 10 rfl rfl)
theorem dX0_result_175 : decode cX0_result 175 = .ok (.ifCond .ne 42, 3) := dk_154 0 42 (dk_at dksX0_result_7 13 rfl rfl)
theorem dX0_result_178 : decode cX0_result 178 = .ok (.iload_n 2, 1) := dk_28 (dk_at dksX0_result_7 16 rfl rfl)
theorem dX0_result_179 : decode cX0_result 179 = .ok (.iconst 2, 1) := dk_5 (dk_at dksX0_result_7 17 rfl rfl)
theorem dX0_result_180 : decode cX0_result 180 = .ok (.if_icmp .ne 15, 3) := dk_160 0 15 (dk_at dksX0_result_7 18 rfl rfl)
theorem dX0_result_183 : decode cX0_result 183 = .ok (.aload_n 3, 1) := dk_45 (dk_at dksX0_result_7 21 rfl rfl)
theorem dX0_result_184 : decode cX0_result 184 = .ok (.iload 5, 2) := dk_21 5 (dk_at dksX0_result_7 22 rfl rfl)
theorem dX0_result_186 : decode cX0_result 186 = .ok (.invokevirtual 259, 3) := dk_182 1 3 (dk_at dksX0_result_8 0 rfl rfl)
theorem dX0_result_189 : decode cX0_result 189 = .ok (.ifCond .ne 28, 3) := dk_154 0 28 (dk_at dksX0_result_8 3 rfl rfl)
theorem dX0_result_192 : decode cX0_result 192 = .ok (.goto 21, 3) := dk_167 0 21 (dk_at dksX0_result_8 6 rfl rfl)
theorem dX0_result_195 : decode cX0_result 195 = .ok (.aload_n 3, 1) := dk_45 (dk_at dksX0_result_8 9 rfl rfl)
theorem dX0_result_196 : decode cX0_result 196 = .ok (.iload 5, 2) := dk_21 5 (dk_at dksX0_result_8 10 rfl rfl)
theorem dX0_result_198 : decode cX0_result 198 = .ok (.invokevirtual 259, 3) := dk_182 1 3 (dk_at dksX0_result_8 12 rfl rfl)
theorem dX0_result_201 : decode cX0_result 201 = .ok (.ifCond .eq 16, 3) := dk_153 0 16 (dk_at dksX0_result_8 15 rfl rfl)
theorem dX0_result_204 : decode cX0_result 204 = .ok (.aload_n 3, 1) := dk_45 (dk_at dksX0_result_8 18 rfl rfl)
theorem dX0_result_205 : decode cX0_result 205 = .ok (.iload 5, 2) := dk_21 5 (dk_at dksX0_result_8 19 rfl rfl)
theorem dX0_result_207 : decode cX0_result 207 = .ok (.invokevirtual 290, 3) := dk_182 1 34 (dk_at dksX0_result_8 21 rfl rfl)
theorem dX0_result_210 : decode cX0_result 210 = .ok (.ifCond .eq 7, 3) := dk_153 0 7 (dk_at dksX0_result_9 0 rfl rfl)
theorem dX0_result_213 : decode cX0_result 213 = .ok (.iconst 1, 1) := dk_4 (dk_at dksX0_result_9 3 rfl rfl)
theorem dX0_result_214 : decode cX0_result 214 = .ok (.goto 4, 3) := dk_167 0 4 (dk_at dksX0_result_9 4 rfl rfl)
theorem dX0_result_217 : decode cX0_result 217 = .ok (.iconst 0, 1) := dk_3 (dk_at dksX0_result_9 7 rfl rfl)
theorem dX0_result_218 : decode cX0_result 218 = .ok (.istore 6, 2) := dk_54 6 (dk_at dksX0_result_9 8 rfl rfl)
theorem dX0_result_220 : decode cX0_result 220 = .ok (.iload 4, 2) := dk_21 4 (dk_at dksX0_result_9 10 rfl rfl)
theorem dX0_result_222 : decode cX0_result 222 = .ok (.iload 6, 2) := dk_21 6 (dk_at dksX0_result_9 12 rfl rfl)
theorem dX0_result_224 : decode cX0_result 224 = .ok (.ifCond .eq 7, 3) := dk_153 0 7 (dk_at dksX0_result_9 14 rfl rfl)
theorem dX0_result_227 : decode cX0_result 227 = .ok (.iconst 1, 1) := dk_4 (dk_at dksX0_result_9 17 rfl rfl)
theorem dX0_result_228 : decode cX0_result 228 = .ok (.goto 4, 3) := dk_167 0 4 (dk_at dksX0_result_9 18 rfl rfl)
theorem dX0_result_231 : decode cX0_result 231 = .ok (.iconst 0, 1) := dk_3 (dk_at dksX0_result_9 21 rfl rfl)
theorem dX0_result_232 : decode cX0_result 232 = .ok (.iadd, 1) := dk_96 (dk_at dksX0_result_9 22 rfl rfl)
theorem dX0_result_233 : decode cX0_result 233 = .ok (.istore 4, 2) := dk_54 4 (dk_at dksX0_result_10 0 rfl rfl)
theorem dX0_result_235 : decode cX0_result 235 = .ok (.iinc 5 1, 3) := dk_132 5 1 (dk_at dksX0_result_10 2 rfl rfl)
theorem dX0_result_238 : decode cX0_result 238 = .ok (.goto (-99), 3) := dk_167 255 157 (dk_at dksX0_result_10 5 rfl rfl)
theorem dX0_result_241 : decode cX0_result 241 = .ok (.iload 4, 2) := dk_21 4 (dk_at dksX0_result_10 8 rfl rfl)
theorem dX0_result_243 : decode cX0_result 243 = .ok (.ireturn, 1) := dk_172 (dk_at dksX0_result_10 10 rfl rfl)
abbrev cX0_isBetter : ByteArray := prog_1_method_39_code
def yX0_isBetter : MethodName := ⟨RX0, "isBetter", "(LRegularRally$Car;LRegularRally$Car;)Z"⟩
def dkwX0_isBetter_5 : List UInt8 := [167, 0, 4, 3, 172]
abbrev dktX0_isBetter_5 : List UInt8 := dkwX0_isBetter_5 ++ []
def dkwX0_isBetter_4 : List UInt8 := [180, 0, 214, 182, 1, 22, 54, 5, 167, 255, 190, 43, 180, 1, 25, 44, 180, 1, 25, 162, 0, 7, 4]
abbrev dktX0_isBetter_4 : List UInt8 := dkwX0_isBetter_4 ++ dktX0_isBetter_5
def dkwX0_isBetter_3 : List UInt8 := [162, 0, 7, 4, 167, 0, 4, 3, 172, 42, 42, 180, 0, 37, 21, 5, 185, 0, 94, 2, 0, 192, 0, 212]
abbrev dktX0_isBetter_3 : List UInt8 := dkwX0_isBetter_3 ++ dktX0_isBetter_4
def dkwX0_isBetter_2 : List UInt8 := [182, 1, 16, 44, 21, 5, 182, 1, 16, 159, 0, 24, 43, 21, 5, 182, 1, 16, 44, 21, 5, 182, 1, 16]
abbrev dktX0_isBetter_2 : List UInt8 := dkwX0_isBetter_2 ++ dktX0_isBetter_3
def dkwX0_isBetter_1 : List UInt8 := [167, 0, 4, 3, 172, 42, 3, 182, 1, 22, 54, 5, 21, 5, 16, 247, 159, 0, 65, 43, 21, 5]
abbrev dktX0_isBetter_1 : List UInt8 := dkwX0_isBetter_1 ++ dktX0_isBetter_2
def dkwX0_isBetter_0 : List UInt8 := [43, 182, 1, 19, 62, 44, 182, 1, 19, 54, 4, 29, 21, 4, 159, 0, 15, 29, 21, 4, 162, 0, 7, 4]
abbrev dktX0_isBetter_0 : List UInt8 := dkwX0_isBetter_0 ++ dktX0_isBetter_1
theorem dksX0_isBetter_0 : cX0_isBetter.data.toList.drop 0 = dktX0_isBetter_0 := by decide +kernel
theorem dksX0_isBetter_1 : cX0_isBetter.data.toList.drop 24 = dktX0_isBetter_1 := dk_seg dksX0_isBetter_0 24 rfl rfl
theorem dksX0_isBetter_2 : cX0_isBetter.data.toList.drop 46 = dktX0_isBetter_2 := dk_seg dksX0_isBetter_1 22 rfl rfl
theorem dksX0_isBetter_3 : cX0_isBetter.data.toList.drop 70 = dktX0_isBetter_3 := dk_seg dksX0_isBetter_2 24 rfl rfl
theorem dksX0_isBetter_4 : cX0_isBetter.data.toList.drop 94 = dktX0_isBetter_4 := dk_seg dksX0_isBetter_3 24 rfl rfl
theorem dksX0_isBetter_5 : cX0_isBetter.data.toList.drop 117 = dktX0_isBetter_5 := dk_seg dksX0_isBetter_4 23 rfl rfl
theorem dX0_isBetter_0 : decode cX0_isBetter 0 = .ok (.aload_n 1, 1) := dk_43 (dk_at dksX0_isBetter_0 0 rfl rfl)
theorem dX0_isBetter_1 : decode cX0_isBetter 1 = .ok (.invokevirtual 275, 3) := dk_182 1 19 (dk_at dksX0_isBetter_0 1 rfl rfl)
theorem dX0_isBetter_4 : decode cX0_isBetter 4 = .ok (.istore_n 3, 1) := dk_62 (dk_at dksX0_isBetter_0 4 rfl rfl)
theorem dX0_isBetter_5 : decode cX0_isBetter 5 = .ok (.aload_n 2, 1) := dk_44 (dk_at dksX0_isBetter_0 5 rfl rfl)
theorem dX0_isBetter_6 : decode cX0_isBetter 6 = .ok (.invokevirtual 275, 3) := dk_182 1 19 (dk_at dksX0_isBetter_0 6 rfl rfl)
theorem dX0_isBetter_9 : decode cX0_isBetter 9 = .ok (.istore 4, 2) := dk_54 4 (dk_at dksX0_isBetter_0 9 rfl rfl)
theorem dX0_isBetter_11 : decode cX0_isBetter 11 = .ok (.iload_n 3, 1) := dk_29 (dk_at dksX0_isBetter_0 11 rfl rfl)
theorem dX0_isBetter_12 : decode cX0_isBetter 12 = .ok (.iload 4, 2) := dk_21 4 (dk_at dksX0_isBetter_0 12 rfl rfl)
theorem dX0_isBetter_14 : decode cX0_isBetter 14 = .ok (.if_icmp .eq 15, 3) := dk_159 0 15 (dk_at dksX0_isBetter_0 14 rfl rfl)
theorem dX0_isBetter_17 : decode cX0_isBetter 17 = .ok (.iload_n 3, 1) := dk_29 (dk_at dksX0_isBetter_0 17 rfl rfl)
theorem dX0_isBetter_18 : decode cX0_isBetter 18 = .ok (.iload 4, 2) := dk_21 4 (dk_at dksX0_isBetter_0 18 rfl rfl)
theorem dX0_isBetter_20 : decode cX0_isBetter 20 = .ok (.if_icmp .ge 7, 3) := dk_162 0 7 (dk_at dksX0_isBetter_0 20 rfl rfl)
theorem dX0_isBetter_23 : decode cX0_isBetter 23 = .ok (.iconst 1, 1) := dk_4 (dk_at dksX0_isBetter_0 23 rfl rfl)
theorem dX0_isBetter_24 : decode cX0_isBetter 24 = .ok (.goto 4, 3) := dk_167 0 4 (dk_at dksX0_isBetter_1 0 rfl rfl)
theorem dX0_isBetter_27 : decode cX0_isBetter 27 = .ok (.iconst 0, 1) := dk_3 (dk_at dksX0_isBetter_1 3 rfl rfl)
theorem dX0_isBetter_28 : decode cX0_isBetter 28 = .ok (.ireturn, 1) := dk_172 (dk_at dksX0_isBetter_1 4 rfl rfl)
theorem dX0_isBetter_29 : decode cX0_isBetter 29 = .ok (.aload_n 0, 1) := dk_42 (dk_at dksX0_isBetter_1 5 rfl rfl)
theorem dX0_isBetter_30 : decode cX0_isBetter 30 = .ok (.iconst 0, 1) := dk_3 (dk_at dksX0_isBetter_1 6 rfl rfl)
theorem dX0_isBetter_31 : decode cX0_isBetter 31 = .ok (.invokevirtual 278, 3) := dk_182 1 22 (dk_at dksX0_isBetter_1 7 rfl rfl)
theorem dX0_isBetter_34 : decode cX0_isBetter 34 = .ok (.istore 5, 2) := dk_54 5 (dk_at dksX0_isBetter_1 10 rfl rfl)
theorem dX0_isBetter_36 : decode cX0_isBetter 36 = .ok (.iload 5, 2) := dk_21 5 (dk_at dksX0_isBetter_1 12 rfl rfl)
theorem dX0_isBetter_38 : decode cX0_isBetter 38 = .ok (.bipush (-9), 2) := dk_16 247 (dk_at dksX0_isBetter_1 14 rfl rfl)
theorem dX0_isBetter_40 : decode cX0_isBetter 40 = .ok (.if_icmp .eq 65, 3) := dk_159 0 65 (dk_at dksX0_isBetter_1 16 rfl rfl)
theorem dX0_isBetter_43 : decode cX0_isBetter 43 = .ok (.aload_n 1, 1) := dk_43 (dk_at dksX0_isBetter_1 19 rfl rfl)
theorem dX0_isBetter_44 : decode cX0_isBetter 44 = .ok (.iload 5, 2) := dk_21 5 (dk_at dksX0_isBetter_1 20 rfl rfl)
theorem dX0_isBetter_46 : decode cX0_isBetter 46 = .ok (.invokevirtual 272, 3) := dk_182 1 16 (dk_at dksX0_isBetter_2 0 rfl rfl)
theorem dX0_isBetter_49 : decode cX0_isBetter 49 = .ok (.aload_n 2, 1) := dk_44 (dk_at dksX0_isBetter_2 3 rfl rfl)
theorem dX0_isBetter_50 : decode cX0_isBetter 50 = .ok (.iload 5, 2) := dk_21 5 (dk_at dksX0_isBetter_2 4 rfl rfl)
theorem dX0_isBetter_52 : decode cX0_isBetter 52 = .ok (.invokevirtual 272, 3) := dk_182 1 16 (dk_at dksX0_isBetter_2 6 rfl rfl)
theorem dX0_isBetter_55 : decode cX0_isBetter 55 = .ok (.if_icmp .eq 24, 3) := dk_159 0 24 (dk_at dksX0_isBetter_2 9 rfl rfl)
theorem dX0_isBetter_58 : decode cX0_isBetter 58 = .ok (.aload_n 1, 1) := dk_43 (dk_at dksX0_isBetter_2 12 rfl rfl)
theorem dX0_isBetter_59 : decode cX0_isBetter 59 = .ok (.iload 5, 2) := dk_21 5 (dk_at dksX0_isBetter_2 13 rfl rfl)
theorem dX0_isBetter_61 : decode cX0_isBetter 61 = .ok (.invokevirtual 272, 3) := dk_182 1 16 (dk_at dksX0_isBetter_2 15 rfl rfl)
theorem dX0_isBetter_64 : decode cX0_isBetter 64 = .ok (.aload_n 2, 1) := dk_44 (dk_at dksX0_isBetter_2 18 rfl rfl)
theorem dX0_isBetter_65 : decode cX0_isBetter 65 = .ok (.iload 5, 2) := dk_21 5 (dk_at dksX0_isBetter_2 19 rfl rfl)
theorem dX0_isBetter_67 : decode cX0_isBetter 67 = .ok (.invokevirtual 272, 3) := dk_182 1 16 (dk_at dksX0_isBetter_2 21 rfl rfl)
theorem dX0_isBetter_70 : decode cX0_isBetter 70 = .ok (.if_icmp .ge 7, 3) := dk_162 0 7 (dk_at dksX0_isBetter_3 0 rfl rfl)
theorem dX0_isBetter_73 : decode cX0_isBetter 73 = .ok (.iconst 1, 1) := dk_4 (dk_at dksX0_isBetter_3 3 rfl rfl)
theorem dX0_isBetter_74 : decode cX0_isBetter 74 = .ok (.goto 4, 3) := dk_167 0 4 (dk_at dksX0_isBetter_3 4 rfl rfl)
theorem dX0_isBetter_77 : decode cX0_isBetter 77 = .ok (.iconst 0, 1) := dk_3 (dk_at dksX0_isBetter_3 7 rfl rfl)
theorem dX0_isBetter_78 : decode cX0_isBetter 78 = .ok (.ireturn, 1) := dk_172 (dk_at dksX0_isBetter_3 8 rfl rfl)
theorem dX0_isBetter_79 : decode cX0_isBetter 79 = .ok (.aload_n 0, 1) := dk_42 (dk_at dksX0_isBetter_3 9 rfl rfl)
theorem dX0_isBetter_80 : decode cX0_isBetter 80 = .ok (.aload_n 0, 1) := dk_42 (dk_at dksX0_isBetter_3 10 rfl rfl)
theorem dX0_isBetter_81 : decode cX0_isBetter 81 = .ok (.getfield 37, 3) := dk_180 0 37 (dk_at dksX0_isBetter_3 11 rfl rfl)
theorem dX0_isBetter_84 : decode cX0_isBetter 84 = .ok (.iload 5, 2) := dk_21 5 (dk_at dksX0_isBetter_3 14 rfl rfl)
theorem dX0_isBetter_86 : decode cX0_isBetter 86 = .ok (.invokeinterface 94 2, 5) := by decide +kernel
theorem dX0_isBetter_91 : decode cX0_isBetter 91 = .ok (.checkcast 212, 3) := dk_192 0 212 (dk_at dksX0_isBetter_3 21 rfl rfl)
theorem dX0_isBetter_94 : decode cX0_isBetter 94 = .ok (.getfield 214, 3) := dk_180 0 214 (dk_at dksX0_isBetter_4 0 rfl rfl)
theorem dX0_isBetter_97 : decode cX0_isBetter 97 = .ok (.invokevirtual 278, 3) := dk_182 1 22 (dk_at dksX0_isBetter_4 3 rfl rfl)
theorem dX0_isBetter_100 : decode cX0_isBetter 100 = .ok (.istore 5, 2) := dk_54 5 (dk_at dksX0_isBetter_4 6 rfl rfl)
theorem dX0_isBetter_102 : decode cX0_isBetter 102 = .ok (.goto (-66), 3) := dk_167 255 190 (dk_at dksX0_isBetter_4 8 rfl rfl)
theorem dX0_isBetter_105 : decode cX0_isBetter 105 = .ok (.aload_n 1, 1) := dk_43 (dk_at dksX0_isBetter_4 11 rfl rfl)
theorem dX0_isBetter_106 : decode cX0_isBetter 106 = .ok (.getfield 281, 3) := dk_180 1 25 (dk_at dksX0_isBetter_4 12 rfl rfl)
theorem dX0_isBetter_109 : decode cX0_isBetter 109 = .ok (.aload_n 2, 1) := dk_44 (dk_at dksX0_isBetter_4 15 rfl rfl)
theorem dX0_isBetter_110 : decode cX0_isBetter 110 = .ok (.getfield 281, 3) := dk_180 1 25 (dk_at dksX0_isBetter_4 16 rfl rfl)
theorem dX0_isBetter_113 : decode cX0_isBetter 113 = .ok (.if_icmp .ge 7, 3) := dk_162 0 7 (dk_at dksX0_isBetter_4 19 rfl rfl)
theorem dX0_isBetter_116 : decode cX0_isBetter 116 = .ok (.iconst 1, 1) := dk_4 (dk_at dksX0_isBetter_4 22 rfl rfl)
theorem dX0_isBetter_117 : decode cX0_isBetter 117 = .ok (.goto 4, 3) := dk_167 0 4 (dk_at dksX0_isBetter_5 0 rfl rfl)
theorem dX0_isBetter_120 : decode cX0_isBetter 120 = .ok (.iconst 0, 1) := dk_3 (dk_at dksX0_isBetter_5 3 rfl rfl)
theorem dX0_isBetter_121 : decode cX0_isBetter 121 = .ok (.ireturn, 1) := dk_172 (dk_at dksX0_isBetter_5 4 rfl rfl)
abbrev cX0_nextControl : ByteArray := prog_1_method_38_code
def yX0_nextControl : MethodName := ⟨RX0, "nextControl", "(I)I"⟩
def dkwX0_nextControl_3 : List UInt8 := [192, 0, 212, 180, 0, 214, 162, 0, 5, 29, 61, 132, 3, 1, 167, 255, 176, 28, 172]
abbrev dktX0_nextControl_3 : List UInt8 := dkwX0_nextControl_3 ++ []
def dkwX0_nextControl_2 : List UInt8 := [164, 0, 35, 28, 16, 247, 159, 0, 27, 25, 4, 180, 0, 214, 42, 180, 0, 37, 28, 185, 0, 94, 2, 0]
abbrev dktX0_nextControl_2 : List UInt8 := dkwX0_nextControl_2 ++ dktX0_nextControl_3
def dkwX0_nextControl_1 : List UInt8 := [185, 0, 94, 2, 0, 192, 0, 212, 58, 4, 25, 4, 180, 0, 242, 154, 0, 44, 25, 4, 180, 0, 214, 27]
abbrev dktX0_nextControl_1 : List UInt8 := dkwX0_nextControl_1 ++ dktX0_nextControl_2
def dkwX0_nextControl_0 : List UInt8 := [16, 247, 61, 3, 62, 29, 42, 180, 0, 37, 185, 0, 56, 1, 0, 162, 0, 73, 42, 180, 0, 37, 29]
abbrev dktX0_nextControl_0 : List UInt8 := dkwX0_nextControl_0 ++ dktX0_nextControl_1
theorem dksX0_nextControl_0 : cX0_nextControl.data.toList.drop 0 = dktX0_nextControl_0 := by decide +kernel
theorem dksX0_nextControl_1 : cX0_nextControl.data.toList.drop 23 = dktX0_nextControl_1 := dk_seg dksX0_nextControl_0 23 rfl rfl
theorem dksX0_nextControl_2 : cX0_nextControl.data.toList.drop 47 = dktX0_nextControl_2 := dk_seg dksX0_nextControl_1 24 rfl rfl
theorem dksX0_nextControl_3 : cX0_nextControl.data.toList.drop 71 = dktX0_nextControl_3 := dk_seg dksX0_nextControl_2 24 rfl rfl
theorem dX0_nextControl_0 : decode cX0_nextControl 0 = .ok (.bipush (-9), 2) := dk_16 247 (dk_at dksX0_nextControl_0 0 rfl rfl)
theorem dX0_nextControl_2 : decode cX0_nextControl 2 = .ok (.istore_n 2, 1) := dk_61 (dk_at dksX0_nextControl_0 2 rfl rfl)
theorem dX0_nextControl_3 : decode cX0_nextControl 3 = .ok (.iconst 0, 1) := dk_3 (dk_at dksX0_nextControl_0 3 rfl rfl)
theorem dX0_nextControl_4 : decode cX0_nextControl 4 = .ok (.istore_n 3, 1) := dk_62 (dk_at dksX0_nextControl_0 4 rfl rfl)
theorem dX0_nextControl_5 : decode cX0_nextControl 5 = .ok (.iload_n 3, 1) := dk_29 (dk_at dksX0_nextControl_0 5 rfl rfl)
theorem dX0_nextControl_6 : decode cX0_nextControl 6 = .ok (.aload_n 0, 1) := dk_42 (dk_at dksX0_nextControl_0 6 rfl rfl)
theorem dX0_nextControl_7 : decode cX0_nextControl 7 = .ok (.getfield 37, 3) := dk_180 0 37 (dk_at dksX0_nextControl_0 7 rfl rfl)
theorem dX0_nextControl_10 : decode cX0_nextControl 10 = .ok (.invokeinterface 56 1, 5) := by decide +kernel
theorem dX0_nextControl_15 : decode cX0_nextControl 15 = .ok (.if_icmp .ge 73, 3) := dk_162 0 73 (dk_at dksX0_nextControl_0 15 rfl rfl)
theorem dX0_nextControl_18 : decode cX0_nextControl 18 = .ok (.aload_n 0, 1) := dk_42 (dk_at dksX0_nextControl_0 18 rfl rfl)
theorem dX0_nextControl_19 : decode cX0_nextControl 19 = .ok (.getfield 37, 3) := dk_180 0 37 (dk_at dksX0_nextControl_0 19 rfl rfl)
theorem dX0_nextControl_22 : decode cX0_nextControl 22 = .ok (.iload_n 3, 1) := dk_29 (dk_at dksX0_nextControl_0 22 rfl rfl)
theorem dX0_nextControl_23 : decode cX0_nextControl 23 = .ok (.invokeinterface 94 2, 5) := by decide +kernel
theorem dX0_nextControl_28 : decode cX0_nextControl 28 = .ok (.checkcast 212, 3) := dk_192 0 212 (dk_at dksX0_nextControl_1 5 rfl rfl)
theorem dX0_nextControl_31 : decode cX0_nextControl 31 = .ok (.astore 4, 2) := dk_58 4 (dk_at dksX0_nextControl_1 8 rfl rfl)
theorem dX0_nextControl_33 : decode cX0_nextControl 33 = .ok (.aload 4, 2) := dk_25 4 (dk_at dksX0_nextControl_1 10 rfl rfl)
theorem dX0_nextControl_35 : decode cX0_nextControl 35 = .ok (.getfield 242, 3) := dk_180 0 242 (dk_at dksX0_nextControl_1 12 rfl rfl)
theorem dX0_nextControl_38 : decode cX0_nextControl 38 = .ok (.ifCond .ne 44, 3) := dk_154 0 44 (dk_at dksX0_nextControl_1 15 rfl rfl)
theorem dX0_nextControl_41 : decode cX0_nextControl 41 = .ok (.aload 4, 2) := dk_25 4 (dk_at dksX0_nextControl_1 18 rfl rfl)
theorem dX0_nextControl_43 : decode cX0_nextControl 43 = .ok (.getfield 214, 3) := dk_180 0 214 (dk_at dksX0_nextControl_1 20 rfl rfl)
theorem dX0_nextControl_46 : decode cX0_nextControl 46 = .ok (.iload_n 1, 1) := dk_27 (dk_at dksX0_nextControl_1 23 rfl rfl)
theorem dX0_nextControl_47 : decode cX0_nextControl 47 = .ok (.if_icmp .le 35, 3) := dk_164 0 35 (dk_at dksX0_nextControl_2 0 rfl rfl)
theorem dX0_nextControl_50 : decode cX0_nextControl 50 = .ok (.iload_n 2, 1) := dk_28 (dk_at dksX0_nextControl_2 3 rfl rfl)
theorem dX0_nextControl_51 : decode cX0_nextControl 51 = .ok (.bipush (-9), 2) := dk_16 247 (dk_at dksX0_nextControl_2 4 rfl rfl)
theorem dX0_nextControl_53 : decode cX0_nextControl 53 = .ok (.if_icmp .eq 27, 3) := dk_159 0 27 (dk_at dksX0_nextControl_2 6 rfl rfl)
theorem dX0_nextControl_56 : decode cX0_nextControl 56 = .ok (.aload 4, 2) := dk_25 4 (dk_at dksX0_nextControl_2 9 rfl rfl)
theorem dX0_nextControl_58 : decode cX0_nextControl 58 = .ok (.getfield 214, 3) := dk_180 0 214 (dk_at dksX0_nextControl_2 11 rfl rfl)
theorem dX0_nextControl_61 : decode cX0_nextControl 61 = .ok (.aload_n 0, 1) := dk_42 (dk_at dksX0_nextControl_2 14 rfl rfl)
theorem dX0_nextControl_62 : decode cX0_nextControl 62 = .ok (.getfield 37, 3) := dk_180 0 37 (dk_at dksX0_nextControl_2 15 rfl rfl)
theorem dX0_nextControl_65 : decode cX0_nextControl 65 = .ok (.iload_n 2, 1) := dk_28 (dk_at dksX0_nextControl_2 18 rfl rfl)
theorem dX0_nextControl_66 : decode cX0_nextControl 66 = .ok (.invokeinterface 94 2, 5) := by decide +kernel
theorem dX0_nextControl_71 : decode cX0_nextControl 71 = .ok (.checkcast 212, 3) := dk_192 0 212 (dk_at dksX0_nextControl_3 0 rfl rfl)
theorem dX0_nextControl_74 : decode cX0_nextControl 74 = .ok (.getfield 214, 3) := dk_180 0 214 (dk_at dksX0_nextControl_3 3 rfl rfl)
theorem dX0_nextControl_77 : decode cX0_nextControl 77 = .ok (.if_icmp .ge 5, 3) := dk_162 0 5 (dk_at dksX0_nextControl_3 6 rfl rfl)
theorem dX0_nextControl_80 : decode cX0_nextControl 80 = .ok (.iload_n 3, 1) := dk_29 (dk_at dksX0_nextControl_3 9 rfl rfl)
theorem dX0_nextControl_81 : decode cX0_nextControl 81 = .ok (.istore_n 2, 1) := dk_61 (dk_at dksX0_nextControl_3 10 rfl rfl)
theorem dX0_nextControl_82 : decode cX0_nextControl 82 = .ok (.iinc 3 1, 3) := dk_132 3 1 (dk_at dksX0_nextControl_3 11 rfl rfl)
theorem dX0_nextControl_85 : decode cX0_nextControl 85 = .ok (.goto (-80), 3) := dk_167 255 176 (dk_at dksX0_nextControl_3 14 rfl rfl)
theorem dX0_nextControl_88 : decode cX0_nextControl 88 = .ok (.iload_n 2, 1) := dk_28 (dk_at dksX0_nextControl_3 17 rfl rfl)
theorem dX0_nextControl_89 : decode cX0_nextControl 89 = .ok (.ireturn, 1) := dk_172 (dk_at dksX0_nextControl_3 18 rfl rfl)
abbrev cX0_sheet : ByteArray := prog_1_method_46_code
def yX0_sheet : MethodName := ⟨RX0, "sheet", "(III)I"⟩
def dkwX0_sheet_2 : List UInt8 := [160, 0, 9, 29, 188, 9, 167, 0, 6, 29, 188, 10, 83, 4, 172, 58, 4, 42, 7, 182, 0, 107, 172]
abbrev dktX0_sheet_2 : List UInt8 := dkwX0_sheet_2 ++ []
def dkwX0_sheet_1 : List UInt8 := [164, 0, 6, 16, 254, 172, 42, 180, 0, 43, 27, 28, 154, 0, 9, 29, 188, 8, 167, 0, 17, 28, 4]
abbrev dktX0_sheet_1 : List UInt8 := dkwX0_sheet_1 ++ dktX0_sheet_2
def dkwX0_sheet_0 : List UInt8 := [42, 3, 181, 0, 47, 27, 184, 1, 42, 154, 0, 5, 2, 172, 28, 184, 1, 45, 153, 0, 9, 29, 16, 32]
abbrev dktX0_sheet_0 : List UInt8 := dkwX0_sheet_0 ++ dktX0_sheet_1
theorem dksX0_sheet_0 : cX0_sheet.data.toList.drop 0 = dktX0_sheet_0 := by decide +kernel
theorem dksX0_sheet_1 : cX0_sheet.data.toList.drop 24 = dktX0_sheet_1 := dk_seg dksX0_sheet_0 24 rfl rfl
theorem dksX0_sheet_2 : cX0_sheet.data.toList.drop 47 = dktX0_sheet_2 := dk_seg dksX0_sheet_1 23 rfl rfl
theorem dX0_sheet_0 : decode cX0_sheet 0 = .ok (.aload_n 0, 1) := dk_42 (dk_at dksX0_sheet_0 0 rfl rfl)
theorem dX0_sheet_1 : decode cX0_sheet 1 = .ok (.iconst 0, 1) := dk_3 (dk_at dksX0_sheet_0 1 rfl rfl)
theorem dX0_sheet_2 : decode cX0_sheet 2 = .ok (.putfield 47, 3) := dk_181 0 47 (dk_at dksX0_sheet_0 2 rfl rfl)
theorem dX0_sheet_5 : decode cX0_sheet 5 = .ok (.iload_n 1, 1) := dk_27 (dk_at dksX0_sheet_0 5 rfl rfl)
theorem dX0_sheet_6 : decode cX0_sheet 6 = .ok (.invokestatic 298, 3) := dk_184 1 42 (dk_at dksX0_sheet_0 6 rfl rfl)
theorem dX0_sheet_9 : decode cX0_sheet 9 = .ok (.ifCond .ne 5, 3) := dk_154 0 5 (dk_at dksX0_sheet_0 9 rfl rfl)
theorem dX0_sheet_12 : decode cX0_sheet 12 = .ok (.iconst (-1), 1) := dk_2 (dk_at dksX0_sheet_0 12 rfl rfl)
theorem dX0_sheet_13 : decode cX0_sheet 13 = .ok (.ireturn, 1) := dk_172 (dk_at dksX0_sheet_0 13 rfl rfl)
theorem dX0_sheet_14 : decode cX0_sheet 14 = .ok (.iload_n 2, 1) := dk_28 (dk_at dksX0_sheet_0 14 rfl rfl)
theorem dX0_sheet_15 : decode cX0_sheet 15 = .ok (.invokestatic 301, 3) := dk_184 1 45 (dk_at dksX0_sheet_0 15 rfl rfl)
theorem dX0_sheet_18 : decode cX0_sheet 18 = .ok (.ifCond .eq 9, 3) := dk_153 0 9 (dk_at dksX0_sheet_0 18 rfl rfl)
theorem dX0_sheet_21 : decode cX0_sheet 21 = .ok (.iload_n 3, 1) := dk_29 (dk_at dksX0_sheet_0 21 rfl rfl)
theorem dX0_sheet_22 : decode cX0_sheet 22 = .ok (.bipush 32, 2) := dk_16 32 (dk_at dksX0_sheet_0 22 rfl rfl)
theorem dX0_sheet_24 : decode cX0_sheet 24 = .ok (.if_icmp .le 6, 3) := dk_164 0 6 (dk_at dksX0_sheet_1 0 rfl rfl)
theorem dX0_sheet_27 : decode cX0_sheet 27 = .ok (.bipush (-2), 2) := dk_16 254 (dk_at dksX0_sheet_1 3 rfl rfl)
theorem dX0_sheet_29 : decode cX0_sheet 29 = .ok (.ireturn, 1) := dk_172 (dk_at dksX0_sheet_1 5 rfl rfl)
theorem dX0_sheet_30 : decode cX0_sheet 30 = .ok (.aload_n 0, 1) := dk_42 (dk_at dksX0_sheet_1 6 rfl rfl)
theorem dX0_sheet_31 : decode cX0_sheet 31 = .ok (.getfield 43, 3) := dk_180 0 43 (dk_at dksX0_sheet_1 7 rfl rfl)
theorem dX0_sheet_34 : decode cX0_sheet 34 = .ok (.iload_n 1, 1) := dk_27 (dk_at dksX0_sheet_1 10 rfl rfl)
theorem dX0_sheet_35 : decode cX0_sheet 35 = .ok (.iload_n 2, 1) := dk_28 (dk_at dksX0_sheet_1 11 rfl rfl)
theorem dX0_sheet_36 : decode cX0_sheet 36 = .ok (.ifCond .ne 9, 3) := dk_154 0 9 (dk_at dksX0_sheet_1 12 rfl rfl)
theorem dX0_sheet_39 : decode cX0_sheet 39 = .ok (.iload_n 3, 1) := dk_29 (dk_at dksX0_sheet_1 15 rfl rfl)
theorem dX0_sheet_40 : decode cX0_sheet 40 = .ok (.newarray .byte, 2) := dk_188_8 (dk_at dksX0_sheet_1 16 rfl rfl)
theorem dX0_sheet_42 : decode cX0_sheet 42 = .ok (.goto 17, 3) := dk_167 0 17 (dk_at dksX0_sheet_1 18 rfl rfl)
theorem dX0_sheet_45 : decode cX0_sheet 45 = .ok (.iload_n 2, 1) := dk_28 (dk_at dksX0_sheet_1 21 rfl rfl)
theorem dX0_sheet_46 : decode cX0_sheet 46 = .ok (.iconst 1, 1) := dk_4 (dk_at dksX0_sheet_1 22 rfl rfl)
theorem dX0_sheet_47 : decode cX0_sheet 47 = .ok (.if_icmp .ne 9, 3) := dk_160 0 9 (dk_at dksX0_sheet_2 0 rfl rfl)
theorem dX0_sheet_50 : decode cX0_sheet 50 = .ok (.iload_n 3, 1) := dk_29 (dk_at dksX0_sheet_2 3 rfl rfl)
theorem dX0_sheet_51 : decode cX0_sheet 51 = .ok (.newarray .short, 2) := dk_188_9 (dk_at dksX0_sheet_2 4 rfl rfl)
theorem dX0_sheet_53 : decode cX0_sheet 53 = .ok (.goto 6, 3) := dk_167 0 6 (dk_at dksX0_sheet_2 6 rfl rfl)
theorem dX0_sheet_56 : decode cX0_sheet 56 = .ok (.iload_n 3, 1) := dk_29 (dk_at dksX0_sheet_2 9 rfl rfl)
theorem dX0_sheet_57 : decode cX0_sheet 57 = .ok (.newarray .int, 2) := dk_188_10 (dk_at dksX0_sheet_2 10 rfl rfl)
theorem dX0_sheet_59 : decode cX0_sheet 59 = .ok (.aastore, 1) := dk_83 (dk_at dksX0_sheet_2 12 rfl rfl)
theorem dX0_sheet_60 : decode cX0_sheet 60 = .ok (.iconst 1, 1) := dk_4 (dk_at dksX0_sheet_2 13 rfl rfl)
theorem dX0_sheet_61 : decode cX0_sheet 61 = .ok (.ireturn, 1) := dk_172 (dk_at dksX0_sheet_2 14 rfl rfl)
theorem dX0_sheet_62 : decode cX0_sheet 62 = .ok (.astore 4, 2) := dk_58 4 (dk_at dksX0_sheet_2 15 rfl rfl)
theorem dX0_sheet_64 : decode cX0_sheet 64 = .ok (.aload_n 0, 1) := dk_42 (dk_at dksX0_sheet_2 17 rfl rfl)
theorem dX0_sheet_65 : decode cX0_sheet 65 = .ok (.iconst 4, 1) := dk_7 (dk_at dksX0_sheet_2 18 rfl rfl)
theorem dX0_sheet_66 : decode cX0_sheet 66 = .ok (.invokevirtual 107, 3) := dk_182 0 107 (dk_at dksX0_sheet_2 19 rfl rfl)
theorem dX0_sheet_69 : decode cX0_sheet 69 = .ok (.ireturn, 1) := dk_172 (dk_at dksX0_sheet_2 22 rfl rfl)
abbrev cX0_isSheet : ByteArray := prog_1_method_41_code
def yX0_isSheet : MethodName := ⟨RX0, "isSheet", "(I)Z"⟩
def dkwX0_isSheet_0 : List UInt8 := [26, 133, 9, 20, 1, 28, 184, 0, 62, 172]
abbrev dktX0_isSheet_0 : List UInt8 := dkwX0_isSheet_0 ++ []
theorem dksX0_isSheet_0 : cX0_isSheet.data.toList.drop 0 = dktX0_isSheet_0 := by decide +kernel
theorem dX0_isSheet_0 : decode cX0_isSheet 0 = .ok (.iload_n 0, 1) := dk_26 (dk_at dksX0_isSheet_0 0 rfl rfl)
theorem dX0_isSheet_1 : decode cX0_isSheet 1 = .ok (.i2l, 1) := dk_133 (dk_at dksX0_isSheet_0 1 rfl rfl)
theorem dX0_isSheet_2 : decode cX0_isSheet 2 = .ok (.lconst 0, 1) := dk_9 (dk_at dksX0_isSheet_0 2 rfl rfl)
theorem dX0_isSheet_3 : decode cX0_isSheet 3 = .ok (.ldc2_w 284, 3) := dk_20 1 28 (dk_at dksX0_isSheet_0 3 rfl rfl)
theorem dX0_isSheet_6 : decode cX0_isSheet 6 = .ok (.invokestatic 62, 3) := dk_184 0 62 (dk_at dksX0_isSheet_0 6 rfl rfl)
theorem dX0_isSheet_9 : decode cX0_isSheet 9 = .ok (.ireturn, 1) := dk_172 (dk_at dksX0_isSheet_0 9 rfl rfl)
abbrev cX0_isLane : ByteArray := prog_1_method_42_code
def yX0_isLane : MethodName := ⟨RX0, "isLane", "(I)Z"⟩
def dkwX0_isLane_0 : List UInt8 := [26, 133, 9, 20, 0, 74, 184, 0, 62, 172]
abbrev dktX0_isLane_0 : List UInt8 := dkwX0_isLane_0 ++ []
theorem dksX0_isLane_0 : cX0_isLane.data.toList.drop 0 = dktX0_isLane_0 := by decide +kernel
theorem dX0_isLane_0 : decode cX0_isLane 0 = .ok (.iload_n 0, 1) := dk_26 (dk_at dksX0_isLane_0 0 rfl rfl)
theorem dX0_isLane_1 : decode cX0_isLane 1 = .ok (.i2l, 1) := dk_133 (dk_at dksX0_isLane_0 1 rfl rfl)
theorem dX0_isLane_2 : decode cX0_isLane 2 = .ok (.lconst 0, 1) := dk_9 (dk_at dksX0_isLane_0 2 rfl rfl)
theorem dX0_isLane_3 : decode cX0_isLane 3 = .ok (.ldc2_w 74, 3) := dk_20 0 74 (dk_at dksX0_isLane_0 3 rfl rfl)
theorem dX0_isLane_6 : decode cX0_isLane 6 = .ok (.invokestatic 62, 3) := dk_184 0 62 (dk_at dksX0_isLane_0 6 rfl rfl)
theorem dX0_isLane_9 : decode cX0_isLane 9 = .ok (.ireturn, 1) := dk_172 (dk_at dksX0_isLane_0 9 rfl rfl)
abbrev cX0_lose : ByteArray := prog_1_method_47_code
def yX0_lose : MethodName := ⟨RX0, "lose", "(I)I"⟩
def dkwX0_lose_1 : List UInt8 := [42, 180, 0, 43, 27, 1, 83, 28, 172]
abbrev dktX0_lose_1 : List UInt8 := dkwX0_lose_1 ++ []
def dkwX0_lose_0 : List UInt8 := [27, 184, 1, 42, 154, 0, 5, 2, 172, 42, 180, 0, 43, 27, 50, 199, 0, 7, 3, 167, 0, 4, 4, 61]
abbrev dktX0_lose_0 : List UInt8 := dkwX0_lose_0 ++ dktX0_lose_1
theorem dksX0_lose_0 : cX0_lose.data.toList.drop 0 = dktX0_lose_0 := by decide +kernel
theorem dksX0_lose_1 : cX0_lose.data.toList.drop 24 = dktX0_lose_1 := dk_seg dksX0_lose_0 24 rfl rfl
theorem dX0_lose_0 : decode cX0_lose 0 = .ok (.iload_n 1, 1) := dk_27 (dk_at dksX0_lose_0 0 rfl rfl)
theorem dX0_lose_1 : decode cX0_lose 1 = .ok (.invokestatic 298, 3) := dk_184 1 42 (dk_at dksX0_lose_0 1 rfl rfl)
theorem dX0_lose_4 : decode cX0_lose 4 = .ok (.ifCond .ne 5, 3) := dk_154 0 5 (dk_at dksX0_lose_0 4 rfl rfl)
theorem dX0_lose_7 : decode cX0_lose 7 = .ok (.iconst (-1), 1) := dk_2 (dk_at dksX0_lose_0 7 rfl rfl)
theorem dX0_lose_8 : decode cX0_lose 8 = .ok (.ireturn, 1) := dk_172 (dk_at dksX0_lose_0 8 rfl rfl)
theorem dX0_lose_9 : decode cX0_lose 9 = .ok (.aload_n 0, 1) := dk_42 (dk_at dksX0_lose_0 9 rfl rfl)
theorem dX0_lose_10 : decode cX0_lose 10 = .ok (.getfield 43, 3) := dk_180 0 43 (dk_at dksX0_lose_0 10 rfl rfl)
theorem dX0_lose_13 : decode cX0_lose 13 = .ok (.iload_n 1, 1) := dk_27 (dk_at dksX0_lose_0 13 rfl rfl)
theorem dX0_lose_14 : decode cX0_lose 14 = .ok (.aaload, 1) := dk_50 (dk_at dksX0_lose_0 14 rfl rfl)
theorem dX0_lose_15 : decode cX0_lose 15 = .ok (.ifnonnull 7, 3) := dk_199 0 7 (dk_at dksX0_lose_0 15 rfl rfl)
theorem dX0_lose_18 : decode cX0_lose 18 = .ok (.iconst 0, 1) := dk_3 (dk_at dksX0_lose_0 18 rfl rfl)
theorem dX0_lose_19 : decode cX0_lose 19 = .ok (.goto 4, 3) := dk_167 0 4 (dk_at dksX0_lose_0 19 rfl rfl)
theorem dX0_lose_22 : decode cX0_lose 22 = .ok (.iconst 1, 1) := dk_4 (dk_at dksX0_lose_0 22 rfl rfl)
theorem dX0_lose_23 : decode cX0_lose 23 = .ok (.istore_n 2, 1) := dk_61 (dk_at dksX0_lose_0 23 rfl rfl)
theorem dX0_lose_24 : decode cX0_lose 24 = .ok (.aload_n 0, 1) := dk_42 (dk_at dksX0_lose_1 0 rfl rfl)
theorem dX0_lose_25 : decode cX0_lose 25 = .ok (.getfield 43, 3) := dk_180 0 43 (dk_at dksX0_lose_1 1 rfl rfl)
theorem dX0_lose_28 : decode cX0_lose 28 = .ok (.iload_n 1, 1) := dk_27 (dk_at dksX0_lose_1 4 rfl rfl)
theorem dX0_lose_29 : decode cX0_lose 29 = .ok (.aconst_null, 1) := dk_1 (dk_at dksX0_lose_1 5 rfl rfl)
theorem dX0_lose_30 : decode cX0_lose 30 = .ok (.aastore, 1) := dk_83 (dk_at dksX0_lose_1 6 rfl rfl)
theorem dX0_lose_31 : decode cX0_lose 31 = .ok (.iload_n 2, 1) := dk_28 (dk_at dksX0_lose_1 7 rfl rfl)
theorem dX0_lose_32 : decode cX0_lose 32 = .ok (.ireturn, 1) := dk_172 (dk_at dksX0_lose_1 8 rfl rfl)
abbrev cX0_put : ByteArray := prog_1_method_48_code
def yX0_put : MethodName := ⟨RX0, "put", "(III)I"⟩
def dkwX0_put_4 : List UInt8 := [4, 182, 0, 107, 172, 58, 4, 42, 6, 182, 0, 107, 172]
abbrev dktX0_put_4 : List UInt8 := dkwX0_put_4 ++ []
def dkwX0_put_3 : List UInt8 := [28, 29, 147, 86, 167, 0, 15, 42, 180, 0, 43, 27, 50, 192, 1, 41, 28, 29, 79, 4, 172, 58, 4, 42]
abbrev dktX0_put_3 : List UInt8 := dkwX0_put_3 ++ dktX0_put_4
def dkwX0_put_2 : List UInt8 := [180, 0, 43, 27, 50, 58, 6, 25, 6, 193, 1, 39, 153, 0, 19, 25, 6, 192, 1, 39, 58, 5, 25, 5]
abbrev dktX0_put_2 : List UInt8 := dkwX0_put_2 ++ dktX0_put_3
def dkwX0_put_1 : List UInt8 := [193, 1, 37, 153, 0, 19, 25, 6, 192, 1, 37, 58, 4, 25, 4, 28, 29, 145, 84, 167, 0, 47, 42]
abbrev dktX0_put_1 : List UInt8 := dkwX0_put_1 ++ dktX0_put_2
def dkwX0_put_0 : List UInt8 := [42, 3, 181, 0, 47, 27, 184, 1, 42, 154, 0, 5, 2, 172, 42, 180, 0, 43, 27, 50, 58, 6, 25, 6]
abbrev dktX0_put_0 : List UInt8 := dkwX0_put_0 ++ dktX0_put_1
theorem dksX0_put_0 : cX0_put.data.toList.drop 0 = dktX0_put_0 := by decide +kernel
theorem dksX0_put_1 : cX0_put.data.toList.drop 24 = dktX0_put_1 := dk_seg dksX0_put_0 24 rfl rfl
theorem dksX0_put_2 : cX0_put.data.toList.drop 47 = dktX0_put_2 := dk_seg dksX0_put_1 23 rfl rfl
theorem dksX0_put_3 : cX0_put.data.toList.drop 71 = dktX0_put_3 := dk_seg dksX0_put_2 24 rfl rfl
theorem dksX0_put_4 : cX0_put.data.toList.drop 95 = dktX0_put_4 := dk_seg dksX0_put_3 24 rfl rfl
theorem dX0_put_0 : decode cX0_put 0 = .ok (.aload_n 0, 1) := dk_42 (dk_at dksX0_put_0 0 rfl rfl)
theorem dX0_put_1 : decode cX0_put 1 = .ok (.iconst 0, 1) := dk_3 (dk_at dksX0_put_0 1 rfl rfl)
theorem dX0_put_2 : decode cX0_put 2 = .ok (.putfield 47, 3) := dk_181 0 47 (dk_at dksX0_put_0 2 rfl rfl)
theorem dX0_put_5 : decode cX0_put 5 = .ok (.iload_n 1, 1) := dk_27 (dk_at dksX0_put_0 5 rfl rfl)
theorem dX0_put_6 : decode cX0_put 6 = .ok (.invokestatic 298, 3) := dk_184 1 42 (dk_at dksX0_put_0 6 rfl rfl)
theorem dX0_put_9 : decode cX0_put 9 = .ok (.ifCond .ne 5, 3) := dk_154 0 5 (dk_at dksX0_put_0 9 rfl rfl)
theorem dX0_put_12 : decode cX0_put 12 = .ok (.iconst (-1), 1) := dk_2 (dk_at dksX0_put_0 12 rfl rfl)
theorem dX0_put_13 : decode cX0_put 13 = .ok (.ireturn, 1) := dk_172 (dk_at dksX0_put_0 13 rfl rfl)
theorem dX0_put_14 : decode cX0_put 14 = .ok (.aload_n 0, 1) := dk_42 (dk_at dksX0_put_0 14 rfl rfl)
theorem dX0_put_15 : decode cX0_put 15 = .ok (.getfield 43, 3) := dk_180 0 43 (dk_at dksX0_put_0 15 rfl rfl)
theorem dX0_put_18 : decode cX0_put 18 = .ok (.iload_n 1, 1) := dk_27 (dk_at dksX0_put_0 18 rfl rfl)
theorem dX0_put_19 : decode cX0_put 19 = .ok (.aaload, 1) := dk_50 (dk_at dksX0_put_0 19 rfl rfl)
theorem dX0_put_20 : decode cX0_put 20 = .ok (.astore 6, 2) := dk_58 6 (dk_at dksX0_put_0 20 rfl rfl)
theorem dX0_put_22 : decode cX0_put 22 = .ok (.aload 6, 2) := dk_25 6 (dk_at dksX0_put_0 22 rfl rfl)
theorem dX0_put_24 : decode cX0_put 24 = .ok (.instanceof 293, 3) := dk_193 1 37 (dk_at dksX0_put_1 0 rfl rfl)
theorem dX0_put_27 : decode cX0_put 27 = .ok (.ifCond .eq 19, 3) := dk_153 0 19 (dk_at dksX0_put_1 3 rfl rfl)
theorem dX0_put_30 : decode cX0_put 30 = .ok (.aload 6, 2) := dk_25 6 (dk_at dksX0_put_1 6 rfl rfl)
theorem dX0_put_32 : decode cX0_put 32 = .ok (.checkcast 293, 3) := dk_192 1 37 (dk_at dksX0_put_1 8 rfl rfl)
theorem dX0_put_35 : decode cX0_put 35 = .ok (.astore 4, 2) := dk_58 4 (dk_at dksX0_put_1 11 rfl rfl)
theorem dX0_put_37 : decode cX0_put 37 = .ok (.aload 4, 2) := dk_25 4 (dk_at dksX0_put_1 13 rfl rfl)
theorem dX0_put_39 : decode cX0_put 39 = .ok (.iload_n 2, 1) := dk_28 (dk_at dksX0_put_1 15 rfl rfl)
theorem dX0_put_40 : decode cX0_put 40 = .ok (.iload_n 3, 1) := dk_29 (dk_at dksX0_put_1 16 rfl rfl)
theorem dX0_put_41 : decode cX0_put 41 = .ok (.i2b, 1) := dk_145 (dk_at dksX0_put_1 17 rfl rfl)
theorem dX0_put_42 : decode cX0_put 42 = .ok (.bastore, 1) := dk_84 (dk_at dksX0_put_1 18 rfl rfl)
theorem dX0_put_43 : decode cX0_put 43 = .ok (.goto 47, 3) := dk_167 0 47 (dk_at dksX0_put_1 19 rfl rfl)
theorem dX0_put_46 : decode cX0_put 46 = .ok (.aload_n 0, 1) := dk_42 (dk_at dksX0_put_1 22 rfl rfl)
theorem dX0_put_47 : decode cX0_put 47 = .ok (.getfield 43, 3) := dk_180 0 43 (dk_at dksX0_put_2 0 rfl rfl)
theorem dX0_put_50 : decode cX0_put 50 = .ok (.iload_n 1, 1) := dk_27 (dk_at dksX0_put_2 3 rfl rfl)
theorem dX0_put_51 : decode cX0_put 51 = .ok (.aaload, 1) := dk_50 (dk_at dksX0_put_2 4 rfl rfl)
theorem dX0_put_52 : decode cX0_put 52 = .ok (.astore 6, 2) := dk_58 6 (dk_at dksX0_put_2 5 rfl rfl)
theorem dX0_put_54 : decode cX0_put 54 = .ok (.aload 6, 2) := dk_25 6 (dk_at dksX0_put_2 7 rfl rfl)
theorem dX0_put_56 : decode cX0_put 56 = .ok (.instanceof 295, 3) := dk_193 1 39 (dk_at dksX0_put_2 9 rfl rfl)
theorem dX0_put_59 : decode cX0_put 59 = .ok (.ifCond .eq 19, 3) := dk_153 0 19 (dk_at dksX0_put_2 12 rfl rfl)
theorem dX0_put_62 : decode cX0_put 62 = .ok (.aload 6, 2) := dk_25 6 (dk_at dksX0_put_2 15 rfl rfl)
theorem dX0_put_64 : decode cX0_put 64 = .ok (.checkcast 295, 3) := dk_192 1 39 (dk_at dksX0_put_2 17 rfl rfl)
theorem dX0_put_67 : decode cX0_put 67 = .ok (.astore 5, 2) := dk_58 5 (dk_at dksX0_put_2 20 rfl rfl)
theorem dX0_put_69 : decode cX0_put 69 = .ok (.aload 5, 2) := dk_25 5 (dk_at dksX0_put_2 22 rfl rfl)
theorem dX0_put_71 : decode cX0_put 71 = .ok (.iload_n 2, 1) := dk_28 (dk_at dksX0_put_3 0 rfl rfl)
theorem dX0_put_72 : decode cX0_put 72 = .ok (.iload_n 3, 1) := dk_29 (dk_at dksX0_put_3 1 rfl rfl)
theorem dX0_put_73 : decode cX0_put 73 = .ok (.i2s, 1) := dk_147 (dk_at dksX0_put_3 2 rfl rfl)
theorem dX0_put_74 : decode cX0_put 74 = .ok (.sastore, 1) := dk_86 (dk_at dksX0_put_3 3 rfl rfl)
theorem dX0_put_75 : decode cX0_put 75 = .ok (.goto 15, 3) := dk_167 0 15 (dk_at dksX0_put_3 4 rfl rfl)
theorem dX0_put_78 : decode cX0_put 78 = .ok (.aload_n 0, 1) := dk_42 (dk_at dksX0_put_3 7 rfl rfl)
theorem dX0_put_79 : decode cX0_put 79 = .ok (.getfield 43, 3) := dk_180 0 43 (dk_at dksX0_put_3 8 rfl rfl)
theorem dX0_put_82 : decode cX0_put 82 = .ok (.iload_n 1, 1) := dk_27 (dk_at dksX0_put_3 11 rfl rfl)
theorem dX0_put_83 : decode cX0_put 83 = .ok (.aaload, 1) := dk_50 (dk_at dksX0_put_3 12 rfl rfl)
theorem dX0_put_84 : decode cX0_put 84 = .ok (.checkcast 297, 3) := dk_192 1 41 (dk_at dksX0_put_3 13 rfl rfl)
theorem dX0_put_87 : decode cX0_put 87 = .ok (.iload_n 2, 1) := dk_28 (dk_at dksX0_put_3 16 rfl rfl)
theorem dX0_put_88 : decode cX0_put 88 = .ok (.iload_n 3, 1) := dk_29 (dk_at dksX0_put_3 17 rfl rfl)
theorem dX0_put_89 : decode cX0_put 89 = .ok (.iastore, 1) := dk_79 (dk_at dksX0_put_3 18 rfl rfl)
theorem dX0_put_90 : decode cX0_put 90 = .ok (.iconst 1, 1) := dk_4 (dk_at dksX0_put_3 19 rfl rfl)
theorem dX0_put_91 : decode cX0_put 91 = .ok (.ireturn, 1) := dk_172 (dk_at dksX0_put_3 20 rfl rfl)
theorem dX0_put_92 : decode cX0_put 92 = .ok (.astore 4, 2) := dk_58 4 (dk_at dksX0_put_3 21 rfl rfl)
theorem dX0_put_94 : decode cX0_put 94 = .ok (.aload_n 0, 1) := dk_42 (dk_at dksX0_put_3 23 rfl rfl)
theorem dX0_put_95 : decode cX0_put 95 = .ok (.iconst 1, 1) := dk_4 (dk_at dksX0_put_4 0 rfl rfl)
theorem dX0_put_96 : decode cX0_put 96 = .ok (.invokevirtual 107, 3) := dk_182 0 107 (dk_at dksX0_put_4 1 rfl rfl)
theorem dX0_put_99 : decode cX0_put 99 = .ok (.ireturn, 1) := dk_172 (dk_at dksX0_put_4 4 rfl rfl)
theorem dX0_put_100 : decode cX0_put 100 = .ok (.astore 4, 2) := dk_58 4 (dk_at dksX0_put_4 5 rfl rfl)
theorem dX0_put_102 : decode cX0_put 102 = .ok (.aload_n 0, 1) := dk_42 (dk_at dksX0_put_4 7 rfl rfl)
theorem dX0_put_103 : decode cX0_put 103 = .ok (.iconst 3, 1) := dk_6 (dk_at dksX0_put_4 8 rfl rfl)
theorem dX0_put_104 : decode cX0_put 104 = .ok (.invokevirtual 107, 3) := dk_182 0 107 (dk_at dksX0_put_4 9 rfl rfl)
theorem dX0_put_107 : decode cX0_put 107 = .ok (.ireturn, 1) := dk_172 (dk_at dksX0_put_4 12 rfl rfl)
abbrev cX0_cell : ByteArray := prog_1_method_49_code
def yX0_cell : MethodName := ⟨RX0, "cell", "(III)J"⟩
def dkwX0_cell_2 : List UInt8 := [58, 4, 42, 4, 182, 1, 62, 173, 58, 4, 42, 6, 182, 1, 62, 173]
abbrev dktX0_cell_2 : List UInt8 := dkwX0_cell_2 ++ []
def dkwX0_cell_1 : List UInt8 := [180, 0, 43, 27, 50, 29, 184, 1, 54, 28, 184, 1, 58, 133, 173, 58, 4, 42, 5, 182, 1, 62, 173]
abbrev dktX0_cell_1 : List UInt8 := dkwX0_cell_1 ++ dktX0_cell_2
def dkwX0_cell_0 : List UInt8 := [42, 3, 181, 0, 47, 27, 184, 1, 42, 153, 0, 10, 29, 184, 1, 45, 154, 0, 7, 20, 0, 51, 173, 42]
abbrev dktX0_cell_0 : List UInt8 := dkwX0_cell_0 ++ dktX0_cell_1
theorem dksX0_cell_0 : cX0_cell.data.toList.drop 0 = dktX0_cell_0 := by decide +kernel
theorem dksX0_cell_1 : cX0_cell.data.toList.drop 24 = dktX0_cell_1 := dk_seg dksX0_cell_0 24 rfl rfl
theorem dksX0_cell_2 : cX0_cell.data.toList.drop 47 = dktX0_cell_2 := dk_seg dksX0_cell_1 23 rfl rfl
theorem dX0_cell_0 : decode cX0_cell 0 = .ok (.aload_n 0, 1) := dk_42 (dk_at dksX0_cell_0 0 rfl rfl)
theorem dX0_cell_1 : decode cX0_cell 1 = .ok (.iconst 0, 1) := dk_3 (dk_at dksX0_cell_0 1 rfl rfl)
theorem dX0_cell_2 : decode cX0_cell 2 = .ok (.putfield 47, 3) := dk_181 0 47 (dk_at dksX0_cell_0 2 rfl rfl)
theorem dX0_cell_5 : decode cX0_cell 5 = .ok (.iload_n 1, 1) := dk_27 (dk_at dksX0_cell_0 5 rfl rfl)
theorem dX0_cell_6 : decode cX0_cell 6 = .ok (.invokestatic 298, 3) := dk_184 1 42 (dk_at dksX0_cell_0 6 rfl rfl)
theorem dX0_cell_9 : decode cX0_cell 9 = .ok (.ifCond .eq 10, 3) := dk_153 0 10 (dk_at dksX0_cell_0 9 rfl rfl)
theorem dX0_cell_12 : decode cX0_cell 12 = .ok (.iload_n 3, 1) := dk_29 (dk_at dksX0_cell_0 12 rfl rfl)
theorem dX0_cell_13 : decode cX0_cell 13 = .ok (.invokestatic 301, 3) := dk_184 1 45 (dk_at dksX0_cell_0 13 rfl rfl)
theorem dX0_cell_16 : decode cX0_cell 16 = .ok (.ifCond .ne 7, 3) := dk_154 0 7 (dk_at dksX0_cell_0 16 rfl rfl)
theorem dX0_cell_19 : decode cX0_cell 19 = .ok (.ldc2_w 51, 3) := dk_20 0 51 (dk_at dksX0_cell_0 19 rfl rfl)
theorem dX0_cell_22 : decode cX0_cell 22 = .ok (.lreturn, 1) := dk_173 (dk_at dksX0_cell_0 22 rfl rfl)
theorem dX0_cell_23 : decode cX0_cell 23 = .ok (.aload_n 0, 1) := dk_42 (dk_at dksX0_cell_0 23 rfl rfl)
theorem dX0_cell_24 : decode cX0_cell 24 = .ok (.getfield 43, 3) := dk_180 0 43 (dk_at dksX0_cell_1 0 rfl rfl)
theorem dX0_cell_27 : decode cX0_cell 27 = .ok (.iload_n 1, 1) := dk_27 (dk_at dksX0_cell_1 3 rfl rfl)
theorem dX0_cell_28 : decode cX0_cell 28 = .ok (.aaload, 1) := dk_50 (dk_at dksX0_cell_1 4 rfl rfl)
theorem dX0_cell_29 : decode cX0_cell 29 = .ok (.iload_n 3, 1) := dk_29 (dk_at dksX0_cell_1 5 rfl rfl)
theorem dX0_cell_30 : decode cX0_cell 30 = .ok (.invokestatic 310, 3) := dk_184 1 54 (dk_at dksX0_cell_1 6 rfl rfl)
theorem dX0_cell_33 : decode cX0_cell 33 = .ok (.iload_n 2, 1) := dk_28 (dk_at dksX0_cell_1 9 rfl rfl)
theorem dX0_cell_34 : decode cX0_cell 34 = .ok (.invokestatic 314, 3) := dk_184 1 58 (dk_at dksX0_cell_1 10 rfl rfl)
theorem dX0_cell_37 : decode cX0_cell 37 = .ok (.i2l, 1) := dk_133 (dk_at dksX0_cell_1 13 rfl rfl)
theorem dX0_cell_38 : decode cX0_cell 38 = .ok (.lreturn, 1) := dk_173 (dk_at dksX0_cell_1 14 rfl rfl)
theorem dX0_cell_39 : decode cX0_cell 39 = .ok (.astore 4, 2) := dk_58 4 (dk_at dksX0_cell_1 15 rfl rfl)
theorem dX0_cell_41 : decode cX0_cell 41 = .ok (.aload_n 0, 1) := dk_42 (dk_at dksX0_cell_1 17 rfl rfl)
theorem dX0_cell_42 : decode cX0_cell 42 = .ok (.iconst 2, 1) := dk_5 (dk_at dksX0_cell_1 18 rfl rfl)
theorem dX0_cell_43 : decode cX0_cell 43 = .ok (.invokevirtual 318, 3) := dk_182 1 62 (dk_at dksX0_cell_1 19 rfl rfl)
theorem dX0_cell_46 : decode cX0_cell 46 = .ok (.lreturn, 1) := dk_173 (dk_at dksX0_cell_1 22 rfl rfl)
theorem dX0_cell_47 : decode cX0_cell 47 = .ok (.astore 4, 2) := dk_58 4 (dk_at dksX0_cell_2 0 rfl rfl)
theorem dX0_cell_49 : decode cX0_cell 49 = .ok (.aload_n 0, 1) := dk_42 (dk_at dksX0_cell_2 2 rfl rfl)
theorem dX0_cell_50 : decode cX0_cell 50 = .ok (.iconst 1, 1) := dk_4 (dk_at dksX0_cell_2 3 rfl rfl)
theorem dX0_cell_51 : decode cX0_cell 51 = .ok (.invokevirtual 318, 3) := dk_182 1 62 (dk_at dksX0_cell_2 4 rfl rfl)
theorem dX0_cell_54 : decode cX0_cell 54 = .ok (.lreturn, 1) := dk_173 (dk_at dksX0_cell_2 7 rfl rfl)
theorem dX0_cell_55 : decode cX0_cell 55 = .ok (.astore 4, 2) := dk_58 4 (dk_at dksX0_cell_2 8 rfl rfl)
theorem dX0_cell_57 : decode cX0_cell 57 = .ok (.aload_n 0, 1) := dk_42 (dk_at dksX0_cell_2 10 rfl rfl)
theorem dX0_cell_58 : decode cX0_cell 58 = .ok (.iconst 3, 1) := dk_6 (dk_at dksX0_cell_2 11 rfl rfl)
theorem dX0_cell_59 : decode cX0_cell 59 = .ok (.invokevirtual 318, 3) := dk_182 1 62 (dk_at dksX0_cell_2 12 rfl rfl)
theorem dX0_cell_62 : decode cX0_cell 62 = .ok (.lreturn, 1) := dk_173 (dk_at dksX0_cell_2 15 rfl rfl)
abbrev cX0_asLane : ByteArray := prog_1_method_43_code
def yX0_asLane : MethodName := ⟨RX0, "asLane", "(Ljava/lang/Object;I)Ljava/lang/Object;"⟩
def dkwX0_asLane_2 : List UInt8 := [42, 192, 1, 37, 176, 42, 192, 1, 39, 176, 42, 192, 1, 41, 176]
abbrev dktX0_asLane_2 : List UInt8 := dkwX0_asLane_2 ++ []
def dkwX0_asLane_1 : List UInt8 := [171, 0, 0, 0, 0, 0, 37, 0, 0, 0, 2, 0, 0, 0, 0, 0, 0, 0, 27, 0, 0, 0, 1, 0, 0, 0, 32]
abbrev dktX0_asLane_1 : List UInt8 := dkwX0_asLane_1 ++ dktX0_asLane_2
def dkwX0_asLane_0 : List UInt8 := [27]
abbrev dktX0_asLane_0 : List UInt8 := dkwX0_asLane_0 ++ dktX0_asLane_1
theorem dksX0_asLane_0 : cX0_asLane.data.toList.drop 0 = dktX0_asLane_0 := by decide +kernel
theorem dksX0_asLane_1 : cX0_asLane.data.toList.drop 1 = dktX0_asLane_1 := dk_seg dksX0_asLane_0 1 rfl rfl
theorem dksX0_asLane_2 : cX0_asLane.data.toList.drop 28 = dktX0_asLane_2 := dk_seg dksX0_asLane_1 27 rfl rfl
theorem dX0_asLane_0 : decode cX0_asLane 0 = .ok (.iload_n 1, 1) := dk_27 (dk_at dksX0_asLane_0 0 rfl rfl)
theorem dX0_asLane_1 : decode cX0_asLane 1 = .ok (.lookupswitch 37 #[(0, 27), (1, 32)], 27) := by decide +kernel
theorem dX0_asLane_28 : decode cX0_asLane 28 = .ok (.aload_n 0, 1) := dk_42 (dk_at dksX0_asLane_2 0 rfl rfl)
theorem dX0_asLane_29 : decode cX0_asLane 29 = .ok (.checkcast 293, 3) := dk_192 1 37 (dk_at dksX0_asLane_2 1 rfl rfl)
theorem dX0_asLane_32 : decode cX0_asLane 32 = .ok (.areturn, 1) := dk_176 (dk_at dksX0_asLane_2 4 rfl rfl)
theorem dX0_asLane_33 : decode cX0_asLane 33 = .ok (.aload_n 0, 1) := dk_42 (dk_at dksX0_asLane_2 5 rfl rfl)
theorem dX0_asLane_34 : decode cX0_asLane 34 = .ok (.checkcast 295, 3) := dk_192 1 39 (dk_at dksX0_asLane_2 6 rfl rfl)
theorem dX0_asLane_37 : decode cX0_asLane 37 = .ok (.areturn, 1) := dk_176 (dk_at dksX0_asLane_2 9 rfl rfl)
theorem dX0_asLane_38 : decode cX0_asLane 38 = .ok (.aload_n 0, 1) := dk_42 (dk_at dksX0_asLane_2 10 rfl rfl)
theorem dX0_asLane_39 : decode cX0_asLane 39 = .ok (.checkcast 297, 3) := dk_192 1 41 (dk_at dksX0_asLane_2 11 rfl rfl)
theorem dX0_asLane_42 : decode cX0_asLane 42 = .ok (.areturn, 1) := dk_176 (dk_at dksX0_asLane_2 14 rfl rfl)
abbrev cX0_cellOf : ByteArray := prog_1_method_44_code
def yX0_cellOf : MethodName := ⟨RX0, "cellOf", "(Ljava/lang/Object;I)I"⟩
def dkwX0_cellOf_1 : List UInt8 := [192, 1, 39, 77, 44, 27, 53, 172, 42, 192, 1, 41, 27, 46, 172]
abbrev dktX0_cellOf_1 : List UInt8 := dkwX0_cellOf_1 ++ []
def dkwX0_cellOf_0 : List UInt8 := [42, 193, 1, 37, 153, 0, 12, 42, 192, 1, 37, 77, 44, 27, 51, 172, 42, 193, 1, 39, 153, 0, 12, 42]
abbrev dktX0_cellOf_0 : List UInt8 := dkwX0_cellOf_0 ++ dktX0_cellOf_1
theorem dksX0_cellOf_0 : cX0_cellOf.data.toList.drop 0 = dktX0_cellOf_0 := by decide +kernel
theorem dksX0_cellOf_1 : cX0_cellOf.data.toList.drop 24 = dktX0_cellOf_1 := dk_seg dksX0_cellOf_0 24 rfl rfl
theorem dX0_cellOf_0 : decode cX0_cellOf 0 = .ok (.aload_n 0, 1) := dk_42 (dk_at dksX0_cellOf_0 0 rfl rfl)
theorem dX0_cellOf_1 : decode cX0_cellOf 1 = .ok (.instanceof 293, 3) := dk_193 1 37 (dk_at dksX0_cellOf_0 1 rfl rfl)
theorem dX0_cellOf_4 : decode cX0_cellOf 4 = .ok (.ifCond .eq 12, 3) := dk_153 0 12 (dk_at dksX0_cellOf_0 4 rfl rfl)
theorem dX0_cellOf_7 : decode cX0_cellOf 7 = .ok (.aload_n 0, 1) := dk_42 (dk_at dksX0_cellOf_0 7 rfl rfl)
theorem dX0_cellOf_8 : decode cX0_cellOf 8 = .ok (.checkcast 293, 3) := dk_192 1 37 (dk_at dksX0_cellOf_0 8 rfl rfl)
theorem dX0_cellOf_11 : decode cX0_cellOf 11 = .ok (.astore_n 2, 1) := dk_77 (dk_at dksX0_cellOf_0 11 rfl rfl)
theorem dX0_cellOf_12 : decode cX0_cellOf 12 = .ok (.aload_n 2, 1) := dk_44 (dk_at dksX0_cellOf_0 12 rfl rfl)
theorem dX0_cellOf_13 : decode cX0_cellOf 13 = .ok (.iload_n 1, 1) := dk_27 (dk_at dksX0_cellOf_0 13 rfl rfl)
theorem dX0_cellOf_14 : decode cX0_cellOf 14 = .ok (.baload, 1) := dk_51 (dk_at dksX0_cellOf_0 14 rfl rfl)
theorem dX0_cellOf_15 : decode cX0_cellOf 15 = .ok (.ireturn, 1) := dk_172 (dk_at dksX0_cellOf_0 15 rfl rfl)
theorem dX0_cellOf_16 : decode cX0_cellOf 16 = .ok (.aload_n 0, 1) := dk_42 (dk_at dksX0_cellOf_0 16 rfl rfl)
theorem dX0_cellOf_17 : decode cX0_cellOf 17 = .ok (.instanceof 295, 3) := dk_193 1 39 (dk_at dksX0_cellOf_0 17 rfl rfl)
theorem dX0_cellOf_20 : decode cX0_cellOf 20 = .ok (.ifCond .eq 12, 3) := dk_153 0 12 (dk_at dksX0_cellOf_0 20 rfl rfl)
theorem dX0_cellOf_23 : decode cX0_cellOf 23 = .ok (.aload_n 0, 1) := dk_42 (dk_at dksX0_cellOf_0 23 rfl rfl)
theorem dX0_cellOf_24 : decode cX0_cellOf 24 = .ok (.checkcast 295, 3) := dk_192 1 39 (dk_at dksX0_cellOf_1 0 rfl rfl)
theorem dX0_cellOf_27 : decode cX0_cellOf 27 = .ok (.astore_n 2, 1) := dk_77 (dk_at dksX0_cellOf_1 3 rfl rfl)
theorem dX0_cellOf_28 : decode cX0_cellOf 28 = .ok (.aload_n 2, 1) := dk_44 (dk_at dksX0_cellOf_1 4 rfl rfl)
theorem dX0_cellOf_29 : decode cX0_cellOf 29 = .ok (.iload_n 1, 1) := dk_27 (dk_at dksX0_cellOf_1 5 rfl rfl)
theorem dX0_cellOf_30 : decode cX0_cellOf 30 = .ok (.saload, 1) := dk_53 (dk_at dksX0_cellOf_1 6 rfl rfl)
theorem dX0_cellOf_31 : decode cX0_cellOf 31 = .ok (.ireturn, 1) := dk_172 (dk_at dksX0_cellOf_1 7 rfl rfl)
theorem dX0_cellOf_32 : decode cX0_cellOf 32 = .ok (.aload_n 0, 1) := dk_42 (dk_at dksX0_cellOf_1 8 rfl rfl)
theorem dX0_cellOf_33 : decode cX0_cellOf 33 = .ok (.checkcast 297, 3) := dk_192 1 41 (dk_at dksX0_cellOf_1 9 rfl rfl)
theorem dX0_cellOf_36 : decode cX0_cellOf 36 = .ok (.iload_n 1, 1) := dk_27 (dk_at dksX0_cellOf_1 12 rfl rfl)
theorem dX0_cellOf_37 : decode cX0_cellOf 37 = .ok (.iaload, 1) := dk_46 (dk_at dksX0_cellOf_1 13 rfl rfl)
theorem dX0_cellOf_38 : decode cX0_cellOf 38 = .ok (.ireturn, 1) := dk_172 (dk_at dksX0_cellOf_1 14 rfl rfl)
abbrev cX0_lost : ByteArray := prog_1_method_4_code
def yX0_lost : MethodName := ⟨RX0, "lost", "(I)J"⟩
def dkwX0_lost_0 : List UInt8 := [42, 27, 181, 0, 47, 20, 0, 51, 173]
abbrev dktX0_lost_0 : List UInt8 := dkwX0_lost_0 ++ []
theorem dksX0_lost_0 : cX0_lost.data.toList.drop 0 = dktX0_lost_0 := by decide +kernel
theorem dX0_lost_0 : decode cX0_lost 0 = .ok (.aload_n 0, 1) := dk_42 (dk_at dksX0_lost_0 0 rfl rfl)
theorem dX0_lost_1 : decode cX0_lost 1 = .ok (.iload_n 1, 1) := dk_27 (dk_at dksX0_lost_0 1 rfl rfl)
theorem dX0_lost_2 : decode cX0_lost 2 = .ok (.putfield 47, 3) := dk_181 0 47 (dk_at dksX0_lost_0 2 rfl rfl)
theorem dX0_lost_5 : decode cX0_lost 5 = .ok (.ldc2_w 51, 3) := dk_20 0 51 (dk_at dksX0_lost_0 5 rfl rfl)
theorem dX0_lost_8 : decode cX0_lost 8 = .ok (.lreturn, 1) := dk_173 (dk_at dksX0_lost_0 8 rfl rfl)
abbrev cX0_copy : ByteArray := prog_1_method_50_code
def yX0_copy : MethodName := ⟨RX0, "copy", "(IIIII)I"⟩
def dkwX0_copy_2 : List UInt8 := [42, 4, 182, 0, 107, 172, 58, 6, 42, 5, 182, 0, 107, 172, 58, 6, 42, 6, 182, 0, 107, 172]
abbrev dktX0_copy_2 : List UInt8 := dkwX0_copy_2 ++ []
def dkwX0_copy_1 : List UInt8 := [180, 0, 43, 27, 50, 28, 42, 180, 0, 43, 29, 50, 21, 4, 21, 5, 184, 0, 143, 21, 5, 172, 58, 6]
abbrev dktX0_copy_1 : List UInt8 := dkwX0_copy_1 ++ dktX0_copy_2
def dkwX0_copy_0 : List UInt8 := [42, 3, 181, 0, 47, 27, 184, 1, 42, 153, 0, 10, 29, 184, 1, 42, 154, 0, 5, 2, 172, 42]
abbrev dktX0_copy_0 : List UInt8 := dkwX0_copy_0 ++ dktX0_copy_1
theorem dksX0_copy_0 : cX0_copy.data.toList.drop 0 = dktX0_copy_0 := by decide +kernel
theorem dksX0_copy_1 : cX0_copy.data.toList.drop 22 = dktX0_copy_1 := dk_seg dksX0_copy_0 22 rfl rfl
theorem dksX0_copy_2 : cX0_copy.data.toList.drop 46 = dktX0_copy_2 := dk_seg dksX0_copy_1 24 rfl rfl
theorem dX0_copy_0 : decode cX0_copy 0 = .ok (.aload_n 0, 1) := dk_42 (dk_at dksX0_copy_0 0 rfl rfl)
theorem dX0_copy_1 : decode cX0_copy 1 = .ok (.iconst 0, 1) := dk_3 (dk_at dksX0_copy_0 1 rfl rfl)
theorem dX0_copy_2 : decode cX0_copy 2 = .ok (.putfield 47, 3) := dk_181 0 47 (dk_at dksX0_copy_0 2 rfl rfl)
theorem dX0_copy_5 : decode cX0_copy 5 = .ok (.iload_n 1, 1) := dk_27 (dk_at dksX0_copy_0 5 rfl rfl)
theorem dX0_copy_6 : decode cX0_copy 6 = .ok (.invokestatic 298, 3) := dk_184 1 42 (dk_at dksX0_copy_0 6 rfl rfl)
theorem dX0_copy_9 : decode cX0_copy 9 = .ok (.ifCond .eq 10, 3) := dk_153 0 10 (dk_at dksX0_copy_0 9 rfl rfl)
theorem dX0_copy_12 : decode cX0_copy 12 = .ok (.iload_n 3, 1) := dk_29 (dk_at dksX0_copy_0 12 rfl rfl)
theorem dX0_copy_13 : decode cX0_copy 13 = .ok (.invokestatic 298, 3) := dk_184 1 42 (dk_at dksX0_copy_0 13 rfl rfl)
theorem dX0_copy_16 : decode cX0_copy 16 = .ok (.ifCond .ne 5, 3) := dk_154 0 5 (dk_at dksX0_copy_0 16 rfl rfl)
theorem dX0_copy_19 : decode cX0_copy 19 = .ok (.iconst (-1), 1) := dk_2 (dk_at dksX0_copy_0 19 rfl rfl)
theorem dX0_copy_20 : decode cX0_copy 20 = .ok (.ireturn, 1) := dk_172 (dk_at dksX0_copy_0 20 rfl rfl)
theorem dX0_copy_21 : decode cX0_copy 21 = .ok (.aload_n 0, 1) := dk_42 (dk_at dksX0_copy_0 21 rfl rfl)
theorem dX0_copy_22 : decode cX0_copy 22 = .ok (.getfield 43, 3) := dk_180 0 43 (dk_at dksX0_copy_1 0 rfl rfl)
theorem dX0_copy_25 : decode cX0_copy 25 = .ok (.iload_n 1, 1) := dk_27 (dk_at dksX0_copy_1 3 rfl rfl)
theorem dX0_copy_26 : decode cX0_copy 26 = .ok (.aaload, 1) := dk_50 (dk_at dksX0_copy_1 4 rfl rfl)
theorem dX0_copy_27 : decode cX0_copy 27 = .ok (.iload_n 2, 1) := dk_28 (dk_at dksX0_copy_1 5 rfl rfl)
theorem dX0_copy_28 : decode cX0_copy 28 = .ok (.aload_n 0, 1) := dk_42 (dk_at dksX0_copy_1 6 rfl rfl)
theorem dX0_copy_29 : decode cX0_copy 29 = .ok (.getfield 43, 3) := dk_180 0 43 (dk_at dksX0_copy_1 7 rfl rfl)
theorem dX0_copy_32 : decode cX0_copy 32 = .ok (.iload_n 3, 1) := dk_29 (dk_at dksX0_copy_1 10 rfl rfl)
theorem dX0_copy_33 : decode cX0_copy 33 = .ok (.aaload, 1) := dk_50 (dk_at dksX0_copy_1 11 rfl rfl)
theorem dX0_copy_34 : decode cX0_copy 34 = .ok (.iload 4, 2) := dk_21 4 (dk_at dksX0_copy_1 12 rfl rfl)
theorem dX0_copy_36 : decode cX0_copy 36 = .ok (.iload 5, 2) := dk_21 5 (dk_at dksX0_copy_1 14 rfl rfl)
theorem dX0_copy_38 : decode cX0_copy 38 = .ok (.invokestatic 143, 3) := dk_184 0 143 (dk_at dksX0_copy_1 16 rfl rfl)
theorem dX0_copy_41 : decode cX0_copy 41 = .ok (.iload 5, 2) := dk_21 5 (dk_at dksX0_copy_1 19 rfl rfl)
theorem dX0_copy_43 : decode cX0_copy 43 = .ok (.ireturn, 1) := dk_172 (dk_at dksX0_copy_1 21 rfl rfl)
theorem dX0_copy_44 : decode cX0_copy 44 = .ok (.astore 6, 2) := dk_58 6 (dk_at dksX0_copy_1 22 rfl rfl)
theorem dX0_copy_46 : decode cX0_copy 46 = .ok (.aload_n 0, 1) := dk_42 (dk_at dksX0_copy_2 0 rfl rfl)
theorem dX0_copy_47 : decode cX0_copy 47 = .ok (.iconst 1, 1) := dk_4 (dk_at dksX0_copy_2 1 rfl rfl)
theorem dX0_copy_48 : decode cX0_copy 48 = .ok (.invokevirtual 107, 3) := dk_182 0 107 (dk_at dksX0_copy_2 2 rfl rfl)
theorem dX0_copy_51 : decode cX0_copy 51 = .ok (.ireturn, 1) := dk_172 (dk_at dksX0_copy_2 5 rfl rfl)
theorem dX0_copy_52 : decode cX0_copy 52 = .ok (.astore 6, 2) := dk_58 6 (dk_at dksX0_copy_2 6 rfl rfl)
theorem dX0_copy_54 : decode cX0_copy 54 = .ok (.aload_n 0, 1) := dk_42 (dk_at dksX0_copy_2 8 rfl rfl)
theorem dX0_copy_55 : decode cX0_copy 55 = .ok (.iconst 2, 1) := dk_5 (dk_at dksX0_copy_2 9 rfl rfl)
theorem dX0_copy_56 : decode cX0_copy 56 = .ok (.invokevirtual 107, 3) := dk_182 0 107 (dk_at dksX0_copy_2 10 rfl rfl)
theorem dX0_copy_59 : decode cX0_copy 59 = .ok (.ireturn, 1) := dk_172 (dk_at dksX0_copy_2 13 rfl rfl)
theorem dX0_copy_60 : decode cX0_copy 60 = .ok (.astore 6, 2) := dk_58 6 (dk_at dksX0_copy_2 14 rfl rfl)
theorem dX0_copy_62 : decode cX0_copy 62 = .ok (.aload_n 0, 1) := dk_42 (dk_at dksX0_copy_2 16 rfl rfl)
theorem dX0_copy_63 : decode cX0_copy 63 = .ok (.iconst 3, 1) := dk_6 (dk_at dksX0_copy_2 17 rfl rfl)
theorem dX0_copy_64 : decode cX0_copy 64 = .ok (.invokevirtual 107, 3) := dk_182 0 107 (dk_at dksX0_copy_2 18 rfl rfl)
theorem dX0_copy_67 : decode cX0_copy 67 = .ok (.ireturn, 1) := dk_172 (dk_at dksX0_copy_2 21 rfl rfl)
abbrev cX0_book : ByteArray := prog_1_method_53_code
def yX0_book : MethodName := ⟨RX0, "book", "(IIII)I"⟩
def dkwX0_book_4 : List UInt8 := [42, 7, 182, 0, 107, 172, 58, 5, 42, 6, 182, 0, 107, 172]
abbrev dktX0_book_4 : List UInt8 := dkwX0_book_4 ++ []
def dkwX0_book_3 : List UInt8 := [181, 0, 130, 21, 4, 172, 58, 5, 42, 5, 182, 0, 107, 172, 58, 5, 42, 4, 182, 0, 107, 172, 58, 5]
abbrev dktX0_book_3 : List UInt8 := dkwX0_book_3 ++ dktX0_book_4
def dkwX0_book_2 : List UInt8 := [154, 0, 6, 16, 254, 172, 25, 5, 3, 42, 180, 0, 18, 3, 21, 4, 184, 0, 143, 42, 21, 4]
abbrev dktX0_book_2 : List UInt8 := dkwX0_book_2 ++ dktX0_book_3
def dkwX0_book_1 : List UInt8 := [42, 180, 0, 43, 27, 50, 28, 184, 1, 54, 29, 21, 4, 184, 1, 76, 58, 5, 25, 5, 184, 1, 80]
abbrev dktX0_book_1 : List UInt8 := dkwX0_book_1 ++ dktX0_book_2
def dkwX0_book_0 : List UInt8 := [42, 3, 181, 0, 47, 27, 184, 1, 42, 154, 0, 5, 2, 172, 28, 184, 1, 45, 154, 0, 6, 16, 254, 172]
abbrev dktX0_book_0 : List UInt8 := dkwX0_book_0 ++ dktX0_book_1
theorem dksX0_book_0 : cX0_book.data.toList.drop 0 = dktX0_book_0 := by decide +kernel
theorem dksX0_book_1 : cX0_book.data.toList.drop 24 = dktX0_book_1 := dk_seg dksX0_book_0 24 rfl rfl
theorem dksX0_book_2 : cX0_book.data.toList.drop 47 = dktX0_book_2 := dk_seg dksX0_book_1 23 rfl rfl
theorem dksX0_book_3 : cX0_book.data.toList.drop 69 = dktX0_book_3 := dk_seg dksX0_book_2 22 rfl rfl
theorem dksX0_book_4 : cX0_book.data.toList.drop 93 = dktX0_book_4 := dk_seg dksX0_book_3 24 rfl rfl
theorem dX0_book_0 : decode cX0_book 0 = .ok (.aload_n 0, 1) := dk_42 (dk_at dksX0_book_0 0 rfl rfl)
theorem dX0_book_1 : decode cX0_book 1 = .ok (.iconst 0, 1) := dk_3 (dk_at dksX0_book_0 1 rfl rfl)
theorem dX0_book_2 : decode cX0_book 2 = .ok (.putfield 47, 3) := dk_181 0 47 (dk_at dksX0_book_0 2 rfl rfl)
theorem dX0_book_5 : decode cX0_book 5 = .ok (.iload_n 1, 1) := dk_27 (dk_at dksX0_book_0 5 rfl rfl)
theorem dX0_book_6 : decode cX0_book 6 = .ok (.invokestatic 298, 3) := dk_184 1 42 (dk_at dksX0_book_0 6 rfl rfl)
theorem dX0_book_9 : decode cX0_book 9 = .ok (.ifCond .ne 5, 3) := dk_154 0 5 (dk_at dksX0_book_0 9 rfl rfl)
theorem dX0_book_12 : decode cX0_book 12 = .ok (.iconst (-1), 1) := dk_2 (dk_at dksX0_book_0 12 rfl rfl)
theorem dX0_book_13 : decode cX0_book 13 = .ok (.ireturn, 1) := dk_172 (dk_at dksX0_book_0 13 rfl rfl)
theorem dX0_book_14 : decode cX0_book 14 = .ok (.iload_n 2, 1) := dk_28 (dk_at dksX0_book_0 14 rfl rfl)
theorem dX0_book_15 : decode cX0_book 15 = .ok (.invokestatic 301, 3) := dk_184 1 45 (dk_at dksX0_book_0 15 rfl rfl)
theorem dX0_book_18 : decode cX0_book 18 = .ok (.ifCond .ne 6, 3) := dk_154 0 6 (dk_at dksX0_book_0 18 rfl rfl)
theorem dX0_book_21 : decode cX0_book 21 = .ok (.bipush (-2), 2) := dk_16 254 (dk_at dksX0_book_0 21 rfl rfl)
theorem dX0_book_23 : decode cX0_book 23 = .ok (.ireturn, 1) := dk_172 (dk_at dksX0_book_0 23 rfl rfl)
theorem dX0_book_24 : decode cX0_book 24 = .ok (.aload_n 0, 1) := dk_42 (dk_at dksX0_book_1 0 rfl rfl)
theorem dX0_book_25 : decode cX0_book 25 = .ok (.getfield 43, 3) := dk_180 0 43 (dk_at dksX0_book_1 1 rfl rfl)
theorem dX0_book_28 : decode cX0_book 28 = .ok (.iload_n 1, 1) := dk_27 (dk_at dksX0_book_1 4 rfl rfl)
theorem dX0_book_29 : decode cX0_book 29 = .ok (.aaload, 1) := dk_50 (dk_at dksX0_book_1 5 rfl rfl)
theorem dX0_book_30 : decode cX0_book 30 = .ok (.iload_n 2, 1) := dk_28 (dk_at dksX0_book_1 6 rfl rfl)
theorem dX0_book_31 : decode cX0_book 31 = .ok (.invokestatic 310, 3) := dk_184 1 54 (dk_at dksX0_book_1 7 rfl rfl)
theorem dX0_book_34 : decode cX0_book 34 = .ok (.iload_n 3, 1) := dk_29 (dk_at dksX0_book_1 10 rfl rfl)
theorem dX0_book_35 : decode cX0_book 35 = .ok (.iload 4, 2) := dk_21 4 (dk_at dksX0_book_1 11 rfl rfl)
theorem dX0_book_37 : decode cX0_book 37 = .ok (.invokestatic 332, 3) := dk_184 1 76 (dk_at dksX0_book_1 13 rfl rfl)
theorem dX0_book_40 : decode cX0_book 40 = .ok (.astore 5, 2) := dk_58 5 (dk_at dksX0_book_1 16 rfl rfl)
theorem dX0_book_42 : decode cX0_book 42 = .ok (.aload 5, 2) := dk_25 5 (dk_at dksX0_book_1 18 rfl rfl)
theorem dX0_book_44 : decode cX0_book 44 = .ok (.invokestatic 336, 3) := dk_184 1 80 (dk_at dksX0_book_1 20 rfl rfl)
theorem dX0_book_47 : decode cX0_book 47 = .ok (.ifCond .ne 6, 3) := dk_154 0 6 (dk_at dksX0_book_2 0 rfl rfl)
theorem dX0_book_50 : decode cX0_book 50 = .ok (.bipush (-2), 2) := dk_16 254 (dk_at dksX0_book_2 3 rfl rfl)
theorem dX0_book_52 : decode cX0_book 52 = .ok (.ireturn, 1) := dk_172 (dk_at dksX0_book_2 5 rfl rfl)
theorem dX0_book_53 : decode cX0_book 53 = .ok (.aload 5, 2) := dk_25 5 (dk_at dksX0_book_2 6 rfl rfl)
theorem dX0_book_55 : decode cX0_book 55 = .ok (.iconst 0, 1) := dk_3 (dk_at dksX0_book_2 8 rfl rfl)
theorem dX0_book_56 : decode cX0_book 56 = .ok (.aload_n 0, 1) := dk_42 (dk_at dksX0_book_2 9 rfl rfl)
theorem dX0_book_57 : decode cX0_book 57 = .ok (.getfield 18, 3) := dk_180 0 18 (dk_at dksX0_book_2 10 rfl rfl)
theorem dX0_book_60 : decode cX0_book 60 = .ok (.iconst 0, 1) := dk_3 (dk_at dksX0_book_2 13 rfl rfl)
theorem dX0_book_61 : decode cX0_book 61 = .ok (.iload 4, 2) := dk_21 4 (dk_at dksX0_book_2 14 rfl rfl)
theorem dX0_book_63 : decode cX0_book 63 = .ok (.invokestatic 143, 3) := dk_184 0 143 (dk_at dksX0_book_2 16 rfl rfl)
theorem dX0_book_66 : decode cX0_book 66 = .ok (.aload_n 0, 1) := dk_42 (dk_at dksX0_book_2 19 rfl rfl)
theorem dX0_book_67 : decode cX0_book 67 = .ok (.iload 4, 2) := dk_21 4 (dk_at dksX0_book_2 20 rfl rfl)
theorem dX0_book_69 : decode cX0_book 69 = .ok (.putfield 130, 3) := dk_181 0 130 (dk_at dksX0_book_3 0 rfl rfl)
theorem dX0_book_72 : decode cX0_book 72 = .ok (.iload 4, 2) := dk_21 4 (dk_at dksX0_book_3 3 rfl rfl)
theorem dX0_book_74 : decode cX0_book 74 = .ok (.ireturn, 1) := dk_172 (dk_at dksX0_book_3 5 rfl rfl)
theorem dX0_book_75 : decode cX0_book 75 = .ok (.astore 5, 2) := dk_58 5 (dk_at dksX0_book_3 6 rfl rfl)
theorem dX0_book_77 : decode cX0_book 77 = .ok (.aload_n 0, 1) := dk_42 (dk_at dksX0_book_3 8 rfl rfl)
theorem dX0_book_78 : decode cX0_book 78 = .ok (.iconst 2, 1) := dk_5 (dk_at dksX0_book_3 9 rfl rfl)
theorem dX0_book_79 : decode cX0_book 79 = .ok (.invokevirtual 107, 3) := dk_182 0 107 (dk_at dksX0_book_3 10 rfl rfl)
theorem dX0_book_82 : decode cX0_book 82 = .ok (.ireturn, 1) := dk_172 (dk_at dksX0_book_3 13 rfl rfl)
theorem dX0_book_83 : decode cX0_book 83 = .ok (.astore 5, 2) := dk_58 5 (dk_at dksX0_book_3 14 rfl rfl)
theorem dX0_book_85 : decode cX0_book 85 = .ok (.aload_n 0, 1) := dk_42 (dk_at dksX0_book_3 16 rfl rfl)
theorem dX0_book_86 : decode cX0_book 86 = .ok (.iconst 1, 1) := dk_4 (dk_at dksX0_book_3 17 rfl rfl)
theorem dX0_book_87 : decode cX0_book 87 = .ok (.invokevirtual 107, 3) := dk_182 0 107 (dk_at dksX0_book_3 18 rfl rfl)
theorem dX0_book_90 : decode cX0_book 90 = .ok (.ireturn, 1) := dk_172 (dk_at dksX0_book_3 21 rfl rfl)
theorem dX0_book_91 : decode cX0_book 91 = .ok (.astore 5, 2) := dk_58 5 (dk_at dksX0_book_3 22 rfl rfl)
theorem dX0_book_93 : decode cX0_book 93 = .ok (.aload_n 0, 1) := dk_42 (dk_at dksX0_book_4 0 rfl rfl)
theorem dX0_book_94 : decode cX0_book 94 = .ok (.iconst 4, 1) := dk_7 (dk_at dksX0_book_4 1 rfl rfl)
theorem dX0_book_95 : decode cX0_book 95 = .ok (.invokevirtual 107, 3) := dk_182 0 107 (dk_at dksX0_book_4 2 rfl rfl)
theorem dX0_book_98 : decode cX0_book 98 = .ok (.ireturn, 1) := dk_172 (dk_at dksX0_book_4 5 rfl rfl)
theorem dX0_book_99 : decode cX0_book 99 = .ok (.astore 5, 2) := dk_58 5 (dk_at dksX0_book_4 6 rfl rfl)
theorem dX0_book_101 : decode cX0_book 101 = .ok (.aload_n 0, 1) := dk_42 (dk_at dksX0_book_4 8 rfl rfl)
theorem dX0_book_102 : decode cX0_book 102 = .ok (.iconst 3, 1) := dk_6 (dk_at dksX0_book_4 9 rfl rfl)
theorem dX0_book_103 : decode cX0_book 103 = .ok (.invokevirtual 107, 3) := dk_182 0 107 (dk_at dksX0_book_4 10 rfl rfl)
theorem dX0_book_106 : decode cX0_book 106 = .ok (.ireturn, 1) := dk_172 (dk_at dksX0_book_4 13 rfl rfl)
abbrev cX0_taken : ByteArray := prog_1_method_51_code
def yX0_taken : MethodName := ⟨RX0, "taken", "(Ljava/lang/Object;II)[I"⟩
def dkwX0_taken_2 : List UInt8 := [42, 27, 21, 5, 96, 184, 1, 58, 79, 132, 5, 1, 167, 255, 234, 25, 4, 176]
abbrev dktX0_taken_2 : List UInt8 := dkwX0_taken_2 ++ []
def dkwX0_taken_1 : List UInt8 := [164, 0, 11, 187, 1, 52, 89, 183, 1, 73, 191, 3, 54, 5, 21, 5, 28, 162, 0, 22, 25, 4, 21, 5]
abbrev dktX0_taken_1 : List UInt8 := dkwX0_taken_1 ++ dktX0_taken_2
def dkwX0_taken_0 : List UInt8 := [42, 184, 1, 69, 62, 28, 16, 33, 184, 0, 192, 188, 10, 58, 4, 27, 155, 0, 10, 27, 29, 28, 100]
abbrev dktX0_taken_0 : List UInt8 := dkwX0_taken_0 ++ dktX0_taken_1
theorem dksX0_taken_0 : cX0_taken.data.toList.drop 0 = dktX0_taken_0 := by decide +kernel
theorem dksX0_taken_1 : cX0_taken.data.toList.drop 23 = dktX0_taken_1 := dk_seg dksX0_taken_0 23 rfl rfl
theorem dksX0_taken_2 : cX0_taken.data.toList.drop 47 = dktX0_taken_2 := dk_seg dksX0_taken_1 24 rfl rfl
theorem dX0_taken_0 : decode cX0_taken 0 = .ok (.aload_n 0, 1) := dk_42 (dk_at dksX0_taken_0 0 rfl rfl)
theorem dX0_taken_1 : decode cX0_taken 1 = .ok (.invokestatic 325, 3) := dk_184 1 69 (dk_at dksX0_taken_0 1 rfl rfl)
theorem dX0_taken_4 : decode cX0_taken 4 = .ok (.istore_n 3, 1) := dk_62 (dk_at dksX0_taken_0 4 rfl rfl)
theorem dX0_taken_5 : decode cX0_taken 5 = .ok (.iload_n 2, 1) := dk_28 (dk_at dksX0_taken_0 5 rfl rfl)
theorem dX0_taken_6 : decode cX0_taken 6 = .ok (.bipush 33, 2) := dk_16 33 (dk_at dksX0_taken_0 6 rfl rfl)
theorem dX0_taken_8 : decode cX0_taken 8 = .ok (.invokestatic 192, 3) := dk_184 0 192 (dk_at dksX0_taken_0 8 rfl rfl)
theorem dX0_taken_11 : decode cX0_taken 11 = .ok (.newarray .int, 2) := dk_188_10 (dk_at dksX0_taken_0 11 rfl rfl)
theorem dX0_taken_13 : decode cX0_taken 13 = .ok (.astore 4, 2) := dk_58 4 (dk_at dksX0_taken_0 13 rfl rfl)
theorem dX0_taken_15 : decode cX0_taken 15 = .ok (.iload_n 1, 1) := dk_27 (dk_at dksX0_taken_0 15 rfl rfl)
theorem dX0_taken_16 : decode cX0_taken 16 = .ok (.ifCond .lt 10, 3) := dk_155 0 10 (dk_at dksX0_taken_0 16 rfl rfl)
theorem dX0_taken_19 : decode cX0_taken 19 = .ok (.iload_n 1, 1) := dk_27 (dk_at dksX0_taken_0 19 rfl rfl)
theorem dX0_taken_20 : decode cX0_taken 20 = .ok (.iload_n 3, 1) := dk_29 (dk_at dksX0_taken_0 20 rfl rfl)
theorem dX0_taken_21 : decode cX0_taken 21 = .ok (.iload_n 2, 1) := dk_28 (dk_at dksX0_taken_0 21 rfl rfl)
theorem dX0_taken_22 : decode cX0_taken 22 = .ok (.isub, 1) := dk_100 (dk_at dksX0_taken_0 22 rfl rfl)
theorem dX0_taken_23 : decode cX0_taken 23 = .ok (.if_icmp .le 11, 3) := dk_164 0 11 (dk_at dksX0_taken_1 0 rfl rfl)
theorem dX0_taken_26 : decode cX0_taken 26 = .ok (.new 308, 3) := dk_187 1 52 (dk_at dksX0_taken_1 3 rfl rfl)
theorem dX0_taken_29 : decode cX0_taken 29 = .ok (.dup, 1) := dk_89 (dk_at dksX0_taken_1 6 rfl rfl)
theorem dX0_taken_30 : decode cX0_taken 30 = .ok (.invokespecial 329, 3) := dk_183 1 73 (dk_at dksX0_taken_1 7 rfl rfl)
theorem dX0_taken_33 : decode cX0_taken 33 = .ok (.athrow, 1) := dk_191 (dk_at dksX0_taken_1 10 rfl rfl)
theorem dX0_taken_34 : decode cX0_taken 34 = .ok (.iconst 0, 1) := dk_3 (dk_at dksX0_taken_1 11 rfl rfl)
theorem dX0_taken_35 : decode cX0_taken 35 = .ok (.istore 5, 2) := dk_54 5 (dk_at dksX0_taken_1 12 rfl rfl)
theorem dX0_taken_37 : decode cX0_taken 37 = .ok (.iload 5, 2) := dk_21 5 (dk_at dksX0_taken_1 14 rfl rfl)
theorem dX0_taken_39 : decode cX0_taken 39 = .ok (.iload_n 2, 1) := dk_28 (dk_at dksX0_taken_1 16 rfl rfl)
theorem dX0_taken_40 : decode cX0_taken 40 = .ok (.if_icmp .ge 22, 3) := dk_162 0 22 (dk_at dksX0_taken_1 17 rfl rfl)
theorem dX0_taken_43 : decode cX0_taken 43 = .ok (.aload 4, 2) := dk_25 4 (dk_at dksX0_taken_1 20 rfl rfl)
theorem dX0_taken_45 : decode cX0_taken 45 = .ok (.iload 5, 2) := dk_21 5 (dk_at dksX0_taken_1 22 rfl rfl)
theorem dX0_taken_47 : decode cX0_taken 47 = .ok (.aload_n 0, 1) := dk_42 (dk_at dksX0_taken_2 0 rfl rfl)
theorem dX0_taken_48 : decode cX0_taken 48 = .ok (.iload_n 1, 1) := dk_27 (dk_at dksX0_taken_2 1 rfl rfl)
theorem dX0_taken_49 : decode cX0_taken 49 = .ok (.iload 5, 2) := dk_21 5 (dk_at dksX0_taken_2 2 rfl rfl)
theorem dX0_taken_51 : decode cX0_taken 51 = .ok (.iadd, 1) := dk_96 (dk_at dksX0_taken_2 4 rfl rfl)
theorem dX0_taken_52 : decode cX0_taken 52 = .ok (.invokestatic 314, 3) := dk_184 1 58 (dk_at dksX0_taken_2 5 rfl rfl)
theorem dX0_taken_55 : decode cX0_taken 55 = .ok (.iastore, 1) := dk_79 (dk_at dksX0_taken_2 8 rfl rfl)
theorem dX0_taken_56 : decode cX0_taken 56 = .ok (.iinc 5 1, 3) := dk_132 5 1 (dk_at dksX0_taken_2 9 rfl rfl)
theorem dX0_taken_59 : decode cX0_taken 59 = .ok (.goto (-22), 3) := dk_167 255 234 (dk_at dksX0_taken_2 12 rfl rfl)
theorem dX0_taken_62 : decode cX0_taken 62 = .ok (.aload 4, 2) := dk_25 4 (dk_at dksX0_taken_2 15 rfl rfl)
theorem dX0_taken_64 : decode cX0_taken 64 = .ok (.areturn, 1) := dk_176 (dk_at dksX0_taken_2 17 rfl rfl)
abbrev cX0_lengthOf : ByteArray := prog_1_method_45_code
def yX0_lengthOf : MethodName := ⟨RX0, "lengthOf", "(Ljava/lang/Object;)I"⟩
def dkwX0_lengthOf_1 : List UInt8 := [192, 1, 39, 76, 43, 190, 172, 42, 192, 1, 41, 190, 172]
abbrev dktX0_lengthOf_1 : List UInt8 := dkwX0_lengthOf_1 ++ []
def dkwX0_lengthOf_0 : List UInt8 := [42, 193, 1, 37, 153, 0, 11, 42, 192, 1, 37, 76, 43, 190, 172, 42, 193, 1, 39, 153, 0, 11, 42]
abbrev dktX0_lengthOf_0 : List UInt8 := dkwX0_lengthOf_0 ++ dktX0_lengthOf_1
theorem dksX0_lengthOf_0 : cX0_lengthOf.data.toList.drop 0 = dktX0_lengthOf_0 := by decide +kernel
theorem dksX0_lengthOf_1 : cX0_lengthOf.data.toList.drop 23 = dktX0_lengthOf_1 := dk_seg dksX0_lengthOf_0 23 rfl rfl
theorem dX0_lengthOf_0 : decode cX0_lengthOf 0 = .ok (.aload_n 0, 1) := dk_42 (dk_at dksX0_lengthOf_0 0 rfl rfl)
theorem dX0_lengthOf_1 : decode cX0_lengthOf 1 = .ok (.instanceof 293, 3) := dk_193 1 37 (dk_at dksX0_lengthOf_0 1 rfl rfl)
theorem dX0_lengthOf_4 : decode cX0_lengthOf 4 = .ok (.ifCond .eq 11, 3) := dk_153 0 11 (dk_at dksX0_lengthOf_0 4 rfl rfl)
theorem dX0_lengthOf_7 : decode cX0_lengthOf 7 = .ok (.aload_n 0, 1) := dk_42 (dk_at dksX0_lengthOf_0 7 rfl rfl)
theorem dX0_lengthOf_8 : decode cX0_lengthOf 8 = .ok (.checkcast 293, 3) := dk_192 1 37 (dk_at dksX0_lengthOf_0 8 rfl rfl)
theorem dX0_lengthOf_11 : decode cX0_lengthOf 11 = .ok (.astore_n 1, 1) := dk_76 (dk_at dksX0_lengthOf_0 11 rfl rfl)
theorem dX0_lengthOf_12 : decode cX0_lengthOf 12 = .ok (.aload_n 1, 1) := dk_43 (dk_at dksX0_lengthOf_0 12 rfl rfl)
theorem dX0_lengthOf_13 : decode cX0_lengthOf 13 = .ok (.arraylength, 1) := dk_190 (dk_at dksX0_lengthOf_0 13 rfl rfl)
theorem dX0_lengthOf_14 : decode cX0_lengthOf 14 = .ok (.ireturn, 1) := dk_172 (dk_at dksX0_lengthOf_0 14 rfl rfl)
theorem dX0_lengthOf_15 : decode cX0_lengthOf 15 = .ok (.aload_n 0, 1) := dk_42 (dk_at dksX0_lengthOf_0 15 rfl rfl)
theorem dX0_lengthOf_16 : decode cX0_lengthOf 16 = .ok (.instanceof 295, 3) := dk_193 1 39 (dk_at dksX0_lengthOf_0 16 rfl rfl)
theorem dX0_lengthOf_19 : decode cX0_lengthOf 19 = .ok (.ifCond .eq 11, 3) := dk_153 0 11 (dk_at dksX0_lengthOf_0 19 rfl rfl)
theorem dX0_lengthOf_22 : decode cX0_lengthOf 22 = .ok (.aload_n 0, 1) := dk_42 (dk_at dksX0_lengthOf_0 22 rfl rfl)
theorem dX0_lengthOf_23 : decode cX0_lengthOf 23 = .ok (.checkcast 295, 3) := dk_192 1 39 (dk_at dksX0_lengthOf_1 0 rfl rfl)
theorem dX0_lengthOf_26 : decode cX0_lengthOf 26 = .ok (.astore_n 1, 1) := dk_76 (dk_at dksX0_lengthOf_1 3 rfl rfl)
theorem dX0_lengthOf_27 : decode cX0_lengthOf 27 = .ok (.aload_n 1, 1) := dk_43 (dk_at dksX0_lengthOf_1 4 rfl rfl)
theorem dX0_lengthOf_28 : decode cX0_lengthOf 28 = .ok (.arraylength, 1) := dk_190 (dk_at dksX0_lengthOf_1 5 rfl rfl)
theorem dX0_lengthOf_29 : decode cX0_lengthOf 29 = .ok (.ireturn, 1) := dk_172 (dk_at dksX0_lengthOf_1 6 rfl rfl)
theorem dX0_lengthOf_30 : decode cX0_lengthOf 30 = .ok (.aload_n 0, 1) := dk_42 (dk_at dksX0_lengthOf_1 7 rfl rfl)
theorem dX0_lengthOf_31 : decode cX0_lengthOf 31 = .ok (.checkcast 297, 3) := dk_192 1 41 (dk_at dksX0_lengthOf_1 8 rfl rfl)
theorem dX0_lengthOf_34 : decode cX0_lengthOf 34 = .ok (.arraylength, 1) := dk_190 (dk_at dksX0_lengthOf_1 11 rfl rfl)
theorem dX0_lengthOf_35 : decode cX0_lengthOf 35 = .ok (.ireturn, 1) := dk_172 (dk_at dksX0_lengthOf_1 12 rfl rfl)
abbrev cX0_isBook : ByteArray := prog_1_method_52_code
def yX0_isBook : MethodName := ⟨RX0, "isBook", "([I)Z"⟩
def dkwX0_isBook_2 : List UInt8 := [167, 0, 4, 3, 126, 60, 132, 2, 1, 167, 255, 215, 27, 172]
abbrev dktX0_isBook_2 : List UInt8 := dkwX0_isBook_2 ++ []
def dkwX0_isBook_1 : List UInt8 := [46, 184, 0, 68, 153, 0, 22, 28, 153, 0, 14, 42, 28, 46, 42, 28, 4, 100, 46, 159, 0, 7, 4]
abbrev dktX0_isBook_1 : List UInt8 := dkwX0_isBook_1 ++ dktX0_isBook_2
def dkwX0_isBook_0 : List UInt8 := [42, 190, 133, 20, 0, 74, 20, 1, 74, 184, 0, 62, 60, 3, 61, 28, 42, 190, 162, 0, 41, 27, 42, 28]
abbrev dktX0_isBook_0 : List UInt8 := dkwX0_isBook_0 ++ dktX0_isBook_1
theorem dksX0_isBook_0 : cX0_isBook.data.toList.drop 0 = dktX0_isBook_0 := by decide +kernel
theorem dksX0_isBook_1 : cX0_isBook.data.toList.drop 24 = dktX0_isBook_1 := dk_seg dksX0_isBook_0 24 rfl rfl
theorem dksX0_isBook_2 : cX0_isBook.data.toList.drop 47 = dktX0_isBook_2 := dk_seg dksX0_isBook_1 23 rfl rfl
theorem dX0_isBook_0 : decode cX0_isBook 0 = .ok (.aload_n 0, 1) := dk_42 (dk_at dksX0_isBook_0 0 rfl rfl)
theorem dX0_isBook_1 : decode cX0_isBook 1 = .ok (.arraylength, 1) := dk_190 (dk_at dksX0_isBook_0 1 rfl rfl)
theorem dX0_isBook_2 : decode cX0_isBook 2 = .ok (.i2l, 1) := dk_133 (dk_at dksX0_isBook_0 2 rfl rfl)
theorem dX0_isBook_3 : decode cX0_isBook 3 = .ok (.ldc2_w 74, 3) := dk_20 0 74 (dk_at dksX0_isBook_0 3 rfl rfl)
theorem dX0_isBook_6 : decode cX0_isBook 6 = .ok (.ldc2_w 330, 3) := dk_20 1 74 (dk_at dksX0_isBook_0 6 rfl rfl)
theorem dX0_isBook_9 : decode cX0_isBook 9 = .ok (.invokestatic 62, 3) := dk_184 0 62 (dk_at dksX0_isBook_0 9 rfl rfl)
theorem dX0_isBook_12 : decode cX0_isBook 12 = .ok (.istore_n 1, 1) := dk_60 (dk_at dksX0_isBook_0 12 rfl rfl)
theorem dX0_isBook_13 : decode cX0_isBook 13 = .ok (.iconst 0, 1) := dk_3 (dk_at dksX0_isBook_0 13 rfl rfl)
theorem dX0_isBook_14 : decode cX0_isBook 14 = .ok (.istore_n 2, 1) := dk_61 (dk_at dksX0_isBook_0 14 rfl rfl)
theorem dX0_isBook_15 : decode cX0_isBook 15 = .ok (.iload_n 2, 1) := dk_28 (dk_at dksX0_isBook_0 15 rfl rfl)
theorem dX0_isBook_16 : decode cX0_isBook 16 = .ok (.aload_n 0, 1) := dk_42 (dk_at dksX0_isBook_0 16 rfl rfl)
theorem dX0_isBook_17 : decode cX0_isBook 17 = .ok (.arraylength, 1) := dk_190 (dk_at dksX0_isBook_0 17 rfl rfl)
theorem dX0_isBook_18 : decode cX0_isBook 18 = .ok (.if_icmp .ge 41, 3) := dk_162 0 41 (dk_at dksX0_isBook_0 18 rfl rfl)
theorem dX0_isBook_21 : decode cX0_isBook 21 = .ok (.iload_n 1, 1) := dk_27 (dk_at dksX0_isBook_0 21 rfl rfl)
theorem dX0_isBook_22 : decode cX0_isBook 22 = .ok (.aload_n 0, 1) := dk_42 (dk_at dksX0_isBook_0 22 rfl rfl)
theorem dX0_isBook_23 : decode cX0_isBook 23 = .ok (.iload_n 2, 1) := dk_28 (dk_at dksX0_isBook_0 23 rfl rfl)
theorem dX0_isBook_24 : decode cX0_isBook 24 = .ok (.iaload, 1) := dk_46 (dk_at dksX0_isBook_1 0 rfl rfl)
theorem dX0_isBook_25 : decode cX0_isBook 25 = .ok (.invokestatic 68, 3) := dk_184 0 68 (dk_at dksX0_isBook_1 1 rfl rfl)
theorem dX0_isBook_28 : decode cX0_isBook 28 = .ok (.ifCond .eq 22, 3) := dk_153 0 22 (dk_at dksX0_isBook_1 4 rfl rfl)
theorem dX0_isBook_31 : decode cX0_isBook 31 = .ok (.iload_n 2, 1) := dk_28 (dk_at dksX0_isBook_1 7 rfl rfl)
theorem dX0_isBook_32 : decode cX0_isBook 32 = .ok (.ifCond .eq 14, 3) := dk_153 0 14 (dk_at dksX0_isBook_1 8 rfl rfl)
theorem dX0_isBook_35 : decode cX0_isBook 35 = .ok (.aload_n 0, 1) := dk_42 (dk_at dksX0_isBook_1 11 rfl rfl)
theorem dX0_isBook_36 : decode cX0_isBook 36 = .ok (.iload_n 2, 1) := dk_28 (dk_at dksX0_isBook_1 12 rfl rfl)
theorem dX0_isBook_37 : decode cX0_isBook 37 = .ok (.iaload, 1) := dk_46 (dk_at dksX0_isBook_1 13 rfl rfl)
theorem dX0_isBook_38 : decode cX0_isBook 38 = .ok (.aload_n 0, 1) := dk_42 (dk_at dksX0_isBook_1 14 rfl rfl)
theorem dX0_isBook_39 : decode cX0_isBook 39 = .ok (.iload_n 2, 1) := dk_28 (dk_at dksX0_isBook_1 15 rfl rfl)
theorem dX0_isBook_40 : decode cX0_isBook 40 = .ok (.iconst 1, 1) := dk_4 (dk_at dksX0_isBook_1 16 rfl rfl)
theorem dX0_isBook_41 : decode cX0_isBook 41 = .ok (.isub, 1) := dk_100 (dk_at dksX0_isBook_1 17 rfl rfl)
theorem dX0_isBook_42 : decode cX0_isBook 42 = .ok (.iaload, 1) := dk_46 (dk_at dksX0_isBook_1 18 rfl rfl)
theorem dX0_isBook_43 : decode cX0_isBook 43 = .ok (.if_icmp .eq 7, 3) := dk_159 0 7 (dk_at dksX0_isBook_1 19 rfl rfl)
theorem dX0_isBook_46 : decode cX0_isBook 46 = .ok (.iconst 1, 1) := dk_4 (dk_at dksX0_isBook_1 22 rfl rfl)
theorem dX0_isBook_47 : decode cX0_isBook 47 = .ok (.goto 4, 3) := dk_167 0 4 (dk_at dksX0_isBook_2 0 rfl rfl)
theorem dX0_isBook_50 : decode cX0_isBook 50 = .ok (.iconst 0, 1) := dk_3 (dk_at dksX0_isBook_2 3 rfl rfl)
theorem dX0_isBook_51 : decode cX0_isBook 51 = .ok (.iand, 1) := dk_126 (dk_at dksX0_isBook_2 4 rfl rfl)
theorem dX0_isBook_52 : decode cX0_isBook 52 = .ok (.istore_n 1, 1) := dk_60 (dk_at dksX0_isBook_2 5 rfl rfl)
theorem dX0_isBook_53 : decode cX0_isBook 53 = .ok (.iinc 2 1, 3) := dk_132 2 1 (dk_at dksX0_isBook_2 6 rfl rfl)
theorem dX0_isBook_56 : decode cX0_isBook 56 = .ok (.goto (-41), 3) := dk_167 255 215 (dk_at dksX0_isBook_2 9 rfl rfl)
theorem dX0_isBook_59 : decode cX0_isBook 59 = .ok (.iload_n 1, 1) := dk_27 (dk_at dksX0_isBook_2 12 rfl rfl)
theorem dX0_isBook_60 : decode cX0_isBook 60 = .ok (.ireturn, 1) := dk_172 (dk_at dksX0_isBook_2 13 rfl rfl)
abbrev cX0_proof : ByteArray := prog_1_method_54_code
def yX0_proof : MethodName := ⟨RX0, "proof", "(IIII)J"⟩
def dkwX0_proof_3 : List UInt8 := [182, 1, 62, 173, 58, 5, 42, 6, 182, 1, 62, 173]
abbrev dktX0_proof_3 : List UInt8 := dkwX0_proof_3 ++ []
def dkwX0_proof_2 : List UInt8 := [182, 1, 84, 173, 58, 5, 42, 5, 182, 1, 62, 173, 58, 5, 42, 4, 182, 1, 62, 173, 58, 5, 42, 7]
abbrev dktX0_proof_2 : List UInt8 := dkwX0_proof_2 ++ dktX0_proof_3
def dkwX0_proof_1 : List UInt8 := [154, 0, 7, 20, 0, 51, 173, 42, 42, 180, 0, 43, 27, 50, 28, 184, 1, 54, 29, 21, 4, 184, 1, 76]
abbrev dktX0_proof_1 : List UInt8 := dkwX0_proof_1 ++ dktX0_proof_2
def dkwX0_proof_0 : List UInt8 := [42, 3, 181, 0, 47, 27, 184, 1, 42, 153, 0, 17, 28, 184, 1, 45, 153, 0, 10, 42, 180, 0, 130]
abbrev dktX0_proof_0 : List UInt8 := dkwX0_proof_0 ++ dktX0_proof_1
theorem dksX0_proof_0 : cX0_proof.data.toList.drop 0 = dktX0_proof_0 := by decide +kernel
theorem dksX0_proof_1 : cX0_proof.data.toList.drop 23 = dktX0_proof_1 := dk_seg dksX0_proof_0 23 rfl rfl
theorem dksX0_proof_2 : cX0_proof.data.toList.drop 47 = dktX0_proof_2 := dk_seg dksX0_proof_1 24 rfl rfl
theorem dksX0_proof_3 : cX0_proof.data.toList.drop 71 = dktX0_proof_3 := dk_seg dksX0_proof_2 24 rfl rfl
theorem dX0_proof_0 : decode cX0_proof 0 = .ok (.aload_n 0, 1) := dk_42 (dk_at dksX0_proof_0 0 rfl rfl)
theorem dX0_proof_1 : decode cX0_proof 1 = .ok (.iconst 0, 1) := dk_3 (dk_at dksX0_proof_0 1 rfl rfl)
theorem dX0_proof_2 : decode cX0_proof 2 = .ok (.putfield 47, 3) := dk_181 0 47 (dk_at dksX0_proof_0 2 rfl rfl)
theorem dX0_proof_5 : decode cX0_proof 5 = .ok (.iload_n 1, 1) := dk_27 (dk_at dksX0_proof_0 5 rfl rfl)
theorem dX0_proof_6 : decode cX0_proof 6 = .ok (.invokestatic 298, 3) := dk_184 1 42 (dk_at dksX0_proof_0 6 rfl rfl)
theorem dX0_proof_9 : decode cX0_proof 9 = .ok (.ifCond .eq 17, 3) := dk_153 0 17 (dk_at dksX0_proof_0 9 rfl rfl)
theorem dX0_proof_12 : decode cX0_proof 12 = .ok (.iload_n 2, 1) := dk_28 (dk_at dksX0_proof_0 12 rfl rfl)
theorem dX0_proof_13 : decode cX0_proof 13 = .ok (.invokestatic 301, 3) := dk_184 1 45 (dk_at dksX0_proof_0 13 rfl rfl)
theorem dX0_proof_16 : decode cX0_proof 16 = .ok (.ifCond .eq 10, 3) := dk_153 0 10 (dk_at dksX0_proof_0 16 rfl rfl)
theorem dX0_proof_19 : decode cX0_proof 19 = .ok (.aload_n 0, 1) := dk_42 (dk_at dksX0_proof_0 19 rfl rfl)
theorem dX0_proof_20 : decode cX0_proof 20 = .ok (.getfield 130, 3) := dk_180 0 130 (dk_at dksX0_proof_0 20 rfl rfl)
theorem dX0_proof_23 : decode cX0_proof 23 = .ok (.ifCond .ne 7, 3) := dk_154 0 7 (dk_at dksX0_proof_1 0 rfl rfl)
theorem dX0_proof_26 : decode cX0_proof 26 = .ok (.ldc2_w 51, 3) := dk_20 0 51 (dk_at dksX0_proof_1 3 rfl rfl)
theorem dX0_proof_29 : decode cX0_proof 29 = .ok (.lreturn, 1) := dk_173 (dk_at dksX0_proof_1 6 rfl rfl)
theorem dX0_proof_30 : decode cX0_proof 30 = .ok (.aload_n 0, 1) := dk_42 (dk_at dksX0_proof_1 7 rfl rfl)
theorem dX0_proof_31 : decode cX0_proof 31 = .ok (.aload_n 0, 1) := dk_42 (dk_at dksX0_proof_1 8 rfl rfl)
theorem dX0_proof_32 : decode cX0_proof 32 = .ok (.getfield 43, 3) := dk_180 0 43 (dk_at dksX0_proof_1 9 rfl rfl)
theorem dX0_proof_35 : decode cX0_proof 35 = .ok (.iload_n 1, 1) := dk_27 (dk_at dksX0_proof_1 12 rfl rfl)
theorem dX0_proof_36 : decode cX0_proof 36 = .ok (.aaload, 1) := dk_50 (dk_at dksX0_proof_1 13 rfl rfl)
theorem dX0_proof_37 : decode cX0_proof 37 = .ok (.iload_n 2, 1) := dk_28 (dk_at dksX0_proof_1 14 rfl rfl)
theorem dX0_proof_38 : decode cX0_proof 38 = .ok (.invokestatic 310, 3) := dk_184 1 54 (dk_at dksX0_proof_1 15 rfl rfl)
theorem dX0_proof_41 : decode cX0_proof 41 = .ok (.iload_n 3, 1) := dk_29 (dk_at dksX0_proof_1 18 rfl rfl)
theorem dX0_proof_42 : decode cX0_proof 42 = .ok (.iload 4, 2) := dk_21 4 (dk_at dksX0_proof_1 19 rfl rfl)
theorem dX0_proof_44 : decode cX0_proof 44 = .ok (.invokestatic 332, 3) := dk_184 1 76 (dk_at dksX0_proof_1 21 rfl rfl)
theorem dX0_proof_47 : decode cX0_proof 47 = .ok (.invokevirtual 340, 3) := dk_182 1 84 (dk_at dksX0_proof_2 0 rfl rfl)
theorem dX0_proof_50 : decode cX0_proof 50 = .ok (.lreturn, 1) := dk_173 (dk_at dksX0_proof_2 3 rfl rfl)
theorem dX0_proof_51 : decode cX0_proof 51 = .ok (.astore 5, 2) := dk_58 5 (dk_at dksX0_proof_2 4 rfl rfl)
theorem dX0_proof_53 : decode cX0_proof 53 = .ok (.aload_n 0, 1) := dk_42 (dk_at dksX0_proof_2 6 rfl rfl)
theorem dX0_proof_54 : decode cX0_proof 54 = .ok (.iconst 2, 1) := dk_5 (dk_at dksX0_proof_2 7 rfl rfl)
theorem dX0_proof_55 : decode cX0_proof 55 = .ok (.invokevirtual 318, 3) := dk_182 1 62 (dk_at dksX0_proof_2 8 rfl rfl)
theorem dX0_proof_58 : decode cX0_proof 58 = .ok (.lreturn, 1) := dk_173 (dk_at dksX0_proof_2 11 rfl rfl)
theorem dX0_proof_59 : decode cX0_proof 59 = .ok (.astore 5, 2) := dk_58 5 (dk_at dksX0_proof_2 12 rfl rfl)
theorem dX0_proof_61 : decode cX0_proof 61 = .ok (.aload_n 0, 1) := dk_42 (dk_at dksX0_proof_2 14 rfl rfl)
theorem dX0_proof_62 : decode cX0_proof 62 = .ok (.iconst 1, 1) := dk_4 (dk_at dksX0_proof_2 15 rfl rfl)
theorem dX0_proof_63 : decode cX0_proof 63 = .ok (.invokevirtual 318, 3) := dk_182 1 62 (dk_at dksX0_proof_2 16 rfl rfl)
theorem dX0_proof_66 : decode cX0_proof 66 = .ok (.lreturn, 1) := dk_173 (dk_at dksX0_proof_2 19 rfl rfl)
theorem dX0_proof_67 : decode cX0_proof 67 = .ok (.astore 5, 2) := dk_58 5 (dk_at dksX0_proof_2 20 rfl rfl)
theorem dX0_proof_69 : decode cX0_proof 69 = .ok (.aload_n 0, 1) := dk_42 (dk_at dksX0_proof_2 22 rfl rfl)
theorem dX0_proof_70 : decode cX0_proof 70 = .ok (.iconst 4, 1) := dk_7 (dk_at dksX0_proof_2 23 rfl rfl)
theorem dX0_proof_71 : decode cX0_proof 71 = .ok (.invokevirtual 318, 3) := dk_182 1 62 (dk_at dksX0_proof_3 0 rfl rfl)
theorem dX0_proof_74 : decode cX0_proof 74 = .ok (.lreturn, 1) := dk_173 (dk_at dksX0_proof_3 3 rfl rfl)
theorem dX0_proof_75 : decode cX0_proof 75 = .ok (.astore 5, 2) := dk_58 5 (dk_at dksX0_proof_3 4 rfl rfl)
theorem dX0_proof_77 : decode cX0_proof 77 = .ok (.aload_n 0, 1) := dk_42 (dk_at dksX0_proof_3 6 rfl rfl)
theorem dX0_proof_78 : decode cX0_proof 78 = .ok (.iconst 3, 1) := dk_6 (dk_at dksX0_proof_3 7 rfl rfl)
theorem dX0_proof_79 : decode cX0_proof 79 = .ok (.invokevirtual 318, 3) := dk_182 1 62 (dk_at dksX0_proof_3 8 rfl rfl)
theorem dX0_proof_82 : decode cX0_proof 82 = .ok (.lreturn, 1) := dk_173 (dk_at dksX0_proof_3 11 rfl rfl)
abbrev cX0_worth : ByteArray := prog_1_method_18_code
def yX0_worth : MethodName := ⟨RX0, "worth", "([I)J"⟩
def dkwX0_worth_8 : List UInt8 := [153, 0, 8, 22, 5, 167, 0, 6, 20, 0, 188, 173]
abbrev dktX0_worth_8 : List UInt8 := dkwX0_worth_8 ++ []
def dkwX0_worth_7 : List UInt8 := [180, 0, 18, 42, 180, 0, 130, 4, 100, 46, 160, 0, 21, 43, 190, 133, 10, 20, 0, 186, 184, 0, 62]
abbrev dktX0_worth_7 : List UInt8 := dkwX0_worth_7 ++ dktX0_worth_8
def dkwX0_worth_6 : List UInt8 := [180, 0, 117, 133, 97, 55, 5, 132, 7, 1, 167, 255, 125, 29, 42, 180, 0, 130, 160, 0, 36, 28, 42]
abbrev dktX0_worth_6 : List UInt8 := dkwX0_worth_6 ++ dktX0_worth_7
def dkwX0_worth_5 : List UInt8 := [182, 0, 159, 62, 22, 5, 42, 180, 0, 12, 43, 21, 7, 46, 185, 0, 94, 2, 0, 192, 0, 76]
abbrev dktX0_worth_5 : List UInt8 := dkwX0_worth_5 ++ dktX0_worth_6
def dkwX0_worth_4 : List UInt8 := [42, 180, 0, 12, 43, 21, 7, 46, 185, 0, 94, 2, 0, 192, 0, 76, 28, 182, 0, 149, 61, 42, 28, 29]
abbrev dktX0_worth_4 : List UInt8 := dkwX0_worth_4 ++ dktX0_worth_5
def dkwX0_worth_3 : List UInt8 := [16, 247, 160, 0, 11, 20, 0, 184, 21, 7, 133, 101, 173, 21, 4, 4, 43, 21, 7, 46, 120, 128, 54, 4]
abbrev dktX0_worth_3 : List UInt8 := dkwX0_worth_3 ++ dktX0_worth_4
def dkwX0_worth_2 : List UInt8 := [159, 0, 28, 42, 180, 0, 12, 43, 21, 7, 46, 185, 0, 94, 2, 0, 192, 0, 76, 28, 182, 0, 149]
abbrev dktX0_worth_2 : List UInt8 := dkwX0_worth_2 ++ dktX0_worth_3
def dkwX0_worth_1 : List UInt8 := [162, 0, 130, 42, 43, 21, 7, 46, 182, 0, 91, 153, 0, 41, 21, 4, 43, 21, 7, 46, 122, 4, 126, 4]
abbrev dktX0_worth_1 : List UInt8 := dkwX0_worth_1 ++ dktX0_worth_2
def dkwX0_worth_0 : List UInt8 := [42, 180, 0, 18, 3, 46, 61, 4, 62, 3, 54, 4, 9, 55, 5, 3, 54, 7, 21, 7, 43, 190]
abbrev dktX0_worth_0 : List UInt8 := dkwX0_worth_0 ++ dktX0_worth_1
theorem dksX0_worth_0 : cX0_worth.data.toList.drop 0 = dktX0_worth_0 := by decide +kernel
theorem dksX0_worth_1 : cX0_worth.data.toList.drop 22 = dktX0_worth_1 := dk_seg dksX0_worth_0 22 rfl rfl
theorem dksX0_worth_2 : cX0_worth.data.toList.drop 46 = dktX0_worth_2 := dk_seg dksX0_worth_1 24 rfl rfl
theorem dksX0_worth_3 : cX0_worth.data.toList.drop 69 = dktX0_worth_3 := dk_seg dksX0_worth_2 23 rfl rfl
theorem dksX0_worth_4 : cX0_worth.data.toList.drop 93 = dktX0_worth_4 := dk_seg dksX0_worth_3 24 rfl rfl
theorem dksX0_worth_5 : cX0_worth.data.toList.drop 117 = dktX0_worth_5 := dk_seg dksX0_worth_4 24 rfl rfl
theorem dksX0_worth_6 : cX0_worth.data.toList.drop 139 = dktX0_worth_6 := dk_seg dksX0_worth_5 22 rfl rfl
theorem dksX0_worth_7 : cX0_worth.data.toList.drop 162 = dktX0_worth_7 := dk_seg dksX0_worth_6 23 rfl rfl
theorem dksX0_worth_8 : cX0_worth.data.toList.drop 185 = dktX0_worth_8 := dk_seg dksX0_worth_7 23 rfl rfl
theorem dX0_worth_0 : decode cX0_worth 0 = .ok (.aload_n 0, 1) := dk_42 (dk_at dksX0_worth_0 0 rfl rfl)
theorem dX0_worth_1 : decode cX0_worth 1 = .ok (.getfield 18, 3) := dk_180 0 18 (dk_at dksX0_worth_0 1 rfl rfl)
theorem dX0_worth_4 : decode cX0_worth 4 = .ok (.iconst 0, 1) := dk_3 (dk_at dksX0_worth_0 4 rfl rfl)
theorem dX0_worth_5 : decode cX0_worth 5 = .ok (.iaload, 1) := dk_46 (dk_at dksX0_worth_0 5 rfl rfl)
theorem dX0_worth_6 : decode cX0_worth 6 = .ok (.istore_n 2, 1) := dk_61 (dk_at dksX0_worth_0 6 rfl rfl)
theorem dX0_worth_7 : decode cX0_worth 7 = .ok (.iconst 1, 1) := dk_4 (dk_at dksX0_worth_0 7 rfl rfl)
theorem dX0_worth_8 : decode cX0_worth 8 = .ok (.istore_n 3, 1) := dk_62 (dk_at dksX0_worth_0 8 rfl rfl)
theorem dX0_worth_9 : decode cX0_worth 9 = .ok (.iconst 0, 1) := dk_3 (dk_at dksX0_worth_0 9 rfl rfl)
theorem dX0_worth_10 : decode cX0_worth 10 = .ok (.istore 4, 2) := dk_54 4 (dk_at dksX0_worth_0 10 rfl rfl)
theorem dX0_worth_12 : decode cX0_worth 12 = .ok (.lconst 0, 1) := dk_9 (dk_at dksX0_worth_0 12 rfl rfl)
theorem dX0_worth_13 : decode cX0_worth 13 = .ok (.lstore 5, 2) := dk_55 5 (dk_at dksX0_worth_0 13 rfl rfl)
theorem dX0_worth_15 : decode cX0_worth 15 = .ok (.iconst 0, 1) := dk_3 (dk_at dksX0_worth_0 15 rfl rfl)
theorem dX0_worth_16 : decode cX0_worth 16 = .ok (.istore 7, 2) := dk_54 7 (dk_at dksX0_worth_0 16 rfl rfl)
theorem dX0_worth_18 : decode cX0_worth 18 = .ok (.iload 7, 2) := dk_21 7 (dk_at dksX0_worth_0 18 rfl rfl)
theorem dX0_worth_20 : decode cX0_worth 20 = .ok (.aload_n 1, 1) := dk_43 (dk_at dksX0_worth_0 20 rfl rfl)
theorem dX0_worth_21 : decode cX0_worth 21 = .ok (.arraylength, 1) := dk_190 (dk_at dksX0_worth_0 21 rfl rfl)
theorem dX0_worth_22 : decode cX0_worth 22 = .ok (.if_icmp .ge 130, 3) := dk_162 0 130 (dk_at dksX0_worth_1 0 rfl rfl)
theorem dX0_worth_25 : decode cX0_worth 25 = .ok (.aload_n 0, 1) := dk_42 (dk_at dksX0_worth_1 3 rfl rfl)
theorem dX0_worth_26 : decode cX0_worth 26 = .ok (.aload_n 1, 1) := dk_43 (dk_at dksX0_worth_1 4 rfl rfl)
theorem dX0_worth_27 : decode cX0_worth 27 = .ok (.iload 7, 2) := dk_21 7 (dk_at dksX0_worth_1 5 rfl rfl)
theorem dX0_worth_29 : decode cX0_worth 29 = .ok (.iaload, 1) := dk_46 (dk_at dksX0_worth_1 7 rfl rfl)
theorem dX0_worth_30 : decode cX0_worth 30 = .ok (.invokevirtual 91, 3) := dk_182 0 91 (dk_at dksX0_worth_1 8 rfl rfl)
theorem dX0_worth_33 : decode cX0_worth 33 = .ok (.ifCond .eq 41, 3) := dk_153 0 41 (dk_at dksX0_worth_1 11 rfl rfl)
theorem dX0_worth_36 : decode cX0_worth 36 = .ok (.iload 4, 2) := dk_21 4 (dk_at dksX0_worth_1 14 rfl rfl)
theorem dX0_worth_38 : decode cX0_worth 38 = .ok (.aload_n 1, 1) := dk_43 (dk_at dksX0_worth_1 16 rfl rfl)
theorem dX0_worth_39 : decode cX0_worth 39 = .ok (.iload 7, 2) := dk_21 7 (dk_at dksX0_worth_1 17 rfl rfl)
theorem dX0_worth_41 : decode cX0_worth 41 = .ok (.iaload, 1) := dk_46 (dk_at dksX0_worth_1 19 rfl rfl)
theorem dX0_worth_42 : decode cX0_worth 42 = .ok (.ishr, 1) := dk_122 (dk_at dksX0_worth_1 20 rfl rfl)
theorem dX0_worth_43 : decode cX0_worth 43 = .ok (.iconst 1, 1) := dk_4 (dk_at dksX0_worth_1 21 rfl rfl)
theorem dX0_worth_44 : decode cX0_worth 44 = .ok (.iand, 1) := dk_126 (dk_at dksX0_worth_1 22 rfl rfl)
theorem dX0_worth_45 : decode cX0_worth 45 = .ok (.iconst 1, 1) := dk_4 (dk_at dksX0_worth_1 23 rfl rfl)
theorem dX0_worth_46 : decode cX0_worth 46 = .ok (.if_icmp .eq 28, 3) := dk_159 0 28 (dk_at dksX0_worth_2 0 rfl rfl)
theorem dX0_worth_49 : decode cX0_worth 49 = .ok (.aload_n 0, 1) := dk_42 (dk_at dksX0_worth_2 3 rfl rfl)
theorem dX0_worth_50 : decode cX0_worth 50 = .ok (.getfield 12, 3) := dk_180 0 12 (dk_at dksX0_worth_2 4 rfl rfl)
theorem dX0_worth_53 : decode cX0_worth 53 = .ok (.aload_n 1, 1) := dk_43 (dk_at dksX0_worth_2 7 rfl rfl)
theorem dX0_worth_54 : decode cX0_worth 54 = .ok (.iload 7, 2) := dk_21 7 (dk_at dksX0_worth_2 8 rfl rfl)
theorem dX0_worth_56 : decode cX0_worth 56 = .ok (.iaload, 1) := dk_46 (dk_at dksX0_worth_2 10 rfl rfl)
theorem dX0_worth_57 : decode cX0_worth 57 = .ok (.invokeinterface 94 2, 5) := by decide +kernel
theorem dX0_worth_62 : decode cX0_worth 62 = .ok (.checkcast 76, 3) := dk_192 0 76 (dk_at dksX0_worth_2 16 rfl rfl)
theorem dX0_worth_65 : decode cX0_worth 65 = .ok (.iload_n 2, 1) := dk_28 (dk_at dksX0_worth_2 19 rfl rfl)
theorem dX0_worth_66 : decode cX0_worth 66 = .ok (.invokevirtual 149, 3) := dk_182 0 149 (dk_at dksX0_worth_2 20 rfl rfl)
theorem dX0_worth_69 : decode cX0_worth 69 = .ok (.bipush (-9), 2) := dk_16 247 (dk_at dksX0_worth_3 0 rfl rfl)
theorem dX0_worth_71 : decode cX0_worth 71 = .ok (.if_icmp .ne 11, 3) := dk_160 0 11 (dk_at dksX0_worth_3 2 rfl rfl)
theorem dX0_worth_74 : decode cX0_worth 74 = .ok (.ldc2_w 184, 3) := dk_20 0 184 (dk_at dksX0_worth_3 5 rfl rfl)
theorem dX0_worth_77 : decode cX0_worth 77 = .ok (.iload 7, 2) := dk_21 7 (dk_at dksX0_worth_3 8 rfl rfl)
theorem dX0_worth_79 : decode cX0_worth 79 = .ok (.i2l, 1) := dk_133 (dk_at dksX0_worth_3 10 rfl rfl)
theorem dX0_worth_80 : decode cX0_worth 80 = .ok (.lsub, 1) := dk_101 (dk_at dksX0_worth_3 11 rfl rfl)
theorem dX0_worth_81 : decode cX0_worth 81 = .ok (.lreturn, 1) := dk_173 (dk_at dksX0_worth_3 12 rfl rfl)
theorem dX0_worth_82 : decode cX0_worth 82 = .ok (.iload 4, 2) := dk_21 4 (dk_at dksX0_worth_3 13 rfl rfl)
theorem dX0_worth_84 : decode cX0_worth 84 = .ok (.iconst 1, 1) := dk_4 (dk_at dksX0_worth_3 15 rfl rfl)
theorem dX0_worth_85 : decode cX0_worth 85 = .ok (.aload_n 1, 1) := dk_43 (dk_at dksX0_worth_3 16 rfl rfl)
theorem dX0_worth_86 : decode cX0_worth 86 = .ok (.iload 7, 2) := dk_21 7 (dk_at dksX0_worth_3 17 rfl rfl)
theorem dX0_worth_88 : decode cX0_worth 88 = .ok (.iaload, 1) := dk_46 (dk_at dksX0_worth_3 19 rfl rfl)
theorem dX0_worth_89 : decode cX0_worth 89 = .ok (.ishl, 1) := dk_120 (dk_at dksX0_worth_3 20 rfl rfl)
theorem dX0_worth_90 : decode cX0_worth 90 = .ok (.ior, 1) := dk_128 (dk_at dksX0_worth_3 21 rfl rfl)
theorem dX0_worth_91 : decode cX0_worth 91 = .ok (.istore 4, 2) := dk_54 4 (dk_at dksX0_worth_3 22 rfl rfl)
theorem dX0_worth_93 : decode cX0_worth 93 = .ok (.aload_n 0, 1) := dk_42 (dk_at dksX0_worth_4 0 rfl rfl)
theorem dX0_worth_94 : decode cX0_worth 94 = .ok (.getfield 12, 3) := dk_180 0 12 (dk_at dksX0_worth_4 1 rfl rfl)
theorem dX0_worth_97 : decode cX0_worth 97 = .ok (.aload_n 1, 1) := dk_43 (dk_at dksX0_worth_4 4 rfl rfl)
theorem dX0_worth_98 : decode cX0_worth 98 = .ok (.iload 7, 2) := dk_21 7 (dk_at dksX0_worth_4 5 rfl rfl)
theorem dX0_worth_100 : decode cX0_worth 100 = .ok (.iaload, 1) := dk_46 (dk_at dksX0_worth_4 7 rfl rfl)
theorem dX0_worth_101 : decode cX0_worth 101 = .ok (.invokeinterface 94 2, 5) := by decide +kernel
theorem dX0_worth_106 : decode cX0_worth 106 = .ok (.checkcast 76, 3) := dk_192 0 76 (dk_at dksX0_worth_4 13 rfl rfl)
theorem dX0_worth_109 : decode cX0_worth 109 = .ok (.iload_n 2, 1) := dk_28 (dk_at dksX0_worth_4 16 rfl rfl)
theorem dX0_worth_110 : decode cX0_worth 110 = .ok (.invokevirtual 149, 3) := dk_182 0 149 (dk_at dksX0_worth_4 17 rfl rfl)
theorem dX0_worth_113 : decode cX0_worth 113 = .ok (.istore_n 2, 1) := dk_61 (dk_at dksX0_worth_4 20 rfl rfl)
theorem dX0_worth_114 : decode cX0_worth 114 = .ok (.aload_n 0, 1) := dk_42 (dk_at dksX0_worth_4 21 rfl rfl)
theorem dX0_worth_115 : decode cX0_worth 115 = .ok (.iload_n 2, 1) := dk_28 (dk_at dksX0_worth_4 22 rfl rfl)
theorem dX0_worth_116 : decode cX0_worth 116 = .ok (.iload_n 3, 1) := dk_29 (dk_at dksX0_worth_4 23 rfl rfl)
theorem dX0_worth_117 : decode cX0_worth 117 = .ok (.invokevirtual 159, 3) := dk_182 0 159 (dk_at dksX0_worth_5 0 rfl rfl)
theorem dX0_worth_120 : decode cX0_worth 120 = .ok (.istore_n 3, 1) := dk_62 (dk_at dksX0_worth_5 3 rfl rfl)
theorem dX0_worth_121 : decode cX0_worth 121 = .ok (.lload 5, 2) := dk_22 5 (dk_at dksX0_worth_5 4 rfl rfl)
theorem dX0_worth_123 : decode cX0_worth 123 = .ok (.aload_n 0, 1) := dk_42 (dk_at dksX0_worth_5 6 rfl rfl)
theorem dX0_worth_124 : decode cX0_worth 124 = .ok (.getfield 12, 3) := dk_180 0 12 (dk_at dksX0_worth_5 7 rfl rfl)
theorem dX0_worth_127 : decode cX0_worth 127 = .ok (.aload_n 1, 1) := dk_43 (dk_at dksX0_worth_5 10 rfl rfl)
theorem dX0_worth_128 : decode cX0_worth 128 = .ok (.iload 7, 2) := dk_21 7 (dk_at dksX0_worth_5 11 rfl rfl)
theorem dX0_worth_130 : decode cX0_worth 130 = .ok (.iaload, 1) := dk_46 (dk_at dksX0_worth_5 13 rfl rfl)
theorem dX0_worth_131 : decode cX0_worth 131 = .ok (.invokeinterface 94 2, 5) := by decide +kernel
theorem dX0_worth_136 : decode cX0_worth 136 = .ok (.checkcast 76, 3) := dk_192 0 76 (dk_at dksX0_worth_5 19 rfl rfl)
theorem dX0_worth_139 : decode cX0_worth 139 = .ok (.getfield 117, 3) := dk_180 0 117 (dk_at dksX0_worth_6 0 rfl rfl)
theorem dX0_worth_142 : decode cX0_worth 142 = .ok (.i2l, 1) := dk_133 (dk_at dksX0_worth_6 3 rfl rfl)
theorem dX0_worth_143 : decode cX0_worth 143 = .ok (.ladd, 1) := dk_97 (dk_at dksX0_worth_6 4 rfl rfl)
theorem dX0_worth_144 : decode cX0_worth 144 = .ok (.lstore 5, 2) := dk_55 5 (dk_at dksX0_worth_6 5 rfl rfl)
theorem dX0_worth_146 : decode cX0_worth 146 = .ok (.iinc 7 1, 3) := dk_132 7 1 (dk_at dksX0_worth_6 7 rfl rfl)
theorem dX0_worth_149 : decode cX0_worth 149 = .ok (.goto (-131), 3) := dk_167 255 125 (dk_at dksX0_worth_6 10 rfl rfl)
theorem dX0_worth_152 : decode cX0_worth 152 = .ok (.iload_n 3, 1) := dk_29 (dk_at dksX0_worth_6 13 rfl rfl)
theorem dX0_worth_153 : decode cX0_worth 153 = .ok (.aload_n 0, 1) := dk_42 (dk_at dksX0_worth_6 14 rfl rfl)
theorem dX0_worth_154 : decode cX0_worth 154 = .ok (.getfield 130, 3) := dk_180 0 130 (dk_at dksX0_worth_6 15 rfl rfl)
theorem dX0_worth_157 : decode cX0_worth 157 = .ok (.if_icmp .ne 36, 3) := dk_160 0 36 (dk_at dksX0_worth_6 18 rfl rfl)
theorem dX0_worth_160 : decode cX0_worth 160 = .ok (.iload_n 2, 1) := dk_28 (dk_at dksX0_worth_6 21 rfl rfl)
theorem dX0_worth_161 : decode cX0_worth 161 = .ok (.aload_n 0, 1) := dk_42 (dk_at dksX0_worth_6 22 rfl rfl)
theorem dX0_worth_162 : decode cX0_worth 162 = .ok (.getfield 18, 3) := dk_180 0 18 (dk_at dksX0_worth_7 0 rfl rfl)
theorem dX0_worth_165 : decode cX0_worth 165 = .ok (.aload_n 0, 1) := dk_42 (dk_at dksX0_worth_7 3 rfl rfl)
theorem dX0_worth_166 : decode cX0_worth 166 = .ok (.getfield 130, 3) := dk_180 0 130 (dk_at dksX0_worth_7 4 rfl rfl)
theorem dX0_worth_169 : decode cX0_worth 169 = .ok (.iconst 1, 1) := dk_4 (dk_at dksX0_worth_7 7 rfl rfl)
theorem dX0_worth_170 : decode cX0_worth 170 = .ok (.isub, 1) := dk_100 (dk_at dksX0_worth_7 8 rfl rfl)
theorem dX0_worth_171 : decode cX0_worth 171 = .ok (.iaload, 1) := dk_46 (dk_at dksX0_worth_7 9 rfl rfl)
theorem dX0_worth_172 : decode cX0_worth 172 = .ok (.if_icmp .ne 21, 3) := dk_160 0 21 (dk_at dksX0_worth_7 10 rfl rfl)
theorem dX0_worth_175 : decode cX0_worth 175 = .ok (.aload_n 1, 1) := dk_43 (dk_at dksX0_worth_7 13 rfl rfl)
theorem dX0_worth_176 : decode cX0_worth 176 = .ok (.arraylength, 1) := dk_190 (dk_at dksX0_worth_7 14 rfl rfl)
theorem dX0_worth_177 : decode cX0_worth 177 = .ok (.i2l, 1) := dk_133 (dk_at dksX0_worth_7 15 rfl rfl)
theorem dX0_worth_178 : decode cX0_worth 178 = .ok (.lconst 1, 1) := dk_10 (dk_at dksX0_worth_7 16 rfl rfl)
theorem dX0_worth_179 : decode cX0_worth 179 = .ok (.ldc2_w 186, 3) := dk_20 0 186 (dk_at dksX0_worth_7 17 rfl rfl)
theorem dX0_worth_182 : decode cX0_worth 182 = .ok (.invokestatic 62, 3) := dk_184 0 62 (dk_at dksX0_worth_7 20 rfl rfl)
theorem dX0_worth_185 : decode cX0_worth 185 = .ok (.ifCond .eq 8, 3) := dk_153 0 8 (dk_at dksX0_worth_8 0 rfl rfl)
theorem dX0_worth_188 : decode cX0_worth 188 = .ok (.lload 5, 2) := dk_22 5 (dk_at dksX0_worth_8 3 rfl rfl)
theorem dX0_worth_190 : decode cX0_worth 190 = .ok (.goto 6, 3) := dk_167 0 6 (dk_at dksX0_worth_8 5 rfl rfl)
theorem dX0_worth_193 : decode cX0_worth 193 = .ok (.ldc2_w 188, 3) := dk_20 0 188 (dk_at dksX0_worth_8 8 rfl rfl)
theorem dX0_worth_196 : decode cX0_worth 196 = .ok (.lreturn, 1) := dk_173 (dk_at dksX0_worth_8 11 rfl rfl)
abbrev cX0_tell : ByteArray := prog_1_method_55_code
def yX0_tell : MethodName := ⟨RX0, "tell", "(I)I"⟩
def dkwX0_tell_1 : List UInt8 := [167, 0, 4, 2, 172]
abbrev dktX0_tell_1 : List UInt8 := dkwX0_tell_1 ++ []
def dkwX0_tell_0 : List UInt8 := [42, 27, 182, 0, 91, 153, 0, 22, 42, 180, 0, 12, 27, 185, 0, 94, 2, 0, 192, 0, 76, 182, 1, 88]
abbrev dktX0_tell_0 : List UInt8 := dkwX0_tell_0 ++ dktX0_tell_1
theorem dksX0_tell_0 : cX0_tell.data.toList.drop 0 = dktX0_tell_0 := by decide +kernel
theorem dksX0_tell_1 : cX0_tell.data.toList.drop 24 = dktX0_tell_1 := dk_seg dksX0_tell_0 24 rfl rfl
theorem dX0_tell_0 : decode cX0_tell 0 = .ok (.aload_n 0, 1) := dk_42 (dk_at dksX0_tell_0 0 rfl rfl)
theorem dX0_tell_1 : decode cX0_tell 1 = .ok (.iload_n 1, 1) := dk_27 (dk_at dksX0_tell_0 1 rfl rfl)
theorem dX0_tell_2 : decode cX0_tell 2 = .ok (.invokevirtual 91, 3) := dk_182 0 91 (dk_at dksX0_tell_0 2 rfl rfl)
theorem dX0_tell_5 : decode cX0_tell 5 = .ok (.ifCond .eq 22, 3) := dk_153 0 22 (dk_at dksX0_tell_0 5 rfl rfl)
theorem dX0_tell_8 : decode cX0_tell 8 = .ok (.aload_n 0, 1) := dk_42 (dk_at dksX0_tell_0 8 rfl rfl)
theorem dX0_tell_9 : decode cX0_tell 9 = .ok (.getfield 12, 3) := dk_180 0 12 (dk_at dksX0_tell_0 9 rfl rfl)
theorem dX0_tell_12 : decode cX0_tell 12 = .ok (.iload_n 1, 1) := dk_27 (dk_at dksX0_tell_0 12 rfl rfl)
theorem dX0_tell_13 : decode cX0_tell 13 = .ok (.invokeinterface 94 2, 5) := by decide +kernel
theorem dX0_tell_18 : decode cX0_tell 18 = .ok (.checkcast 76, 3) := dk_192 0 76 (dk_at dksX0_tell_0 18 rfl rfl)
theorem dX0_tell_21 : decode cX0_tell 21 = .ok (.invokevirtual 344, 3) := dk_182 1 88 (dk_at dksX0_tell_0 21 rfl rfl)
theorem dX0_tell_24 : decode cX0_tell 24 = .ok (.goto 4, 3) := dk_167 0 4 (dk_at dksX0_tell_1 0 rfl rfl)
theorem dX0_tell_27 : decode cX0_tell 27 = .ok (.iconst (-1), 1) := dk_2 (dk_at dksX0_tell_1 3 rfl rfl)
theorem dX0_tell_28 : decode cX0_tell 28 = .ok (.ireturn, 1) := dk_172 (dk_at dksX0_tell_1 4 rfl rfl)
abbrev cX0_begins : ByteArray := prog_1_method_5_code
def yX0_begins : MethodName := ⟨RX0, "begins", "(I)V"⟩
def dkwX0_begins_0 : List UInt8 := [42, 16, 31, 42, 180, 0, 53, 104, 27, 96, 181, 0, 53, 177]
abbrev dktX0_begins_0 : List UInt8 := dkwX0_begins_0 ++ []
theorem dksX0_begins_0 : cX0_begins.data.toList.drop 0 = dktX0_begins_0 := by decide +kernel
theorem dX0_begins_0 : decode cX0_begins 0 = .ok (.aload_n 0, 1) := dk_42 (dk_at dksX0_begins_0 0 rfl rfl)
theorem dX0_begins_1 : decode cX0_begins 1 = .ok (.bipush 31, 2) := dk_16 31 (dk_at dksX0_begins_0 1 rfl rfl)
theorem dX0_begins_3 : decode cX0_begins 3 = .ok (.aload_n 0, 1) := dk_42 (dk_at dksX0_begins_0 3 rfl rfl)
theorem dX0_begins_4 : decode cX0_begins 4 = .ok (.getfield 53, 3) := dk_180 0 53 (dk_at dksX0_begins_0 4 rfl rfl)
theorem dX0_begins_7 : decode cX0_begins 7 = .ok (.imul, 1) := dk_104 (dk_at dksX0_begins_0 7 rfl rfl)
theorem dX0_begins_8 : decode cX0_begins 8 = .ok (.iload_n 1, 1) := dk_27 (dk_at dksX0_begins_0 8 rfl rfl)
theorem dX0_begins_9 : decode cX0_begins 9 = .ok (.iadd, 1) := dk_96 (dk_at dksX0_begins_0 9 rfl rfl)
theorem dX0_begins_10 : decode cX0_begins 10 = .ok (.putfield 53, 3) := dk_181 0 53 (dk_at dksX0_begins_0 10 rfl rfl)
theorem dX0_begins_13 : decode cX0_begins 13 = .ok (.return_, 1) := dk_177 (dk_at dksX0_begins_0 13 rfl rfl)
abbrev cX0_greet : ByteArray := prog_1_method_56_code
def yX0_greet : MethodName := ⟨RX0, "greet", "(I)I"⟩
def dkwX0_greet_1 : List UInt8 := [167, 0, 4, 2, 172]
abbrev dktX0_greet_1 : List UInt8 := dkwX0_greet_1 ++ []
def dkwX0_greet_0 : List UInt8 := [42, 27, 182, 1, 0, 153, 0, 22, 42, 180, 0, 40, 27, 185, 0, 94, 2, 0, 192, 0, 179, 182, 1, 91]
abbrev dktX0_greet_0 : List UInt8 := dkwX0_greet_0 ++ dktX0_greet_1
theorem dksX0_greet_0 : cX0_greet.data.toList.drop 0 = dktX0_greet_0 := by decide +kernel
theorem dksX0_greet_1 : cX0_greet.data.toList.drop 24 = dktX0_greet_1 := dk_seg dksX0_greet_0 24 rfl rfl
theorem dX0_greet_0 : decode cX0_greet 0 = .ok (.aload_n 0, 1) := dk_42 (dk_at dksX0_greet_0 0 rfl rfl)
theorem dX0_greet_1 : decode cX0_greet 1 = .ok (.iload_n 1, 1) := dk_27 (dk_at dksX0_greet_0 1 rfl rfl)
theorem dX0_greet_2 : decode cX0_greet 2 = .ok (.invokevirtual 256, 3) := dk_182 1 0 (dk_at dksX0_greet_0 2 rfl rfl)
theorem dX0_greet_5 : decode cX0_greet 5 = .ok (.ifCond .eq 22, 3) := dk_153 0 22 (dk_at dksX0_greet_0 5 rfl rfl)
theorem dX0_greet_8 : decode cX0_greet 8 = .ok (.aload_n 0, 1) := dk_42 (dk_at dksX0_greet_0 8 rfl rfl)
theorem dX0_greet_9 : decode cX0_greet 9 = .ok (.getfield 40, 3) := dk_180 0 40 (dk_at dksX0_greet_0 9 rfl rfl)
theorem dX0_greet_12 : decode cX0_greet 12 = .ok (.iload_n 1, 1) := dk_27 (dk_at dksX0_greet_0 12 rfl rfl)
theorem dX0_greet_13 : decode cX0_greet 13 = .ok (.invokeinterface 94 2, 5) := by decide +kernel
theorem dX0_greet_18 : decode cX0_greet 18 = .ok (.checkcast 179, 3) := dk_192 0 179 (dk_at dksX0_greet_0 18 rfl rfl)
theorem dX0_greet_21 : decode cX0_greet 21 = .ok (.invokevirtual 347, 3) := dk_182 1 91 (dk_at dksX0_greet_0 21 rfl rfl)
theorem dX0_greet_24 : decode cX0_greet 24 = .ok (.goto 4, 3) := dk_167 0 4 (dk_at dksX0_greet_1 0 rfl rfl)
theorem dX0_greet_27 : decode cX0_greet 27 = .ok (.iconst (-1), 1) := dk_2 (dk_at dksX0_greet_1 3 rfl rfl)
theorem dX0_greet_28 : decode cX0_greet 28 = .ok (.ireturn, 1) := dk_172 (dk_at dksX0_greet_1 4 rfl rfl)
abbrev cX0_as : ByteArray := prog_1_method_58_code
def yX0_as : MethodName := ⟨RX0, "as", "(II)I"⟩
def dkwX0_as_2 : List UInt8 := [182, 1, 98, 28, 161, 0, 7, 4, 167, 0, 4, 3, 172, 78, 42, 5, 182, 0, 107, 172]
abbrev dktX0_as_2 : List UInt8 := dkwX0_as_2 ++ []
def dkwX0_as_1 : List UInt8 := [154, 0, 6, 16, 254, 172, 42, 180, 0, 40, 27, 185, 0, 94, 2, 0, 192, 0, 179, 28, 184, 1, 94]
abbrev dktX0_as_1 : List UInt8 := dkwX0_as_1 ++ dktX0_as_2
def dkwX0_as_0 : List UInt8 := [42, 3, 181, 0, 47, 42, 27, 182, 1, 0, 154, 0, 5, 2, 172, 28, 133, 9, 20, 0, 74, 184, 0, 62]
abbrev dktX0_as_0 : List UInt8 := dkwX0_as_0 ++ dktX0_as_1
theorem dksX0_as_0 : cX0_as.data.toList.drop 0 = dktX0_as_0 := by decide +kernel
theorem dksX0_as_1 : cX0_as.data.toList.drop 24 = dktX0_as_1 := dk_seg dksX0_as_0 24 rfl rfl
theorem dksX0_as_2 : cX0_as.data.toList.drop 47 = dktX0_as_2 := dk_seg dksX0_as_1 23 rfl rfl
theorem dX0_as_0 : decode cX0_as 0 = .ok (.aload_n 0, 1) := dk_42 (dk_at dksX0_as_0 0 rfl rfl)
theorem dX0_as_1 : decode cX0_as 1 = .ok (.iconst 0, 1) := dk_3 (dk_at dksX0_as_0 1 rfl rfl)
theorem dX0_as_2 : decode cX0_as 2 = .ok (.putfield 47, 3) := dk_181 0 47 (dk_at dksX0_as_0 2 rfl rfl)
theorem dX0_as_5 : decode cX0_as 5 = .ok (.aload_n 0, 1) := dk_42 (dk_at dksX0_as_0 5 rfl rfl)
theorem dX0_as_6 : decode cX0_as 6 = .ok (.iload_n 1, 1) := dk_27 (dk_at dksX0_as_0 6 rfl rfl)
theorem dX0_as_7 : decode cX0_as 7 = .ok (.invokevirtual 256, 3) := dk_182 1 0 (dk_at dksX0_as_0 7 rfl rfl)
theorem dX0_as_10 : decode cX0_as 10 = .ok (.ifCond .ne 5, 3) := dk_154 0 5 (dk_at dksX0_as_0 10 rfl rfl)
theorem dX0_as_13 : decode cX0_as 13 = .ok (.iconst (-1), 1) := dk_2 (dk_at dksX0_as_0 13 rfl rfl)
theorem dX0_as_14 : decode cX0_as 14 = .ok (.ireturn, 1) := dk_172 (dk_at dksX0_as_0 14 rfl rfl)
theorem dX0_as_15 : decode cX0_as 15 = .ok (.iload_n 2, 1) := dk_28 (dk_at dksX0_as_0 15 rfl rfl)
theorem dX0_as_16 : decode cX0_as 16 = .ok (.i2l, 1) := dk_133 (dk_at dksX0_as_0 16 rfl rfl)
theorem dX0_as_17 : decode cX0_as 17 = .ok (.lconst 0, 1) := dk_9 (dk_at dksX0_as_0 17 rfl rfl)
theorem dX0_as_18 : decode cX0_as 18 = .ok (.ldc2_w 74, 3) := dk_20 0 74 (dk_at dksX0_as_0 18 rfl rfl)
theorem dX0_as_21 : decode cX0_as 21 = .ok (.invokestatic 62, 3) := dk_184 0 62 (dk_at dksX0_as_0 21 rfl rfl)
theorem dX0_as_24 : decode cX0_as 24 = .ok (.ifCond .ne 6, 3) := dk_154 0 6 (dk_at dksX0_as_1 0 rfl rfl)
theorem dX0_as_27 : decode cX0_as 27 = .ok (.bipush (-2), 2) := dk_16 254 (dk_at dksX0_as_1 3 rfl rfl)
theorem dX0_as_29 : decode cX0_as 29 = .ok (.ireturn, 1) := dk_172 (dk_at dksX0_as_1 5 rfl rfl)
theorem dX0_as_30 : decode cX0_as 30 = .ok (.aload_n 0, 1) := dk_42 (dk_at dksX0_as_1 6 rfl rfl)
theorem dX0_as_31 : decode cX0_as 31 = .ok (.getfield 40, 3) := dk_180 0 40 (dk_at dksX0_as_1 7 rfl rfl)
theorem dX0_as_34 : decode cX0_as 34 = .ok (.iload_n 1, 1) := dk_27 (dk_at dksX0_as_1 10 rfl rfl)
theorem dX0_as_35 : decode cX0_as 35 = .ok (.invokeinterface 94 2, 5) := by decide +kernel
theorem dX0_as_40 : decode cX0_as 40 = .ok (.checkcast 179, 3) := dk_192 0 179 (dk_at dksX0_as_1 16 rfl rfl)
theorem dX0_as_43 : decode cX0_as 43 = .ok (.iload_n 2, 1) := dk_28 (dk_at dksX0_as_1 19 rfl rfl)
theorem dX0_as_44 : decode cX0_as 44 = .ok (.invokestatic 350, 3) := dk_184 1 94 (dk_at dksX0_as_1 20 rfl rfl)
theorem dX0_as_47 : decode cX0_as 47 = .ok (.invokevirtual 354, 3) := dk_182 1 98 (dk_at dksX0_as_2 0 rfl rfl)
theorem dX0_as_50 : decode cX0_as 50 = .ok (.iload_n 2, 1) := dk_28 (dk_at dksX0_as_2 3 rfl rfl)
theorem dX0_as_51 : decode cX0_as 51 = .ok (.if_icmp .lt 7, 3) := dk_161 0 7 (dk_at dksX0_as_2 4 rfl rfl)
theorem dX0_as_54 : decode cX0_as 54 = .ok (.iconst 1, 1) := dk_4 (dk_at dksX0_as_2 7 rfl rfl)
theorem dX0_as_55 : decode cX0_as 55 = .ok (.goto 4, 3) := dk_167 0 4 (dk_at dksX0_as_2 8 rfl rfl)
theorem dX0_as_58 : decode cX0_as 58 = .ok (.iconst 0, 1) := dk_3 (dk_at dksX0_as_2 11 rfl rfl)
theorem dX0_as_59 : decode cX0_as 59 = .ok (.ireturn, 1) := dk_172 (dk_at dksX0_as_2 12 rfl rfl)
theorem dX0_as_60 : decode cX0_as 60 = .ok (.astore_n 3, 1) := dk_78 (dk_at dksX0_as_2 13 rfl rfl)
theorem dX0_as_61 : decode cX0_as 61 = .ok (.aload_n 0, 1) := dk_42 (dk_at dksX0_as_2 14 rfl rfl)
theorem dX0_as_62 : decode cX0_as 62 = .ok (.iconst 2, 1) := dk_5 (dk_at dksX0_as_2 15 rfl rfl)
theorem dX0_as_63 : decode cX0_as 63 = .ok (.invokevirtual 107, 3) := dk_182 0 107 (dk_at dksX0_as_2 16 rfl rfl)
theorem dX0_as_66 : decode cX0_as 66 = .ok (.ireturn, 1) := dk_172 (dk_at dksX0_as_2 19 rfl rfl)
abbrev cX0_of : ByteArray := prog_1_method_57_code
def yX0_of : MethodName := ⟨RX0, "of", "(LRegularRally$Car;I)LRegularRally$Car;"⟩
def dkwX0_of_1 : List UInt8 := [176]
abbrev dktX0_of_1 : List UInt8 := dkwX0_of_1 ++ []
def dkwX0_of_0 : List UInt8 := [27, 154, 0, 7, 42, 167, 0, 19, 27, 4, 160, 0, 10, 42, 192, 0, 250, 167, 0, 7, 42, 192, 0, 253]
abbrev dktX0_of_0 : List UInt8 := dkwX0_of_0 ++ dktX0_of_1
theorem dksX0_of_0 : cX0_of.data.toList.drop 0 = dktX0_of_0 := by decide +kernel
theorem dksX0_of_1 : cX0_of.data.toList.drop 24 = dktX0_of_1 := dk_seg dksX0_of_0 24 rfl rfl
theorem dX0_of_0 : decode cX0_of 0 = .ok (.iload_n 1, 1) := dk_27 (dk_at dksX0_of_0 0 rfl rfl)
theorem dX0_of_1 : decode cX0_of 1 = .ok (.ifCond .ne 7, 3) := dk_154 0 7 (dk_at dksX0_of_0 1 rfl rfl)
theorem dX0_of_4 : decode cX0_of 4 = .ok (.aload_n 0, 1) := dk_42 (dk_at dksX0_of_0 4 rfl rfl)
theorem dX0_of_5 : decode cX0_of 5 = .ok (.goto 19, 3) := dk_167 0 19 (dk_at dksX0_of_0 5 rfl rfl)
theorem dX0_of_8 : decode cX0_of 8 = .ok (.iload_n 1, 1) := dk_27 (dk_at dksX0_of_0 8 rfl rfl)
theorem dX0_of_9 : decode cX0_of 9 = .ok (.iconst 1, 1) := dk_4 (dk_at dksX0_of_0 9 rfl rfl)
theorem dX0_of_10 : decode cX0_of 10 = .ok (.if_icmp .ne 10, 3) := dk_160 0 10 (dk_at dksX0_of_0 10 rfl rfl)
theorem dX0_of_13 : decode cX0_of 13 = .ok (.aload_n 0, 1) := dk_42 (dk_at dksX0_of_0 13 rfl rfl)
theorem dX0_of_14 : decode cX0_of 14 = .ok (.checkcast 250, 3) := dk_192 0 250 (dk_at dksX0_of_0 14 rfl rfl)
theorem dX0_of_17 : decode cX0_of 17 = .ok (.goto 7, 3) := dk_167 0 7 (dk_at dksX0_of_0 17 rfl rfl)
theorem dX0_of_20 : decode cX0_of 20 = .ok (.aload_n 0, 1) := dk_42 (dk_at dksX0_of_0 20 rfl rfl)
theorem dX0_of_21 : decode cX0_of 21 = .ok (.checkcast 253, 3) := dk_192 0 253 (dk_at dksX0_of_0 21 rfl rfl)
theorem dX0_of_24 : decode cX0_of 24 = .ok (.areturn, 1) := dk_176 (dk_at dksX0_of_1 0 rfl rfl)
abbrev cX0_trace : ByteArray := prog_1_method_59_code
def yX0_trace : MethodName := ⟨RX0, "trace", "()I"⟩
theorem dX0_trace_0 : decode cX0_trace 0 = .ok (.aload_n 0, 1) := by decide +kernel
theorem dX0_trace_1 : decode cX0_trace 1 = .ok (.getfield 53, 3) := by decide +kernel
theorem dX0_trace_4 : decode cX0_trace 4 = .ok (.ireturn, 1) := by decide +kernel
abbrev cX0_fault : ByteArray := prog_1_method_60_code
def yX0_fault : MethodName := ⟨RX0, "fault", "()I"⟩
theorem dX0_fault_0 : decode cX0_fault 0 = .ok (.aload_n 0, 1) := by decide +kernel
theorem dX0_fault_1 : decode cX0_fault 1 = .ok (.getfield 47, 3) := by decide +kernel
theorem dX0_fault_4 : decode cX0_fault 4 = .ok (.ireturn, 1) := by decide +kernel
abbrev cX0_told : ByteArray := prog_1_method_61_code
def yX0_told : MethodName := ⟨RX0, "told", "(I)I"⟩
def dkwX0_told_4 : List UInt8 := [180, 0, 130, 172, 42, 180, 0, 152, 172, 16, 254, 172]
abbrev dktX0_told_4 : List UInt8 := dkwX0_told_4 ++ []
def dkwX0_told_3 : List UInt8 := [172, 42, 180, 0, 37, 185, 0, 56, 1, 0, 172, 42, 180, 0, 40, 185, 0, 56, 1, 0, 172, 42]
abbrev dktX0_told_3 : List UInt8 := dkwX0_told_3 ++ dktX0_told_4
def dkwX0_told_2 : List UInt8 := [42, 180, 0, 12, 185, 0, 56, 1, 0, 172, 42, 180, 0, 127, 172, 42, 180, 0, 170, 172, 42, 180, 0, 173]
abbrev dktX0_told_2 : List UInt8 := dkwX0_told_2 ++ dktX0_told_3
def dkwX0_told_1 : List UInt8 := [170, 0, 0, 0, 0, 0, 102, 0, 0, 0, 0, 0, 0, 0, 7, 0, 0, 0, 47, 0, 0, 0, 57, 0, 0, 0, 62, 0, 0, 0, 67, 0, 0, 0, 72, 0, 0, 0, 82, 0, 0, 0, 92, 0, 0, 0, 97]
abbrev dktX0_told_1 : List UInt8 := dkwX0_told_1 ++ dktX0_told_2
def dkwX0_told_0 : List UInt8 := [27]
abbrev dktX0_told_0 : List UInt8 := dkwX0_told_0 ++ dktX0_told_1
theorem dksX0_told_0 : cX0_told.data.toList.drop 0 = dktX0_told_0 := by decide +kernel
theorem dksX0_told_1 : cX0_told.data.toList.drop 1 = dktX0_told_1 := dk_seg dksX0_told_0 1 rfl rfl
theorem dksX0_told_2 : cX0_told.data.toList.drop 48 = dktX0_told_2 := dk_seg dksX0_told_1 47 rfl rfl
theorem dksX0_told_3 : cX0_told.data.toList.drop 72 = dktX0_told_3 := dk_seg dksX0_told_2 24 rfl rfl
theorem dksX0_told_4 : cX0_told.data.toList.drop 94 = dktX0_told_4 := dk_seg dksX0_told_3 22 rfl rfl
theorem dX0_told_0 : decode cX0_told 0 = .ok (.iload_n 1, 1) := dk_27 (dk_at dksX0_told_0 0 rfl rfl)
theorem dX0_told_1 : decode cX0_told 1 = .ok (.tableswitch 102 0 7 #[47, 57, 62, 67, 72, 82, 92, 97], 47) := by decide +kernel
theorem dX0_told_48 : decode cX0_told 48 = .ok (.aload_n 0, 1) := dk_42 (dk_at dksX0_told_2 0 rfl rfl)
theorem dX0_told_49 : decode cX0_told 49 = .ok (.getfield 12, 3) := dk_180 0 12 (dk_at dksX0_told_2 1 rfl rfl)
theorem dX0_told_52 : decode cX0_told 52 = .ok (.invokeinterface 56 1, 5) := by decide +kernel
theorem dX0_told_57 : decode cX0_told 57 = .ok (.ireturn, 1) := dk_172 (dk_at dksX0_told_2 9 rfl rfl)
theorem dX0_told_58 : decode cX0_told 58 = .ok (.aload_n 0, 1) := dk_42 (dk_at dksX0_told_2 10 rfl rfl)
theorem dX0_told_59 : decode cX0_told 59 = .ok (.getfield 127, 3) := dk_180 0 127 (dk_at dksX0_told_2 11 rfl rfl)
theorem dX0_told_62 : decode cX0_told 62 = .ok (.ireturn, 1) := dk_172 (dk_at dksX0_told_2 14 rfl rfl)
theorem dX0_told_63 : decode cX0_told 63 = .ok (.aload_n 0, 1) := dk_42 (dk_at dksX0_told_2 15 rfl rfl)
theorem dX0_told_64 : decode cX0_told 64 = .ok (.getfield 170, 3) := dk_180 0 170 (dk_at dksX0_told_2 16 rfl rfl)
theorem dX0_told_67 : decode cX0_told 67 = .ok (.ireturn, 1) := dk_172 (dk_at dksX0_told_2 19 rfl rfl)
theorem dX0_told_68 : decode cX0_told 68 = .ok (.aload_n 0, 1) := dk_42 (dk_at dksX0_told_2 20 rfl rfl)
theorem dX0_told_69 : decode cX0_told 69 = .ok (.getfield 173, 3) := dk_180 0 173 (dk_at dksX0_told_2 21 rfl rfl)
theorem dX0_told_72 : decode cX0_told 72 = .ok (.ireturn, 1) := dk_172 (dk_at dksX0_told_3 0 rfl rfl)
theorem dX0_told_73 : decode cX0_told 73 = .ok (.aload_n 0, 1) := dk_42 (dk_at dksX0_told_3 1 rfl rfl)
theorem dX0_told_74 : decode cX0_told 74 = .ok (.getfield 37, 3) := dk_180 0 37 (dk_at dksX0_told_3 2 rfl rfl)
theorem dX0_told_77 : decode cX0_told 77 = .ok (.invokeinterface 56 1, 5) := by decide +kernel
theorem dX0_told_82 : decode cX0_told 82 = .ok (.ireturn, 1) := dk_172 (dk_at dksX0_told_3 10 rfl rfl)
theorem dX0_told_83 : decode cX0_told 83 = .ok (.aload_n 0, 1) := dk_42 (dk_at dksX0_told_3 11 rfl rfl)
theorem dX0_told_84 : decode cX0_told 84 = .ok (.getfield 40, 3) := dk_180 0 40 (dk_at dksX0_told_3 12 rfl rfl)
theorem dX0_told_87 : decode cX0_told 87 = .ok (.invokeinterface 56 1, 5) := by decide +kernel
theorem dX0_told_92 : decode cX0_told 92 = .ok (.ireturn, 1) := dk_172 (dk_at dksX0_told_3 20 rfl rfl)
theorem dX0_told_93 : decode cX0_told 93 = .ok (.aload_n 0, 1) := dk_42 (dk_at dksX0_told_3 21 rfl rfl)
theorem dX0_told_94 : decode cX0_told 94 = .ok (.getfield 130, 3) := dk_180 0 130 (dk_at dksX0_told_4 0 rfl rfl)
theorem dX0_told_97 : decode cX0_told 97 = .ok (.ireturn, 1) := dk_172 (dk_at dksX0_told_4 3 rfl rfl)
theorem dX0_told_98 : decode cX0_told 98 = .ok (.aload_n 0, 1) := dk_42 (dk_at dksX0_told_4 4 rfl rfl)
theorem dX0_told_99 : decode cX0_told 99 = .ok (.getfield 152, 3) := dk_180 0 152 (dk_at dksX0_told_4 5 rfl rfl)
theorem dX0_told_102 : decode cX0_told 102 = .ok (.ireturn, 1) := dk_172 (dk_at dksX0_told_4 8 rfl rfl)
theorem dX0_told_103 : decode cX0_told 103 = .ok (.bipush (-2), 2) := dk_16 254 (dk_at dksX0_told_4 9 rfl rfl)
theorem dX0_told_105 : decode cX0_told 105 = .ok (.ireturn, 1) := dk_172 (dk_at dksX0_told_4 11 rfl rfl)
theorem q48 : (Jvm.Cond.initialized "RegularRally") ∈ lw_all := lw_g (lw_at lw_m1 1 rfl) rfl
theorem q78 : (Jvm.Cond.instantiable "RegularRally" (20 : Nat)) ∈ lw_all := lw_g (lw_at lw_m1 31 rfl) rfl
theorem q80 : (Jvm.Cond.instanceMethod ({ cls := "RegularRally", name := "<init>", desc := "()V" } : Jvm.MethodName)) ∈ lw_all := lw_g (lw_at lw_m1 33 rfl) rfl
theorem q81 : (Jvm.Cond.code ({ cls := "RegularRally", name := "<init>", desc := "()V" } : Jvm.MethodName) prog_1_method_1_code (1 : Nat) (Option.none : Option Jvm.ClassFile.FieldType)) ∈ lw_all := lw_g (lw_at lw_m1 34 rfl) rfl
theorem q82 : (Jvm.Cond.methodLink "RegularRally" (3 : Nat) ({ cls := "java/lang/Object", name := "<init>", desc := "()V" } : Jvm.MethodName)) ∈ lw_all := lw_g (lw_at lw_m1 35 rfl) rfl
theorem q85 : (Jvm.Cond.classLink "RegularRally" (9 : Nat) "java/util/ArrayList") ∈ lw_all := lw_g (lw_at lw_m1 38 rfl) rfl
theorem q87 : (Jvm.Cond.methodLink "RegularRally" (11 : Nat) ({ cls := "java/util/ArrayList", name := "<init>", desc := "()V" } : Jvm.MethodName)) ∈ lw_all := lw_g (lw_at lw_m1 40 rfl) rfl
theorem q111 : (Jvm.Cond.classLink "RegularRally" (4 : Nat) "java/lang/Object") ∈ lw_all := lw_g (lw_at lw_m1 64 rfl) rfl
theorem q113 : (Jvm.Cond.fieldLink "RegularRally" (47 : Nat) "RegularRally" "fault" "I") ∈ lw_all := lw_g (lw_at lw_m1 66 rfl) rfl
theorem q114 : (Jvm.Cond.fieldLink "RegularRally" (53 : Nat) "RegularRally" "trace" "I") ∈ lw_all := lw_g (lw_at lw_m1 67 rfl) rfl
theorem q115 : (Jvm.Cond.fieldLink "RegularRally" (12 : Nat) "RegularRally" "roads" "Ljava/util/List;") ∈ lw_all := lw_g (lw_at lw_m1 68 rfl) rfl
theorem q116 : (Jvm.Cond.fieldLink "RegularRally" (18 : Nat) "RegularRally" "book" "[I") ∈ lw_all := lw_g (lw_at lw_m1 69 rfl) rfl
theorem q117 : (Jvm.Cond.fieldLink "RegularRally" (130 : Nat) "RegularRally" "bookMany" "I") ∈ lw_all := lw_g (lw_at lw_m1 70 rfl) rfl
theorem q118 : (Jvm.Cond.fieldLink "RegularRally" (22 : Nat) "RegularRally" "row" "[I") ∈ lw_all := lw_g (lw_at lw_m1 71 rfl) rfl
theorem q119 : (Jvm.Cond.fieldLink "RegularRally" (25 : Nat) "RegularRally" "best" "[I") ∈ lw_all := lw_g (lw_at lw_m1 72 rfl) rfl
theorem q120 : (Jvm.Cond.fieldLink "RegularRally" (133 : Nat) "RegularRally" "bestMany" "I") ∈ lw_all := lw_g (lw_at lw_m1 73 rfl) rfl
theorem q121 : (Jvm.Cond.fieldLink "RegularRally" (136 : Nat) "RegularRally" "bestSum" "J") ∈ lw_all := lw_g (lw_at lw_m1 74 rfl) rfl
theorem q122 : (Jvm.Cond.fieldLink "RegularRally" (140 : Nat) "RegularRally" "found" "I") ∈ lw_all := lw_g (lw_at lw_m1 75 rfl) rfl
theorem q123 : (Jvm.Cond.fieldLink "RegularRally" (152 : Nat) "RegularRally" "trials" "I") ∈ lw_all := lw_g (lw_at lw_m1 76 rfl) rfl
theorem q124 : (Jvm.Cond.fieldLink "RegularRally" (28 : Nat) "RegularRally" "way" "[I") ∈ lw_all := lw_g (lw_at lw_m1 77 rfl) rfl
theorem q125 : (Jvm.Cond.fieldLink "RegularRally" (127 : Nat) "RegularRally" "laidMany" "I") ∈ lw_all := lw_g (lw_at lw_m1 78 rfl) rfl
theorem q126 : (Jvm.Cond.fieldLink "RegularRally" (170 : Nat) "RegularRally" "metres" "I") ∈ lw_all := lw_g (lw_at lw_m1 79 rfl) rfl
theorem q127 : (Jvm.Cond.fieldLink "RegularRally" (31 : Nat) "RegularRally" "speedFrom" "[I") ∈ lw_all := lw_g (lw_at lw_m1 80 rfl) rfl
theorem q128 : (Jvm.Cond.fieldLink "RegularRally" (34 : Nat) "RegularRally" "speedOf" "[I") ∈ lw_all := lw_g (lw_at lw_m1 81 rfl) rfl
theorem q129 : (Jvm.Cond.fieldLink "RegularRally" (173 : Nat) "RegularRally" "speedMany" "I") ∈ lw_all := lw_g (lw_at lw_m1 82 rfl) rfl
theorem q130 : (Jvm.Cond.fieldLink "RegularRally" (37 : Nat) "RegularRally" "controls" "Ljava/util/List;") ∈ lw_all := lw_g (lw_at lw_m1 83 rfl) rfl
theorem q132 : (Jvm.Cond.fieldLink "RegularRally" (40 : Nat) "RegularRally" "cars" "Ljava/util/List;") ∈ lw_all := lw_g (lw_at lw_m1 85 rfl) rfl
theorem q133 : (Jvm.Cond.fieldLink "RegularRally" (43 : Nat) "RegularRally" "sheets" "[Ljava/lang/Object;") ∈ lw_all := lw_g (lw_at lw_m1 86 rfl) rfl
theorem q134 : (Jvm.Cond.lays "RegularRally" "RegularRally" "fault" "I") ∈ lw_all := lw_g (lw_at lw_m1 87 rfl) rfl
theorem q135 : (Jvm.Cond.soleField "RegularRally" "fault") ∈ lw_all := lw_g (lw_at lw_m1 88 rfl) rfl
theorem q136 : (Jvm.Cond.lays "RegularRally" "RegularRally" "trace" "I") ∈ lw_all := lw_g (lw_at lw_m1 89 rfl) rfl
theorem q137 : (Jvm.Cond.soleField "RegularRally" "trace") ∈ lw_all := lw_g (lw_at lw_m1 90 rfl) rfl
theorem q138 : (Jvm.Cond.laysFinal "RegularRally" "RegularRally" "roads" "Ljava/util/List;") ∈ lw_all := lw_g (lw_at lw_m1 91 rfl) rfl
theorem q139 : (Jvm.Cond.soleField "RegularRally" "roads") ∈ lw_all := lw_g (lw_at lw_m1 92 rfl) rfl
theorem q140 : (Jvm.Cond.laysFinal "RegularRally" "RegularRally" "book" "[I") ∈ lw_all := lw_g (lw_at lw_m1 93 rfl) rfl
theorem q141 : (Jvm.Cond.soleField "RegularRally" "book") ∈ lw_all := lw_g (lw_at lw_m1 94 rfl) rfl
theorem q142 : (Jvm.Cond.lays "RegularRally" "RegularRally" "bookMany" "I") ∈ lw_all := lw_g (lw_at lw_m1 95 rfl) rfl
theorem q143 : (Jvm.Cond.soleField "RegularRally" "bookMany") ∈ lw_all := lw_g (lw_at lw_m1 96 rfl) rfl
theorem q144 : (Jvm.Cond.laysFinal "RegularRally" "RegularRally" "row" "[I") ∈ lw_all := lw_g (lw_at lw_m1 97 rfl) rfl
theorem q145 : (Jvm.Cond.soleField "RegularRally" "row") ∈ lw_all := lw_g (lw_at lw_m1 98 rfl) rfl
theorem q146 : (Jvm.Cond.laysFinal "RegularRally" "RegularRally" "best" "[I") ∈ lw_all := lw_g (lw_at lw_m1 99 rfl) rfl
theorem q147 : (Jvm.Cond.soleField "RegularRally" "best") ∈ lw_all := lw_g (lw_at lw_m1 100 rfl) rfl
theorem q148 : (Jvm.Cond.lays "RegularRally" "RegularRally" "bestMany" "I") ∈ lw_all := lw_g (lw_at lw_m1 101 rfl) rfl
theorem q149 : (Jvm.Cond.soleField "RegularRally" "bestMany") ∈ lw_all := lw_g (lw_at lw_m1 102 rfl) rfl
theorem q150 : (Jvm.Cond.lays "RegularRally" "RegularRally" "bestSum" "J") ∈ lw_all := lw_g (lw_at lw_m1 103 rfl) rfl
theorem q151 : (Jvm.Cond.soleField "RegularRally" "bestSum") ∈ lw_all := lw_g (lw_at lw_m1 104 rfl) rfl
theorem q152 : (Jvm.Cond.lays "RegularRally" "RegularRally" "found" "I") ∈ lw_all := lw_g (lw_at lw_m1 105 rfl) rfl
theorem q153 : (Jvm.Cond.soleField "RegularRally" "found") ∈ lw_all := lw_g (lw_at lw_m1 106 rfl) rfl
theorem q154 : (Jvm.Cond.lays "RegularRally" "RegularRally" "trials" "I") ∈ lw_all := lw_g (lw_at lw_m1 107 rfl) rfl
theorem q155 : (Jvm.Cond.soleField "RegularRally" "trials") ∈ lw_all := lw_g (lw_at lw_m1 108 rfl) rfl
theorem q156 : (Jvm.Cond.laysFinal "RegularRally" "RegularRally" "way" "[I") ∈ lw_all := lw_g (lw_at lw_m1 109 rfl) rfl
theorem q157 : (Jvm.Cond.soleField "RegularRally" "way") ∈ lw_all := lw_g (lw_at lw_m1 110 rfl) rfl
theorem q158 : (Jvm.Cond.lays "RegularRally" "RegularRally" "laidMany" "I") ∈ lw_all := lw_g (lw_at lw_m1 111 rfl) rfl
theorem q159 : (Jvm.Cond.soleField "RegularRally" "laidMany") ∈ lw_all := lw_g (lw_at lw_m1 112 rfl) rfl
theorem q160 : (Jvm.Cond.lays "RegularRally" "RegularRally" "metres" "I") ∈ lw_all := lw_g (lw_at lw_m1 113 rfl) rfl
theorem q161 : (Jvm.Cond.soleField "RegularRally" "metres") ∈ lw_all := lw_g (lw_at lw_m1 114 rfl) rfl
theorem q162 : (Jvm.Cond.laysFinal "RegularRally" "RegularRally" "speedFrom" "[I") ∈ lw_all := lw_g (lw_at lw_m1 115 rfl) rfl
theorem q163 : (Jvm.Cond.soleField "RegularRally" "speedFrom") ∈ lw_all := lw_g (lw_at lw_m1 116 rfl) rfl
theorem q164 : (Jvm.Cond.laysFinal "RegularRally" "RegularRally" "speedOf" "[I") ∈ lw_all := lw_g (lw_at lw_m1 117 rfl) rfl
theorem q165 : (Jvm.Cond.soleField "RegularRally" "speedOf") ∈ lw_all := lw_g (lw_at lw_m1 118 rfl) rfl
theorem q166 : (Jvm.Cond.lays "RegularRally" "RegularRally" "speedMany" "I") ∈ lw_all := lw_g (lw_at lw_m1 119 rfl) rfl
theorem q167 : (Jvm.Cond.soleField "RegularRally" "speedMany") ∈ lw_all := lw_g (lw_at lw_m1 120 rfl) rfl
theorem q168 : (Jvm.Cond.laysFinal "RegularRally" "RegularRally" "controls" "Ljava/util/List;") ∈ lw_all := lw_g (lw_at lw_m1 121 rfl) rfl
theorem q169 : (Jvm.Cond.soleField "RegularRally" "controls") ∈ lw_all := lw_g (lw_at lw_m1 122 rfl) rfl
theorem q170 : (Jvm.Cond.laysFinal "RegularRally" "RegularRally" "cars" "Ljava/util/List;") ∈ lw_all := lw_g (lw_at lw_m1 123 rfl) rfl
theorem q171 : (Jvm.Cond.soleField "RegularRally" "cars") ∈ lw_all := lw_g (lw_at lw_m1 124 rfl) rfl
theorem q172 : (Jvm.Cond.laysFinal "RegularRally" "RegularRally" "sheets" "[Ljava/lang/Object;") ∈ lw_all := lw_g (lw_at lw_m1 125 rfl) rfl
theorem q173 : (Jvm.Cond.soleField "RegularRally" "sheets") ∈ lw_all := lw_g (lw_at lw_m1 126 rfl) rfl
theorem q174 : (Jvm.Cond.superclass "RegularRally" "java/lang/Object") ∈ lw_all := lw_g (lw_at lw_m1 127 rfl) rfl
theorem q177 : (Jvm.Cond.instanceMethod ({ cls := "RegularRally", name := "road", desc := "(IIII)I" } : Jvm.MethodName)) ∈ lw_all := lw_g (lw_at lw_m1 130 rfl) rfl
theorem q178 : (Jvm.Cond.selects "RegularRally" ({ cls := "RegularRally", name := "road", desc := "(IIII)I" } : Jvm.MethodName) ({ cls := "RegularRally", name := "road", desc := "(IIII)I" } : Jvm.MethodName)) ∈ lw_all := lw_g (lw_at lw_m1 131 rfl) rfl
theorem q179 : (Jvm.Cond.code ({ cls := "RegularRally", name := "road", desc := "(IIII)I" } : Jvm.MethodName) prog_1_method_8_code (5 : Nat) (Option.some Jvm.ClassFile.FieldType.int)) ∈ lw_all := lw_g (lw_at lw_m1 132 rfl) rfl
theorem q180 : (Jvm.Cond.methodLink "RegularRally" (68 : Nat) ({ cls := "RegularRally", name := "isSpot", desc := "(I)Z" } : Jvm.MethodName)) ∈ lw_all := lw_g (lw_at lw_m1 133 rfl) rfl
theorem q181 : (Jvm.Cond.static ({ cls := "RegularRally", name := "isSpot", desc := "(I)Z" } : Jvm.MethodName)) ∈ lw_all := lw_g (lw_at lw_m1 134 rfl) rfl
theorem q182 : (Jvm.Cond.code ({ cls := "RegularRally", name := "isSpot", desc := "(I)Z" } : Jvm.MethodName) prog_1_method_7_code (1 : Nat) (Option.some Jvm.ClassFile.FieldType.boolean)) ∈ lw_all := lw_g (lw_at lw_m1 135 rfl) rfl
theorem q183 : (Jvm.Cond.constantLong "RegularRally" (66 : Nat) (9 : Int64)) ∈ lw_all := lw_g (lw_at lw_m1 136 rfl) rfl
theorem q184 : (Jvm.Cond.methodLink "RegularRally" (62 : Nat) ({ cls := "RegularRally", name := "isIn", desc := "(JJJ)Z" } : Jvm.MethodName)) ∈ lw_all := lw_g (lw_at lw_m1 137 rfl) rfl
theorem q185 : (Jvm.Cond.static ({ cls := "RegularRally", name := "isIn", desc := "(JJJ)Z" } : Jvm.MethodName)) ∈ lw_all := lw_g (lw_at lw_m1 138 rfl) rfl
theorem q186 : (Jvm.Cond.code ({ cls := "RegularRally", name := "isIn", desc := "(JJJ)Z" } : Jvm.MethodName) prog_1_method_2_code (6 : Nat) (Option.some Jvm.ClassFile.FieldType.boolean)) ∈ lw_all := lw_g (lw_at lw_m1 139 rfl) rfl
theorem q187 : (Jvm.Cond.constantLong "RegularRally" (72 : Nat) (20000 : Int64)) ∈ lw_all := lw_g (lw_at lw_m1 140 rfl) rfl
theorem q188 : (Jvm.Cond.constantLong "RegularRally" (74 : Nat) (2 : Int64)) ∈ lw_all := lw_g (lw_at lw_m1 141 rfl) rfl
theorem q189 : (Jvm.Cond.interfaceEntry "RegularRally" (56 : Nat)) ∈ lw_tbl := lw_at lw_m1 142 rfl
theorem q190 : (Jvm.Cond.methodLink "RegularRally" (56 : Nat) ({ cls := "java/util/List", name := "size", desc := "()I" } : Jvm.MethodName)) ∈ lw_all := lw_g (lw_at lw_m1 143 rfl) rfl
theorem q199 : (Jvm.Cond.classLink "RegularRally" (76 : Nat) "RegularRally$Road") ∈ lw_all := lw_g (lw_at lw_m1 152 rfl) rfl
theorem q201 : (Jvm.Cond.methodLink "RegularRally" (78 : Nat) ({ cls := "RegularRally$Road", name := "<init>", desc := "(LRegularRally;III)V" } : Jvm.MethodName)) ∈ lw_all := lw_g (lw_at lw_m1 154 rfl) rfl
theorem q206 : (Jvm.Cond.fieldLink "RegularRally" (111 : Nat) "RegularRally$Road" "a" "I") ∈ lw_all := lw_g (lw_at lw_m1 159 rfl) rfl
theorem q210 : (Jvm.Cond.fieldLink "RegularRally" (114 : Nat) "RegularRally$Road" "b" "I") ∈ lw_all := lw_g (lw_at lw_m1 163 rfl) rfl
theorem q212 : (Jvm.Cond.fieldLink "RegularRally" (117 : Nat) "RegularRally$Road" "length" "I") ∈ lw_all := lw_g (lw_at lw_m1 165 rfl) rfl
theorem q214 : (Jvm.Cond.fieldLinkNest "RegularRally" (98 : Nat) "RegularRally$Road" "isShut" "Z" "RegularRally") ∈ lw_tbl := lw_at lw_m1 167 rfl
theorem q227 : (Jvm.Cond.classLink "RegularRally" (81 : Nat) "RegularRally$OneWay") ∈ lw_all := lw_g (lw_at lw_m1 180 rfl) rfl
theorem q229 : (Jvm.Cond.methodLink "RegularRally" (83 : Nat) ({ cls := "RegularRally$OneWay", name := "<init>", desc := "(LRegularRally;III)V" } : Jvm.MethodName)) ∈ lw_all := lw_g (lw_at lw_m1 182 rfl) rfl
theorem q242 : (Jvm.Cond.classLink "RegularRally" (84 : Nat) "RegularRally$Ford") ∈ lw_all := lw_g (lw_at lw_m1 195 rfl) rfl
theorem q244 : (Jvm.Cond.methodLink "RegularRally" (86 : Nat) ({ cls := "RegularRally$Ford", name := "<init>", desc := "(LRegularRally;III)V" } : Jvm.MethodName)) ∈ lw_all := lw_g (lw_at lw_m1 197 rfl) rfl
theorem q249 : (Jvm.Cond.fieldLinkNest "RegularRally" (102 : Nat) "RegularRally$Ford" "isWet" "Z" "RegularRally") ∈ lw_tbl := lw_at lw_m1 202 rfl
theorem q261 : (Jvm.Cond.interfaceEntry "RegularRally" (87 : Nat)) ∈ lw_tbl := lw_at lw_m1 214 rfl
theorem q262 : (Jvm.Cond.methodLink "RegularRally" (87 : Nat) ({ cls := "java/util/List", name := "add", desc := "(Ljava/lang/Object;)Z" } : Jvm.MethodName)) ∈ lw_all := lw_g (lw_at lw_m1 215 rfl) rfl
theorem q298 : (Jvm.Cond.selects "RegularRally" ({ cls := "java/lang/Object", name := "getClass", desc := "()Ljava/lang/Class;" } : Jvm.MethodName) ({ cls := "java/lang/Object", name := "getClass", desc := "()Ljava/lang/Class;" } : Jvm.MethodName)) ∈ lw_all := lw_g (lw_at lw_m2 11 rfl) rfl
theorem q329 : (Jvm.Cond.instanceMethod ({ cls := "RegularRally", name := "shut", desc := "(IZ)I" } : Jvm.MethodName)) ∈ lw_all := lw_g (lw_at lw_m2 42 rfl) rfl
theorem q330 : (Jvm.Cond.selects "RegularRally" ({ cls := "RegularRally", name := "shut", desc := "(IZ)I" } : Jvm.MethodName) ({ cls := "RegularRally", name := "shut", desc := "(IZ)I" } : Jvm.MethodName)) ∈ lw_all := lw_g (lw_at lw_m2 43 rfl) rfl
theorem q331 : (Jvm.Cond.code ({ cls := "RegularRally", name := "shut", desc := "(IZ)I" } : Jvm.MethodName) prog_1_method_9_code (5 : Nat) (Option.some Jvm.ClassFile.FieldType.int)) ∈ lw_all := lw_g (lw_at lw_m2 44 rfl) rfl
theorem q332 : (Jvm.Cond.methodLink "RegularRally" (91 : Nat) ({ cls := "RegularRally", name := "isRoad", desc := "(I)Z" } : Jvm.MethodName)) ∈ lw_all := lw_g (lw_at lw_m2 45 rfl) rfl
theorem q333 : (Jvm.Cond.privateMethod ({ cls := "RegularRally", name := "isRoad", desc := "(I)Z" } : Jvm.MethodName)) ∈ lw_tbl := lw_at lw_m2 46 rfl
theorem q334 : (Jvm.Cond.instanceMethod ({ cls := "RegularRally", name := "isRoad", desc := "(I)Z" } : Jvm.MethodName)) ∈ lw_all := lw_g (lw_at lw_m2 47 rfl) rfl
theorem q335 : (Jvm.Cond.code ({ cls := "RegularRally", name := "isRoad", desc := "(I)Z" } : Jvm.MethodName) prog_1_method_6_code (2 : Nat) (Option.some Jvm.ClassFile.FieldType.boolean)) ∈ lw_all := lw_g (lw_at lw_m2 48 rfl) rfl
theorem q336 : (Jvm.Cond.interfaceEntry "RegularRally" (94 : Nat)) ∈ lw_tbl := lw_at lw_m2 49 rfl
theorem q337 : (Jvm.Cond.methodLink "RegularRally" (94 : Nat) ({ cls := "java/util/List", name := "get", desc := "(I)Ljava/lang/Object;" } : Jvm.MethodName)) ∈ lw_all := lw_g (lw_at lw_m2 50 rfl) rfl
theorem q356 : (Jvm.Cond.instanceMethod ({ cls := "RegularRally", name := "wet", desc := "(IZ)I" } : Jvm.MethodName)) ∈ lw_all := lw_g (lw_at lw_m2 69 rfl) rfl
theorem q357 : (Jvm.Cond.selects "RegularRally" ({ cls := "RegularRally", name := "wet", desc := "(IZ)I" } : Jvm.MethodName) ({ cls := "RegularRally", name := "wet", desc := "(IZ)I" } : Jvm.MethodName)) ∈ lw_all := lw_g (lw_at lw_m2 70 rfl) rfl
theorem q358 : (Jvm.Cond.codeWith ({ cls := "RegularRally", name := "wet", desc := "(IZ)I" } : Jvm.MethodName) prog_1_method_10_code (5 : Nat) (Option.some Jvm.ClassFile.FieldType.int) [((15 : Nat), (51 : Nat), (52 : Nat), (105 : Nat))]) ∈ lw_all := lw_g (lw_at lw_m2 71 rfl) rfl
theorem q359 : (Jvm.Cond.classLink "RegularRally" (105 : Nat) "java/lang/ClassCastException") ∈ lw_all := lw_g (lw_at lw_m2 72 rfl) rfl
theorem q446 : (Jvm.Cond.methodLink "RegularRally" (107 : Nat) ({ cls := "RegularRally", name := "faulty", desc := "(I)I" } : Jvm.MethodName)) ∈ lw_all := lw_g (lw_at lw_m2 159 rfl) rfl
theorem q447 : (Jvm.Cond.privateMethod ({ cls := "RegularRally", name := "faulty", desc := "(I)I" } : Jvm.MethodName)) ∈ lw_tbl := lw_at lw_m2 160 rfl
theorem q448 : (Jvm.Cond.instanceMethod ({ cls := "RegularRally", name := "faulty", desc := "(I)I" } : Jvm.MethodName)) ∈ lw_all := lw_g (lw_at lw_m2 161 rfl) rfl
theorem q449 : (Jvm.Cond.code ({ cls := "RegularRally", name := "faulty", desc := "(I)I" } : Jvm.MethodName) prog_1_method_3_code (2 : Nat) (Option.some Jvm.ClassFile.FieldType.int)) ∈ lw_all := lw_g (lw_at lw_m2 162 rfl) rfl
theorem q451 : (Jvm.Cond.instanceMethod ({ cls := "RegularRally", name := "about", desc := "(II)I" } : Jvm.MethodName)) ∈ lw_all := lw_g (lw_at lw_m2 164 rfl) rfl
theorem q452 : (Jvm.Cond.selects "RegularRally" ({ cls := "RegularRally", name := "about", desc := "(II)I" } : Jvm.MethodName) ({ cls := "RegularRally", name := "about", desc := "(II)I" } : Jvm.MethodName)) ∈ lw_all := lw_g (lw_at lw_m2 165 rfl) rfl
theorem q453 : (Jvm.Cond.code ({ cls := "RegularRally", name := "about", desc := "(II)I" } : Jvm.MethodName) prog_1_method_11_code (5 : Nat) (Option.some Jvm.ClassFile.FieldType.int)) ∈ lw_all := lw_g (lw_at lw_m2 166 rfl) rfl
theorem q454 : (Jvm.Cond.methodLink "RegularRally" (120 : Nat) ({ cls := "RegularRally$Road", name := "kind", desc := "()I" } : Jvm.MethodName)) ∈ lw_all := lw_g (lw_at lw_m2 167 rfl) rfl
theorem q465 : (Jvm.Cond.methodLink "RegularRally" (123 : Nat) ({ cls := "RegularRally$Road", name := "isOpen", desc := "()Z" } : Jvm.MethodName)) ∈ lw_all := lw_g (lw_at lw_m2 178 rfl) rfl
theorem q476 : (Jvm.Cond.instanceMethod ({ cls := "RegularRally", name := "ways", desc := "()I" } : Jvm.MethodName)) ∈ lw_all := lw_g (lw_at lw_m2 189 rfl) rfl
theorem q477 : (Jvm.Cond.selects "RegularRally" ({ cls := "RegularRally", name := "ways", desc := "()I" } : Jvm.MethodName) ({ cls := "RegularRally", name := "ways", desc := "()I" } : Jvm.MethodName)) ∈ lw_all := lw_g (lw_at lw_m2 190 rfl) rfl
theorem q478 : (Jvm.Cond.codeWith ({ cls := "RegularRally", name := "ways", desc := "()I" } : Jvm.MethodName) prog_1_method_15_code (2 : Nat) (Option.some Jvm.ClassFile.FieldType.int) [((10 : Nat), (18 : Nat), (19 : Nat), (156 : Nat))]) ∈ lw_all := lw_g (lw_at lw_m2 191 rfl) rfl
theorem q479 : (Jvm.Cond.classLink "RegularRally" (156 : Nat) "RegularRally$Spent") ∈ lw_all := lw_g (lw_at lw_m2 192 rfl) rfl
theorem q480 : (Jvm.Cond.methodLink "RegularRally" (167 : Nat) ({ cls := "RegularRally", name := "search", desc := "()V" } : Jvm.MethodName)) ∈ lw_all := lw_g (lw_at lw_m2 193 rfl) rfl
theorem q481 : (Jvm.Cond.privateMethod ({ cls := "RegularRally", name := "search", desc := "()V" } : Jvm.MethodName)) ∈ lw_tbl := lw_at lw_m2 194 rfl
theorem q482 : (Jvm.Cond.instanceMethod ({ cls := "RegularRally", name := "search", desc := "()V" } : Jvm.MethodName)) ∈ lw_all := lw_g (lw_at lw_m2 195 rfl) rfl
theorem q483 : (Jvm.Cond.code ({ cls := "RegularRally", name := "search", desc := "()V" } : Jvm.MethodName) prog_1_method_14_code (1 : Nat) (Option.none : Option Jvm.ClassFile.FieldType)) ∈ lw_all := lw_g (lw_at lw_m2 196 rfl) rfl
theorem q484 : (Jvm.Cond.methodLink "RegularRally" (163 : Nat) ({ cls := "RegularRally", name := "goOn", desc := "(IIIIJ)V" } : Jvm.MethodName)) ∈ lw_all := lw_g (lw_at lw_m2 197 rfl) rfl
theorem q485 : (Jvm.Cond.privateMethod ({ cls := "RegularRally", name := "goOn", desc := "(IIIIJ)V" } : Jvm.MethodName)) ∈ lw_tbl := lw_at lw_m2 198 rfl
theorem q486 : (Jvm.Cond.instanceMethod ({ cls := "RegularRally", name := "goOn", desc := "(IIIIJ)V" } : Jvm.MethodName)) ∈ lw_all := lw_g (lw_at lw_m2 199 rfl) rfl
theorem q487 : (Jvm.Cond.code ({ cls := "RegularRally", name := "goOn", desc := "(IIIIJ)V" } : Jvm.MethodName) prog_1_method_13_code (10 : Nat) (Option.none : Option Jvm.ClassFile.FieldType)) ∈ lw_all := lw_g (lw_at lw_m2 200 rfl) rfl
theorem q488 : (Jvm.Cond.methodLink "RegularRally" (143 : Nat) ({ cls := "java/lang/System", name := "arraycopy", desc := "(Ljava/lang/Object;ILjava/lang/Object;II)V" } : Jvm.MethodName)) ∈ lw_all := lw_g (lw_at lw_m2 201 rfl) rfl
theorem q489 : (Jvm.Cond.methodLink "RegularRally" (149 : Nat) ({ cls := "RegularRally$Road", name := "from", desc := "(I)I" } : Jvm.MethodName)) ∈ lw_all := lw_g (lw_at lw_m2 202 rfl) rfl
theorem q500 : (Jvm.Cond.constant "RegularRally" (155 : Nat) (60000 : Int32)) ∈ lw_all := lw_g (lw_at lw_m2 213 rfl) rfl
theorem q509 : (Jvm.Cond.methodLink "RegularRally" (158 : Nat) ({ cls := "RegularRally$Spent", name := "<init>", desc := "()V" } : Jvm.MethodName)) ∈ lw_all := lw_g (lw_at lw_m2 222 rfl) rfl
theorem q521 : (Jvm.Cond.methodLink "RegularRally" (159 : Nat) ({ cls := "RegularRally", name := "metAt", desc := "(II)I" } : Jvm.MethodName)) ∈ lw_all := lw_g (lw_at lw_m2 234 rfl) rfl
theorem q522 : (Jvm.Cond.privateMethod ({ cls := "RegularRally", name := "metAt", desc := "(II)I" } : Jvm.MethodName)) ∈ lw_tbl := lw_at lw_m2 235 rfl
theorem q523 : (Jvm.Cond.instanceMethod ({ cls := "RegularRally", name := "metAt", desc := "(II)I" } : Jvm.MethodName)) ∈ lw_all := lw_g (lw_at lw_m2 236 rfl) rfl
theorem q524 : (Jvm.Cond.code ({ cls := "RegularRally", name := "metAt", desc := "(II)I" } : Jvm.MethodName) prog_1_method_12_code (3 : Nat) (Option.some Jvm.ClassFile.FieldType.int)) ∈ lw_all := lw_g (lw_at lw_m2 237 rfl) rfl
theorem q526 : (Jvm.Cond.instanceMethod ({ cls := "RegularRally", name := "lay", desc := "()I" } : Jvm.MethodName)) ∈ lw_all := lw_g (lw_at lw_m2 239 rfl) rfl
theorem q527 : (Jvm.Cond.selects "RegularRally" ({ cls := "RegularRally", name := "lay", desc := "()I" } : Jvm.MethodName) ({ cls := "RegularRally", name := "lay", desc := "()I" } : Jvm.MethodName)) ∈ lw_all := lw_g (lw_at lw_m3 0 rfl) rfl
theorem q528 : (Jvm.Cond.codeWith ({ cls := "RegularRally", name := "lay", desc := "()I" } : Jvm.MethodName) prog_1_method_16_code (2 : Nat) (Option.some Jvm.ClassFile.FieldType.int) [((10 : Nat), (14 : Nat), (17 : Nat), (156 : Nat))]) ∈ lw_all := lw_g (lw_at lw_m3 1 rfl) rfl
theorem q529 : (Jvm.Cond.interfaceEntry "RegularRally" (176 : Nat)) ∈ lw_tbl := lw_at lw_m3 2 rfl
theorem q530 : (Jvm.Cond.methodLink "RegularRally" (176 : Nat) ({ cls := "java/util/List", name := "clear", desc := "()V" } : Jvm.MethodName)) ∈ lw_all := lw_g (lw_at lw_m3 3 rfl) rfl
theorem q538 : (Jvm.Cond.classLink "RegularRally" (179 : Nat) "RegularRally$Car") ∈ lw_all := lw_g (lw_at lw_m3 11 rfl) rfl
theorem q539 : (Jvm.Cond.methodLink "RegularRally" (181 : Nat) ({ cls := "RegularRally$Car", name := "forget", desc := "()V" } : Jvm.MethodName)) ∈ lw_all := lw_g (lw_at lw_m3 12 rfl) rfl
theorem q547 : (Jvm.Cond.instanceMethod ({ cls := "RegularRally", name := "laid", desc := "(I)I" } : Jvm.MethodName)) ∈ lw_all := lw_g (lw_at lw_m3 20 rfl) rfl
theorem q548 : (Jvm.Cond.selects "RegularRally" ({ cls := "RegularRally", name := "laid", desc := "(I)I" } : Jvm.MethodName) ({ cls := "RegularRally", name := "laid", desc := "(I)I" } : Jvm.MethodName)) ∈ lw_all := lw_g (lw_at lw_m3 21 rfl) rfl
theorem q549 : (Jvm.Cond.code ({ cls := "RegularRally", name := "laid", desc := "(I)I" } : Jvm.MethodName) prog_1_method_17_code (2 : Nat) (Option.some Jvm.ClassFile.FieldType.int)) ∈ lw_all := lw_g (lw_at lw_m3 22 rfl) rfl
theorem q551 : (Jvm.Cond.instanceMethod ({ cls := "RegularRally", name := "speed", desc := "(II)I" } : Jvm.MethodName)) ∈ lw_all := lw_g (lw_at lw_m3 24 rfl) rfl
theorem q552 : (Jvm.Cond.selects "RegularRally" ({ cls := "RegularRally", name := "speed", desc := "(II)I" } : Jvm.MethodName) ({ cls := "RegularRally", name := "speed", desc := "(II)I" } : Jvm.MethodName)) ∈ lw_all := lw_g (lw_at lw_m3 25 rfl) rfl
theorem q553 : (Jvm.Cond.code ({ cls := "RegularRally", name := "speed", desc := "(II)I" } : Jvm.MethodName) prog_1_method_19_code (3 : Nat) (Option.some Jvm.ClassFile.FieldType.int)) ∈ lw_all := lw_g (lw_at lw_m3 26 rfl) rfl
theorem q554 : (Jvm.Cond.constantLong "RegularRally" (190 : Nat) (3000 : Int64)) ∈ lw_all := lw_g (lw_at lw_m3 27 rfl) rfl
theorem q556 : (Jvm.Cond.instanceMethod ({ cls := "RegularRally", name := "due", desc := "(I)J" } : Jvm.MethodName)) ∈ lw_all := lw_g (lw_at lw_m3 29 rfl) rfl
theorem q557 : (Jvm.Cond.selects "RegularRally" ({ cls := "RegularRally", name := "due", desc := "(I)J" } : Jvm.MethodName) ({ cls := "RegularRally", name := "due", desc := "(I)J" } : Jvm.MethodName)) ∈ lw_all := lw_g (lw_at lw_m3 30 rfl) rfl
theorem q558 : (Jvm.Cond.code ({ cls := "RegularRally", name := "due", desc := "(I)J" } : Jvm.MethodName) prog_1_method_24_code (2 : Nat) (Option.some Jvm.ClassFile.FieldType.long)) ∈ lw_all := lw_g (lw_at lw_m3 31 rfl) rfl
theorem q559 : (Jvm.Cond.methodLink "RegularRally" (205 : Nat) ({ cls := "RegularRally", name := "isTimed", desc := "()Z" } : Jvm.MethodName)) ∈ lw_all := lw_g (lw_at lw_m3 32 rfl) rfl
theorem q560 : (Jvm.Cond.privateMethod ({ cls := "RegularRally", name := "isTimed", desc := "()Z" } : Jvm.MethodName)) ∈ lw_tbl := lw_at lw_m3 33 rfl
theorem q561 : (Jvm.Cond.instanceMethod ({ cls := "RegularRally", name := "isTimed", desc := "()Z" } : Jvm.MethodName)) ∈ lw_all := lw_g (lw_at lw_m3 34 rfl) rfl
theorem q562 : (Jvm.Cond.code ({ cls := "RegularRally", name := "isTimed", desc := "()Z" } : Jvm.MethodName) prog_1_method_22_code (1 : Nat) (Option.some Jvm.ClassFile.FieldType.boolean)) ∈ lw_all := lw_g (lw_at lw_m3 35 rfl) rfl
theorem q563 : (Jvm.Cond.methodLink "RegularRally" (197 : Nat) ({ cls := "RegularRally", name := "speedAt", desc := "(I)I" } : Jvm.MethodName)) ∈ lw_all := lw_g (lw_at lw_m3 36 rfl) rfl
theorem q564 : (Jvm.Cond.privateMethod ({ cls := "RegularRally", name := "speedAt", desc := "(I)I" } : Jvm.MethodName)) ∈ lw_tbl := lw_at lw_m3 37 rfl
theorem q565 : (Jvm.Cond.instanceMethod ({ cls := "RegularRally", name := "speedAt", desc := "(I)I" } : Jvm.MethodName)) ∈ lw_all := lw_g (lw_at lw_m3 38 rfl) rfl
theorem q566 : (Jvm.Cond.code ({ cls := "RegularRally", name := "speedAt", desc := "(I)I" } : Jvm.MethodName) prog_1_method_20_code (4 : Nat) (Option.some Jvm.ClassFile.FieldType.int)) ∈ lw_all := lw_g (lw_at lw_m3 39 rfl) rfl
theorem q567 : (Jvm.Cond.methodLink "RegularRally" (208 : Nat) ({ cls := "RegularRally", name := "dueAt", desc := "(I)J" } : Jvm.MethodName)) ∈ lw_all := lw_g (lw_at lw_m3 40 rfl) rfl
theorem q568 : (Jvm.Cond.privateMethod ({ cls := "RegularRally", name := "dueAt", desc := "(I)J" } : Jvm.MethodName)) ∈ lw_tbl := lw_at lw_m3 41 rfl
theorem q569 : (Jvm.Cond.instanceMethod ({ cls := "RegularRally", name := "dueAt", desc := "(I)J" } : Jvm.MethodName)) ∈ lw_all := lw_g (lw_at lw_m3 42 rfl) rfl
theorem q570 : (Jvm.Cond.code ({ cls := "RegularRally", name := "dueAt", desc := "(I)J" } : Jvm.MethodName) prog_1_method_23_code (6 : Nat) (Option.some Jvm.ClassFile.FieldType.long)) ∈ lw_all := lw_g (lw_at lw_m3 43 rfl) rfl
theorem q571 : (Jvm.Cond.methodLink "RegularRally" (200 : Nat) ({ cls := "RegularRally", name := "nextPlace", desc := "(II)I" } : Jvm.MethodName)) ∈ lw_all := lw_g (lw_at lw_m3 44 rfl) rfl
theorem q572 : (Jvm.Cond.privateMethod ({ cls := "RegularRally", name := "nextPlace", desc := "(II)I" } : Jvm.MethodName)) ∈ lw_tbl := lw_at lw_m3 45 rfl
theorem q573 : (Jvm.Cond.instanceMethod ({ cls := "RegularRally", name := "nextPlace", desc := "(II)I" } : Jvm.MethodName)) ∈ lw_all := lw_g (lw_at lw_m3 46 rfl) rfl
theorem q574 : (Jvm.Cond.code ({ cls := "RegularRally", name := "nextPlace", desc := "(II)I" } : Jvm.MethodName) prog_1_method_21_code (5 : Nat) (Option.some Jvm.ClassFile.FieldType.int)) ∈ lw_all := lw_g (lw_at lw_m3 47 rfl) rfl
theorem q575 : (Jvm.Cond.methodLink "RegularRally" (192 : Nat) ({ cls := "java/lang/Math", name := "min", desc := "(II)I" } : Jvm.MethodName)) ∈ lw_all := lw_g (lw_at lw_m3 48 rfl) rfl
theorem q576 : (Jvm.Cond.constantLong "RegularRally" (203 : Nat) (600 : Int64)) ∈ lw_all := lw_g (lw_at lw_m3 49 rfl) rfl
theorem q577 : (Jvm.Cond.constantLong "RegularRally" (51 : Nat) (-9223372036854775808 : Int64)) ∈ lw_all := lw_g (lw_at lw_m3 50 rfl) rfl
theorem q579 : (Jvm.Cond.instanceMethod ({ cls := "RegularRally", name := "roadAt", desc := "(I)I" } : Jvm.MethodName)) ∈ lw_all := lw_g (lw_at lw_m3 52 rfl) rfl
theorem q580 : (Jvm.Cond.selects "RegularRally" ({ cls := "RegularRally", name := "roadAt", desc := "(I)I" } : Jvm.MethodName) ({ cls := "RegularRally", name := "roadAt", desc := "(I)I" } : Jvm.MethodName)) ∈ lw_all := lw_g (lw_at lw_m3 53 rfl) rfl
theorem q581 : (Jvm.Cond.code ({ cls := "RegularRally", name := "roadAt", desc := "(I)I" } : Jvm.MethodName) prog_1_method_25_code (4 : Nat) (Option.some Jvm.ClassFile.FieldType.int)) ∈ lw_all := lw_g (lw_at lw_m3 54 rfl) rfl
theorem q583 : (Jvm.Cond.instanceMethod ({ cls := "RegularRally", name := "control", desc := "(I)I" } : Jvm.MethodName)) ∈ lw_all := lw_g (lw_at lw_m3 56 rfl) rfl
theorem q584 : (Jvm.Cond.selects "RegularRally" ({ cls := "RegularRally", name := "control", desc := "(I)I" } : Jvm.MethodName) ({ cls := "RegularRally", name := "control", desc := "(I)I" } : Jvm.MethodName)) ∈ lw_all := lw_g (lw_at lw_m3 57 rfl) rfl
theorem q585 : (Jvm.Cond.code ({ cls := "RegularRally", name := "control", desc := "(I)I" } : Jvm.MethodName) prog_1_method_27_code (3 : Nat) (Option.some Jvm.ClassFile.FieldType.int)) ∈ lw_all := lw_g (lw_at lw_m3 58 rfl) rfl
theorem q586 : (Jvm.Cond.classLink "RegularRally" (212 : Nat) "RegularRally$Control") ∈ lw_all := lw_g (lw_at lw_m3 59 rfl) rfl
theorem q588 : (Jvm.Cond.methodLink "RegularRally" (217 : Nat) ({ cls := "RegularRally$Control", name := "<init>", desc := "(I)V" } : Jvm.MethodName)) ∈ lw_all := lw_g (lw_at lw_m3 61 rfl) rfl
theorem q594 : (Jvm.Cond.fieldLinkNest "RegularRally" (214 : Nat) "RegularRally$Control" "place" "I" "RegularRally") ∈ lw_tbl := lw_at lw_m3 67 rfl
theorem q596 : (Jvm.Cond.fieldLinkNest "RegularRally" (242 : Nat) "RegularRally$Control" "isStruck" "Z" "RegularRally") ∈ lw_tbl := lw_at lw_m3 69 rfl
theorem q598 : (Jvm.Cond.fieldLinkNest "RegularRally" (228 : Nat) "RegularRally$Control" "isChecked" "Z" "RegularRally") ∈ lw_tbl := lw_at lw_m3 71 rfl
theorem q600 : (Jvm.Cond.fieldLinkNest "RegularRally" (231 : Nat) "RegularRally$Control" "a" "I" "RegularRally") ∈ lw_tbl := lw_at lw_m3 73 rfl
theorem q602 : (Jvm.Cond.fieldLinkNest "RegularRally" (232 : Nat) "RegularRally$Control" "b" "I" "RegularRally") ∈ lw_tbl := lw_at lw_m3 75 rfl
theorem q604 : (Jvm.Cond.fieldLinkNest "RegularRally" (233 : Nat) "RegularRally$Control" "c" "I" "RegularRally") ∈ lw_tbl := lw_at lw_m3 77 rfl
theorem q606 : (Jvm.Cond.fieldLinkNest "RegularRally" (236 : Nat) "RegularRally$Control" "d" "I" "RegularRally") ∈ lw_tbl := lw_at lw_m3 79 rfl
theorem q623 : (Jvm.Cond.instanceMethod ({ cls := "RegularRally", name := "watch", desc := "(IIIII)I" } : Jvm.MethodName)) ∈ lw_all := lw_g (lw_at lw_m3 96 rfl) rfl
theorem q624 : (Jvm.Cond.selects "RegularRally" ({ cls := "RegularRally", name := "watch", desc := "(IIIII)I" } : Jvm.MethodName) ({ cls := "RegularRally", name := "watch", desc := "(IIIII)I" } : Jvm.MethodName)) ∈ lw_all := lw_g (lw_at lw_m3 97 rfl) rfl
theorem q625 : (Jvm.Cond.code ({ cls := "RegularRally", name := "watch", desc := "(IIIII)I" } : Jvm.MethodName) prog_1_method_29_code (7 : Nat) (Option.some Jvm.ClassFile.FieldType.int)) ∈ lw_all := lw_g (lw_at lw_m3 98 rfl) rfl
theorem q626 : (Jvm.Cond.methodLink "RegularRally" (222 : Nat) ({ cls := "RegularRally", name := "isControl", desc := "(I)Z" } : Jvm.MethodName)) ∈ lw_all := lw_g (lw_at lw_m3 99 rfl) rfl
theorem q627 : (Jvm.Cond.privateMethod ({ cls := "RegularRally", name := "isControl", desc := "(I)Z" } : Jvm.MethodName)) ∈ lw_tbl := lw_at lw_m3 100 rfl
theorem q628 : (Jvm.Cond.instanceMethod ({ cls := "RegularRally", name := "isControl", desc := "(I)Z" } : Jvm.MethodName)) ∈ lw_all := lw_g (lw_at lw_m3 101 rfl) rfl
theorem q629 : (Jvm.Cond.code ({ cls := "RegularRally", name := "isControl", desc := "(I)Z" } : Jvm.MethodName) prog_1_method_26_code (2 : Nat) (Option.some Jvm.ClassFile.FieldType.boolean)) ∈ lw_all := lw_g (lw_at lw_m3 102 rfl) rfl
theorem q630 : (Jvm.Cond.methodLink "RegularRally" (225 : Nat) ({ cls := "RegularRally", name := "isTime", desc := "(I)Z" } : Jvm.MethodName)) ∈ lw_all := lw_g (lw_at lw_m3 103 rfl) rfl
theorem q631 : (Jvm.Cond.static ({ cls := "RegularRally", name := "isTime", desc := "(I)Z" } : Jvm.MethodName)) ∈ lw_all := lw_g (lw_at lw_m3 104 rfl) rfl
theorem q632 : (Jvm.Cond.code ({ cls := "RegularRally", name := "isTime", desc := "(I)Z" } : Jvm.MethodName) prog_1_method_28_code (1 : Nat) (Option.some Jvm.ClassFile.FieldType.boolean)) ∈ lw_all := lw_g (lw_at lw_m3 105 rfl) rfl
theorem q633 : (Jvm.Cond.constantLong "RegularRally" (220 : Nat) (1000000 : Int64)) ∈ lw_all := lw_g (lw_at lw_m3 106 rfl) rfl
theorem q635 : (Jvm.Cond.instanceMethod ({ cls := "RegularRally", name := "right", desc := "(II)J" } : Jvm.MethodName)) ∈ lw_all := lw_g (lw_at lw_m3 108 rfl) rfl
theorem q636 : (Jvm.Cond.selects "RegularRally" ({ cls := "RegularRally", name := "right", desc := "(II)J" } : Jvm.MethodName) ({ cls := "RegularRally", name := "right", desc := "(II)J" } : Jvm.MethodName)) ∈ lw_all := lw_g (lw_at lw_m3 109 rfl) rfl
theorem q637 : (Jvm.Cond.code ({ cls := "RegularRally", name := "right", desc := "(II)J" } : Jvm.MethodName) prog_1_method_30_code (3 : Nat) (Option.some Jvm.ClassFile.FieldType.long)) ∈ lw_all := lw_g (lw_at lw_m3 110 rfl) rfl
theorem q638 : (Jvm.Cond.methodLink "RegularRally" (239 : Nat) ({ cls := "RegularRally$Control", name := "right", desc := "(I)J" } : Jvm.MethodName)) ∈ lw_all := lw_g (lw_at lw_m3 111 rfl) rfl
theorem q643 : (Jvm.Cond.instanceMethod ({ cls := "RegularRally", name := "strike", desc := "(IZ)I" } : Jvm.MethodName)) ∈ lw_all := lw_g (lw_at lw_m3 116 rfl) rfl
theorem q644 : (Jvm.Cond.selects "RegularRally" ({ cls := "RegularRally", name := "strike", desc := "(IZ)I" } : Jvm.MethodName) ({ cls := "RegularRally", name := "strike", desc := "(IZ)I" } : Jvm.MethodName)) ∈ lw_all := lw_g (lw_at lw_m3 117 rfl) rfl
theorem q645 : (Jvm.Cond.code ({ cls := "RegularRally", name := "strike", desc := "(IZ)I" } : Jvm.MethodName) prog_1_method_31_code (5 : Nat) (Option.some Jvm.ClassFile.FieldType.int)) ∈ lw_all := lw_g (lw_at lw_m3 118 rfl) rfl
theorem q647 : (Jvm.Cond.instanceMethod ({ cls := "RegularRally", name := "car", desc := "(II)I" } : Jvm.MethodName)) ∈ lw_all := lw_g (lw_at lw_m3 120 rfl) rfl
theorem q648 : (Jvm.Cond.selects "RegularRally" ({ cls := "RegularRally", name := "car", desc := "(II)I" } : Jvm.MethodName) ({ cls := "RegularRally", name := "car", desc := "(II)I" } : Jvm.MethodName)) ∈ lw_all := lw_g (lw_at lw_m3 121 rfl) rfl
theorem q649 : (Jvm.Cond.code ({ cls := "RegularRally", name := "car", desc := "(II)I" } : Jvm.MethodName) prog_1_method_33_code (4 : Nat) (Option.some Jvm.ClassFile.FieldType.int)) ∈ lw_all := lw_g (lw_at lw_m3 122 rfl) rfl
theorem q650 : (Jvm.Cond.constantLong "RegularRally" (245 : Nat) (500000 : Int64)) ∈ lw_all := lw_g (lw_at lw_m3 123 rfl) rfl
theorem q652 : (Jvm.Cond.methodLink "RegularRally" (247 : Nat) ({ cls := "RegularRally$Car", name := "<init>", desc := "(LRegularRally;II)V" } : Jvm.MethodName)) ∈ lw_all := lw_g (lw_at lw_m3 125 rfl) rfl
theorem q657 : (Jvm.Cond.fieldLinkNest "RegularRally" (281 : Nat) "RegularRally$Car" "number" "I" "RegularRally") ∈ lw_tbl := lw_at lw_m3 130 rfl
theorem q662 : (Jvm.Cond.fieldLinkNest "RegularRally" (266 : Nat) "RegularRally$Car" "claims" "[I" "RegularRally") ∈ lw_tbl := lw_at lw_m3 135 rfl
theorem q680 : (Jvm.Cond.classLink "RegularRally" (250 : Nat) "RegularRally$Old") ∈ lw_all := lw_g (lw_at lw_m3 153 rfl) rfl
theorem q682 : (Jvm.Cond.methodLink "RegularRally" (252 : Nat) ({ cls := "RegularRally$Old", name := "<init>", desc := "(LRegularRally;II)V" } : Jvm.MethodName)) ∈ lw_all := lw_g (lw_at lw_m3 155 rfl) rfl
theorem q697 : (Jvm.Cond.classLink "RegularRally" (253 : Nat) "RegularRally$Novice") ∈ lw_all := lw_g (lw_at lw_m3 170 rfl) rfl
theorem q699 : (Jvm.Cond.methodLink "RegularRally" (255 : Nat) ({ cls := "RegularRally$Novice", name := "<init>", desc := "(LRegularRally;II)V" } : Jvm.MethodName)) ∈ lw_all := lw_g (lw_at lw_m3 172 rfl) rfl
theorem q716 : (Jvm.Cond.instanceMethod ({ cls := "RegularRally", name := "clock", desc := "(III)I" } : Jvm.MethodName)) ∈ lw_all := lw_g (lw_at lw_m3 189 rfl) rfl
theorem q717 : (Jvm.Cond.selects "RegularRally" ({ cls := "RegularRally", name := "clock", desc := "(III)I" } : Jvm.MethodName) ({ cls := "RegularRally", name := "clock", desc := "(III)I" } : Jvm.MethodName)) ∈ lw_all := lw_g (lw_at lw_m3 190 rfl) rfl
theorem q718 : (Jvm.Cond.code ({ cls := "RegularRally", name := "clock", desc := "(III)I" } : Jvm.MethodName) prog_1_method_34_code (4 : Nat) (Option.some Jvm.ClassFile.FieldType.int)) ∈ lw_all := lw_g (lw_at lw_m3 191 rfl) rfl
theorem q719 : (Jvm.Cond.methodLink "RegularRally" (256 : Nat) ({ cls := "RegularRally", name := "isCar", desc := "(I)Z" } : Jvm.MethodName)) ∈ lw_all := lw_g (lw_at lw_m3 192 rfl) rfl
theorem q720 : (Jvm.Cond.privateMethod ({ cls := "RegularRally", name := "isCar", desc := "(I)Z" } : Jvm.MethodName)) ∈ lw_tbl := lw_at lw_m3 193 rfl
theorem q721 : (Jvm.Cond.instanceMethod ({ cls := "RegularRally", name := "isCar", desc := "(I)Z" } : Jvm.MethodName)) ∈ lw_all := lw_g (lw_at lw_m3 194 rfl) rfl
theorem q722 : (Jvm.Cond.code ({ cls := "RegularRally", name := "isCar", desc := "(I)Z" } : Jvm.MethodName) prog_1_method_32_code (2 : Nat) (Option.some Jvm.ClassFile.FieldType.boolean)) ∈ lw_all := lw_g (lw_at lw_m3 195 rfl) rfl
theorem q723 : (Jvm.Cond.methodLink "RegularRally" (259 : Nat) ({ cls := "RegularRally$Car", name := "isClocked", desc := "(I)Z" } : Jvm.MethodName)) ∈ lw_all := lw_g (lw_at lw_m3 196 rfl) rfl
theorem q730 : (Jvm.Cond.methodLink "RegularRally" (262 : Nat) ({ cls := "RegularRally$Car", name := "clock", desc := "(II)V" } : Jvm.MethodName)) ∈ lw_all := lw_g (lw_at lw_m3 203 rfl) rfl
theorem q738 : (Jvm.Cond.instanceMethod ({ cls := "RegularRally", name := "allow", desc := "(III)I" } : Jvm.MethodName)) ∈ lw_all := lw_g (lw_at lw_m3 211 rfl) rfl
theorem q739 : (Jvm.Cond.selects "RegularRally" ({ cls := "RegularRally", name := "allow", desc := "(III)I" } : Jvm.MethodName) ({ cls := "RegularRally", name := "allow", desc := "(III)I" } : Jvm.MethodName)) ∈ lw_all := lw_g (lw_at lw_m3 212 rfl) rfl
theorem q740 : (Jvm.Cond.code ({ cls := "RegularRally", name := "allow", desc := "(III)I" } : Jvm.MethodName) prog_1_method_35_code (5 : Nat) (Option.some Jvm.ClassFile.FieldType.int)) ∈ lw_all := lw_g (lw_at lw_m3 213 rfl) rfl
theorem q742 : (Jvm.Cond.instanceMethod ({ cls := "RegularRally", name := "error", desc := "(II)J" } : Jvm.MethodName)) ∈ lw_all := lw_g (lw_at lw_m3 215 rfl) rfl
theorem q743 : (Jvm.Cond.selects "RegularRally" ({ cls := "RegularRally", name := "error", desc := "(II)J" } : Jvm.MethodName) ({ cls := "RegularRally", name := "error", desc := "(II)J" } : Jvm.MethodName)) ∈ lw_all := lw_g (lw_at lw_m3 216 rfl) rfl
theorem q744 : (Jvm.Cond.code ({ cls := "RegularRally", name := "error", desc := "(II)J" } : Jvm.MethodName) prog_1_method_36_code (3 : Nat) (Option.some Jvm.ClassFile.FieldType.long)) ∈ lw_all := lw_g (lw_at lw_m3 217 rfl) rfl
theorem q745 : (Jvm.Cond.methodLink "RegularRally" (269 : Nat) ({ cls := "RegularRally$Car", name := "error", desc := "(I)J" } : Jvm.MethodName)) ∈ lw_all := lw_g (lw_at lw_m3 218 rfl) rfl
theorem q772 : (Jvm.Cond.instanceMethod ({ cls := "RegularRally", name := "points", desc := "(II)I" } : Jvm.MethodName)) ∈ lw_all := lw_g (lw_at lw_m4 5 rfl) rfl
theorem q773 : (Jvm.Cond.selects "RegularRally" ({ cls := "RegularRally", name := "points", desc := "(II)I" } : Jvm.MethodName) ({ cls := "RegularRally", name := "points", desc := "(II)I" } : Jvm.MethodName)) ∈ lw_all := lw_g (lw_at lw_m4 6 rfl) rfl
theorem q774 : (Jvm.Cond.code ({ cls := "RegularRally", name := "points", desc := "(II)I" } : Jvm.MethodName) prog_1_method_37_code (3 : Nat) (Option.some Jvm.ClassFile.FieldType.int)) ∈ lw_all := lw_g (lw_at lw_m4 7 rfl) rfl
theorem q775 : (Jvm.Cond.methodLink "RegularRally" (272 : Nat) ({ cls := "RegularRally$Car", name := "points", desc := "(I)I" } : Jvm.MethodName)) ∈ lw_all := lw_g (lw_at lw_m4 8 rfl) rfl
theorem q810 : (Jvm.Cond.instanceMethod ({ cls := "RegularRally", name := "result", desc := "(II)I" } : Jvm.MethodName)) ∈ lw_all := lw_g (lw_at lw_m4 43 rfl) rfl
theorem q811 : (Jvm.Cond.selects "RegularRally" ({ cls := "RegularRally", name := "result", desc := "(II)I" } : Jvm.MethodName) ({ cls := "RegularRally", name := "result", desc := "(II)I" } : Jvm.MethodName)) ∈ lw_all := lw_g (lw_at lw_m4 44 rfl) rfl
theorem q812 : (Jvm.Cond.code ({ cls := "RegularRally", name := "result", desc := "(II)I" } : Jvm.MethodName) prog_1_method_40_code (7 : Nat) (Option.some Jvm.ClassFile.FieldType.int)) ∈ lw_all := lw_g (lw_at lw_m4 45 rfl) rfl
theorem q813 : (Jvm.Cond.constantLong "RegularRally" (284 : Nat) (3 : Int64)) ∈ lw_all := lw_g (lw_at lw_m4 46 rfl) rfl
theorem q814 : (Jvm.Cond.methodLink "RegularRally" (275 : Nat) ({ cls := "RegularRally$Car", name := "total", desc := "()I" } : Jvm.MethodName)) ∈ lw_all := lw_g (lw_at lw_m4 47 rfl) rfl
theorem q822 : (Jvm.Cond.methodLink "RegularRally" (286 : Nat) ({ cls := "RegularRally", name := "isBetter", desc := "(LRegularRally$Car;LRegularRally$Car;)Z" } : Jvm.MethodName)) ∈ lw_all := lw_g (lw_at lw_m4 55 rfl) rfl
theorem q823 : (Jvm.Cond.privateMethod ({ cls := "RegularRally", name := "isBetter", desc := "(LRegularRally$Car;LRegularRally$Car;)Z" } : Jvm.MethodName)) ∈ lw_tbl := lw_at lw_m4 56 rfl
theorem q824 : (Jvm.Cond.instanceMethod ({ cls := "RegularRally", name := "isBetter", desc := "(LRegularRally$Car;LRegularRally$Car;)Z" } : Jvm.MethodName)) ∈ lw_all := lw_g (lw_at lw_m4 57 rfl) rfl
theorem q825 : (Jvm.Cond.code ({ cls := "RegularRally", name := "isBetter", desc := "(LRegularRally$Car;LRegularRally$Car;)Z" } : Jvm.MethodName) prog_1_method_39_code (6 : Nat) (Option.some Jvm.ClassFile.FieldType.boolean)) ∈ lw_all := lw_g (lw_at lw_m4 58 rfl) rfl
theorem q826 : (Jvm.Cond.methodLink "RegularRally" (278 : Nat) ({ cls := "RegularRally", name := "nextControl", desc := "(I)I" } : Jvm.MethodName)) ∈ lw_all := lw_g (lw_at lw_m4 59 rfl) rfl
theorem q827 : (Jvm.Cond.privateMethod ({ cls := "RegularRally", name := "nextControl", desc := "(I)I" } : Jvm.MethodName)) ∈ lw_tbl := lw_at lw_m4 60 rfl
theorem q828 : (Jvm.Cond.instanceMethod ({ cls := "RegularRally", name := "nextControl", desc := "(I)I" } : Jvm.MethodName)) ∈ lw_all := lw_g (lw_at lw_m4 61 rfl) rfl
theorem q829 : (Jvm.Cond.code ({ cls := "RegularRally", name := "nextControl", desc := "(I)I" } : Jvm.MethodName) prog_1_method_38_code (5 : Nat) (Option.some Jvm.ClassFile.FieldType.int)) ∈ lw_all := lw_g (lw_at lw_m4 62 rfl) rfl
theorem q830 : (Jvm.Cond.methodLink "RegularRally" (290 : Nat) ({ cls := "RegularRally$Car", name := "isOutOfOrder", desc := "(I)Z" } : Jvm.MethodName)) ∈ lw_all := lw_g (lw_at lw_m4 63 rfl) rfl
theorem q832 : (Jvm.Cond.instanceMethod ({ cls := "RegularRally", name := "sheet", desc := "(III)I" } : Jvm.MethodName)) ∈ lw_all := lw_g (lw_at lw_m4 65 rfl) rfl
theorem q833 : (Jvm.Cond.selects "RegularRally" ({ cls := "RegularRally", name := "sheet", desc := "(III)I" } : Jvm.MethodName) ({ cls := "RegularRally", name := "sheet", desc := "(III)I" } : Jvm.MethodName)) ∈ lw_all := lw_g (lw_at lw_m4 66 rfl) rfl
theorem q834 : (Jvm.Cond.codeWith ({ cls := "RegularRally", name := "sheet", desc := "(III)I" } : Jvm.MethodName) prog_1_method_46_code (5 : Nat) (Option.some Jvm.ClassFile.FieldType.int) [((30 : Nat), (61 : Nat), (62 : Nat), (304 : Nat))]) ∈ lw_all := lw_g (lw_at lw_m4 67 rfl) rfl
theorem q835 : (Jvm.Cond.classLink "RegularRally" (304 : Nat) "java/lang/NegativeArraySizeException") ∈ lw_all := lw_g (lw_at lw_m4 68 rfl) rfl
theorem q849 : (Jvm.Cond.methodLink "RegularRally" (298 : Nat) ({ cls := "RegularRally", name := "isSheet", desc := "(I)Z" } : Jvm.MethodName)) ∈ lw_all := lw_g (lw_at lw_m4 82 rfl) rfl
theorem q850 : (Jvm.Cond.static ({ cls := "RegularRally", name := "isSheet", desc := "(I)Z" } : Jvm.MethodName)) ∈ lw_all := lw_g (lw_at lw_m4 83 rfl) rfl
theorem q851 : (Jvm.Cond.code ({ cls := "RegularRally", name := "isSheet", desc := "(I)Z" } : Jvm.MethodName) prog_1_method_41_code (1 : Nat) (Option.some Jvm.ClassFile.FieldType.boolean)) ∈ lw_all := lw_g (lw_at lw_m4 84 rfl) rfl
theorem q852 : (Jvm.Cond.methodLink "RegularRally" (301 : Nat) ({ cls := "RegularRally", name := "isLane", desc := "(I)Z" } : Jvm.MethodName)) ∈ lw_all := lw_g (lw_at lw_m4 85 rfl) rfl
theorem q853 : (Jvm.Cond.static ({ cls := "RegularRally", name := "isLane", desc := "(I)Z" } : Jvm.MethodName)) ∈ lw_all := lw_g (lw_at lw_m4 86 rfl) rfl
theorem q854 : (Jvm.Cond.code ({ cls := "RegularRally", name := "isLane", desc := "(I)Z" } : Jvm.MethodName) prog_1_method_42_code (1 : Nat) (Option.some Jvm.ClassFile.FieldType.boolean)) ∈ lw_all := lw_g (lw_at lw_m4 87 rfl) rfl
theorem q857 : (Jvm.Cond.instanceMethod ({ cls := "RegularRally", name := "lose", desc := "(I)I" } : Jvm.MethodName)) ∈ lw_all := lw_g (lw_at lw_m4 90 rfl) rfl
theorem q858 : (Jvm.Cond.selects "RegularRally" ({ cls := "RegularRally", name := "lose", desc := "(I)I" } : Jvm.MethodName) ({ cls := "RegularRally", name := "lose", desc := "(I)I" } : Jvm.MethodName)) ∈ lw_all := lw_g (lw_at lw_m4 91 rfl) rfl
theorem q859 : (Jvm.Cond.code ({ cls := "RegularRally", name := "lose", desc := "(I)I" } : Jvm.MethodName) prog_1_method_47_code (3 : Nat) (Option.some Jvm.ClassFile.FieldType.int)) ∈ lw_all := lw_g (lw_at lw_m4 92 rfl) rfl
theorem q861 : (Jvm.Cond.instanceMethod ({ cls := "RegularRally", name := "put", desc := "(III)I" } : Jvm.MethodName)) ∈ lw_all := lw_g (lw_at lw_m4 94 rfl) rfl
theorem q862 : (Jvm.Cond.selects "RegularRally" ({ cls := "RegularRally", name := "put", desc := "(III)I" } : Jvm.MethodName) ({ cls := "RegularRally", name := "put", desc := "(III)I" } : Jvm.MethodName)) ∈ lw_all := lw_g (lw_at lw_m4 95 rfl) rfl
theorem q863 : (Jvm.Cond.codeWith ({ cls := "RegularRally", name := "put", desc := "(III)I" } : Jvm.MethodName) prog_1_method_48_code (7 : Nat) (Option.some Jvm.ClassFile.FieldType.int) [((14 : Nat), (91 : Nat), (92 : Nat), (306 : Nat)), ((14 : Nat), (91 : Nat), (100 : Nat), (308 : Nat))]) ∈ lw_all := lw_g (lw_at lw_m4 96 rfl) rfl
theorem q864 : (Jvm.Cond.classLink "RegularRally" (306 : Nat) "java/lang/NullPointerException") ∈ lw_all := lw_g (lw_at lw_m4 97 rfl) rfl
theorem q889 : (Jvm.Cond.classLink "RegularRally" (308 : Nat) "java/lang/ArrayIndexOutOfBoundsException") ∈ lw_all := lw_g (lw_at lw_m4 122 rfl) rfl
theorem q908 : (Jvm.Cond.classLink "RegularRally" (293 : Nat) "[B") ∈ lw_all := lw_g (lw_at lw_m4 141 rfl) rfl
theorem q909 : (Jvm.Cond.classLink "RegularRally" (295 : Nat) "[S") ∈ lw_all := lw_g (lw_at lw_m4 142 rfl) rfl
theorem q910 : (Jvm.Cond.classLink "RegularRally" (297 : Nat) "[I") ∈ lw_all := lw_g (lw_at lw_m4 143 rfl) rfl
theorem q912 : (Jvm.Cond.instanceMethod ({ cls := "RegularRally", name := "cell", desc := "(III)J" } : Jvm.MethodName)) ∈ lw_all := lw_g (lw_at lw_m4 145 rfl) rfl
theorem q913 : (Jvm.Cond.selects "RegularRally" ({ cls := "RegularRally", name := "cell", desc := "(III)J" } : Jvm.MethodName) ({ cls := "RegularRally", name := "cell", desc := "(III)J" } : Jvm.MethodName)) ∈ lw_all := lw_g (lw_at lw_m4 146 rfl) rfl
theorem q914 : (Jvm.Cond.codeWith ({ cls := "RegularRally", name := "cell", desc := "(III)J" } : Jvm.MethodName) prog_1_method_49_code (5 : Nat) (Option.some Jvm.ClassFile.FieldType.long) [((23 : Nat), (38 : Nat), (39 : Nat), (105 : Nat)), ((23 : Nat), (38 : Nat), (47 : Nat), (306 : Nat)), ((23 : Nat), (38 : Nat), (55 : Nat), (308 : Nat))]) ∈ lw_all := lw_g (lw_at lw_m4 147 rfl) rfl
theorem q915 : (Jvm.Cond.methodLink "RegularRally" (310 : Nat) ({ cls := "RegularRally", name := "asLane", desc := "(Ljava/lang/Object;I)Ljava/lang/Object;" } : Jvm.MethodName)) ∈ lw_all := lw_g (lw_at lw_m4 148 rfl) rfl
theorem q916 : (Jvm.Cond.static ({ cls := "RegularRally", name := "asLane", desc := "(Ljava/lang/Object;I)Ljava/lang/Object;" } : Jvm.MethodName)) ∈ lw_all := lw_g (lw_at lw_m4 149 rfl) rfl
theorem q917 : (Jvm.Cond.code ({ cls := "RegularRally", name := "asLane", desc := "(Ljava/lang/Object;I)Ljava/lang/Object;" } : Jvm.MethodName) prog_1_method_43_code (2 : Nat) (Option.some (Jvm.ClassFile.FieldType.object "java/lang/Object"))) ∈ lw_all := lw_g (lw_at lw_m4 150 rfl) rfl
theorem q918 : (Jvm.Cond.methodLink "RegularRally" (314 : Nat) ({ cls := "RegularRally", name := "cellOf", desc := "(Ljava/lang/Object;I)I" } : Jvm.MethodName)) ∈ lw_all := lw_g (lw_at lw_m4 151 rfl) rfl
theorem q919 : (Jvm.Cond.static ({ cls := "RegularRally", name := "cellOf", desc := "(Ljava/lang/Object;I)I" } : Jvm.MethodName)) ∈ lw_all := lw_g (lw_at lw_m4 152 rfl) rfl
theorem q920 : (Jvm.Cond.code ({ cls := "RegularRally", name := "cellOf", desc := "(Ljava/lang/Object;I)I" } : Jvm.MethodName) prog_1_method_44_code (3 : Nat) (Option.some Jvm.ClassFile.FieldType.int)) ∈ lw_all := lw_g (lw_at lw_m4 153 rfl) rfl
theorem q921 : (Jvm.Cond.methodLink "RegularRally" (318 : Nat) ({ cls := "RegularRally", name := "lost", desc := "(I)J" } : Jvm.MethodName)) ∈ lw_all := lw_g (lw_at lw_m4 154 rfl) rfl
theorem q922 : (Jvm.Cond.privateMethod ({ cls := "RegularRally", name := "lost", desc := "(I)J" } : Jvm.MethodName)) ∈ lw_tbl := lw_at lw_m4 155 rfl
theorem q923 : (Jvm.Cond.instanceMethod ({ cls := "RegularRally", name := "lost", desc := "(I)J" } : Jvm.MethodName)) ∈ lw_all := lw_g (lw_at lw_m4 156 rfl) rfl
theorem q924 : (Jvm.Cond.code ({ cls := "RegularRally", name := "lost", desc := "(I)J" } : Jvm.MethodName) prog_1_method_4_code (2 : Nat) (Option.some Jvm.ClassFile.FieldType.long)) ∈ lw_all := lw_g (lw_at lw_m4 157 rfl) rfl
theorem q926 : (Jvm.Cond.instanceMethod ({ cls := "RegularRally", name := "copy", desc := "(IIIII)I" } : Jvm.MethodName)) ∈ lw_all := lw_g (lw_at lw_m4 159 rfl) rfl
theorem q927 : (Jvm.Cond.selects "RegularRally" ({ cls := "RegularRally", name := "copy", desc := "(IIIII)I" } : Jvm.MethodName) ({ cls := "RegularRally", name := "copy", desc := "(IIIII)I" } : Jvm.MethodName)) ∈ lw_all := lw_g (lw_at lw_m4 160 rfl) rfl
theorem q928 : (Jvm.Cond.codeWith ({ cls := "RegularRally", name := "copy", desc := "(IIIII)I" } : Jvm.MethodName) prog_1_method_50_code (7 : Nat) (Option.some Jvm.ClassFile.FieldType.int) [((21 : Nat), (43 : Nat), (44 : Nat), (306 : Nat)), ((21 : Nat), (43 : Nat), (52 : Nat), (321 : Nat)), ((21 : Nat), (43 : Nat), (60 : Nat), (323 : Nat))]) ∈ lw_all := lw_g (lw_at lw_m4 161 rfl) rfl
theorem q929 : (Jvm.Cond.classLink "RegularRally" (321 : Nat) "java/lang/ArrayStoreException") ∈ lw_all := lw_g (lw_at lw_m4 162 rfl) rfl
theorem q943 : (Jvm.Cond.classLink "RegularRally" (323 : Nat) "java/lang/IndexOutOfBoundsException") ∈ lw_all := lw_g (lw_at lw_m4 176 rfl) rfl
theorem q945 : (Jvm.Cond.instanceMethod ({ cls := "RegularRally", name := "book", desc := "(IIII)I" } : Jvm.MethodName)) ∈ lw_all := lw_g (lw_at lw_m4 178 rfl) rfl
theorem q946 : (Jvm.Cond.selects "RegularRally" ({ cls := "RegularRally", name := "book", desc := "(IIII)I" } : Jvm.MethodName) ({ cls := "RegularRally", name := "book", desc := "(IIII)I" } : Jvm.MethodName)) ∈ lw_all := lw_g (lw_at lw_m4 179 rfl) rfl
theorem q947 : (Jvm.Cond.codeWith ({ cls := "RegularRally", name := "book", desc := "(IIII)I" } : Jvm.MethodName) prog_1_method_53_code (6 : Nat) (Option.some Jvm.ClassFile.FieldType.int) [((24 : Nat), (52 : Nat), (75 : Nat), (105 : Nat)), ((53 : Nat), (74 : Nat), (75 : Nat), (105 : Nat)), ((24 : Nat), (52 : Nat), (83 : Nat), (306 : Nat)), ((53 : Nat), (74 : Nat), (83 : Nat), (306 : Nat)), ((24 : Nat), (52 : Nat), (91 : Nat), (304 : Nat)), ((53 : Nat), (74 : Nat), (91 : Nat), (304 : Nat)), ((24 : Nat), (52 : Nat), (99 : Nat), (308 : Nat)), ((53 : Nat), (74 : Nat), (99 : Nat), (308 : Nat))]) ∈ lw_all := lw_g (lw_at lw_m4 180 rfl) rfl
theorem q948 : (Jvm.Cond.methodLink "RegularRally" (332 : Nat) ({ cls := "RegularRally", name := "taken", desc := "(Ljava/lang/Object;II)[I" } : Jvm.MethodName)) ∈ lw_all := lw_g (lw_at lw_m4 181 rfl) rfl
theorem q949 : (Jvm.Cond.static ({ cls := "RegularRally", name := "taken", desc := "(Ljava/lang/Object;II)[I" } : Jvm.MethodName)) ∈ lw_all := lw_g (lw_at lw_m4 182 rfl) rfl
theorem q950 : (Jvm.Cond.code ({ cls := "RegularRally", name := "taken", desc := "(Ljava/lang/Object;II)[I" } : Jvm.MethodName) prog_1_method_51_code (6 : Nat) (Option.some (Jvm.ClassFile.FieldType.array Jvm.ClassFile.FieldType.int))) ∈ lw_all := lw_g (lw_at lw_m4 183 rfl) rfl
theorem q951 : (Jvm.Cond.methodLink "RegularRally" (325 : Nat) ({ cls := "RegularRally", name := "lengthOf", desc := "(Ljava/lang/Object;)I" } : Jvm.MethodName)) ∈ lw_all := lw_g (lw_at lw_m4 184 rfl) rfl
theorem q952 : (Jvm.Cond.static ({ cls := "RegularRally", name := "lengthOf", desc := "(Ljava/lang/Object;)I" } : Jvm.MethodName)) ∈ lw_all := lw_g (lw_at lw_m4 185 rfl) rfl
theorem q953 : (Jvm.Cond.code ({ cls := "RegularRally", name := "lengthOf", desc := "(Ljava/lang/Object;)I" } : Jvm.MethodName) prog_1_method_45_code (2 : Nat) (Option.some Jvm.ClassFile.FieldType.int)) ∈ lw_all := lw_g (lw_at lw_m4 186 rfl) rfl
theorem q954 : (Jvm.Cond.methodLink "RegularRally" (329 : Nat) ({ cls := "java/lang/ArrayIndexOutOfBoundsException", name := "<init>", desc := "()V" } : Jvm.MethodName)) ∈ lw_all := lw_g (lw_at lw_m4 187 rfl) rfl
theorem q961 : (Jvm.Cond.methodLink "RegularRally" (336 : Nat) ({ cls := "RegularRally", name := "isBook", desc := "([I)Z" } : Jvm.MethodName)) ∈ lw_all := lw_g (lw_at lw_m4 194 rfl) rfl
theorem q962 : (Jvm.Cond.static ({ cls := "RegularRally", name := "isBook", desc := "([I)Z" } : Jvm.MethodName)) ∈ lw_all := lw_g (lw_at lw_m4 195 rfl) rfl
theorem q963 : (Jvm.Cond.code ({ cls := "RegularRally", name := "isBook", desc := "([I)Z" } : Jvm.MethodName) prog_1_method_52_code (3 : Nat) (Option.some Jvm.ClassFile.FieldType.boolean)) ∈ lw_all := lw_g (lw_at lw_m4 196 rfl) rfl
theorem q964 : (Jvm.Cond.constantLong "RegularRally" (330 : Nat) (8 : Int64)) ∈ lw_all := lw_g (lw_at lw_m4 197 rfl) rfl
theorem q966 : (Jvm.Cond.instanceMethod ({ cls := "RegularRally", name := "proof", desc := "(IIII)J" } : Jvm.MethodName)) ∈ lw_all := lw_g (lw_at lw_m4 199 rfl) rfl
theorem q967 : (Jvm.Cond.selects "RegularRally" ({ cls := "RegularRally", name := "proof", desc := "(IIII)J" } : Jvm.MethodName) ({ cls := "RegularRally", name := "proof", desc := "(IIII)J" } : Jvm.MethodName)) ∈ lw_all := lw_g (lw_at lw_m4 200 rfl) rfl
theorem q968 : (Jvm.Cond.codeWith ({ cls := "RegularRally", name := "proof", desc := "(IIII)J" } : Jvm.MethodName) prog_1_method_54_code (6 : Nat) (Option.some Jvm.ClassFile.FieldType.long) [((30 : Nat), (50 : Nat), (51 : Nat), (105 : Nat)), ((30 : Nat), (50 : Nat), (59 : Nat), (306 : Nat)), ((30 : Nat), (50 : Nat), (67 : Nat), (304 : Nat)), ((30 : Nat), (50 : Nat), (75 : Nat), (308 : Nat))]) ∈ lw_all := lw_g (lw_at lw_m4 201 rfl) rfl
theorem q969 : (Jvm.Cond.methodLink "RegularRally" (340 : Nat) ({ cls := "RegularRally", name := "worth", desc := "([I)J" } : Jvm.MethodName)) ∈ lw_all := lw_g (lw_at lw_m4 202 rfl) rfl
theorem q970 : (Jvm.Cond.privateMethod ({ cls := "RegularRally", name := "worth", desc := "([I)J" } : Jvm.MethodName)) ∈ lw_tbl := lw_at lw_m4 203 rfl
theorem q971 : (Jvm.Cond.instanceMethod ({ cls := "RegularRally", name := "worth", desc := "([I)J" } : Jvm.MethodName)) ∈ lw_all := lw_g (lw_at lw_m4 204 rfl) rfl
theorem q972 : (Jvm.Cond.code ({ cls := "RegularRally", name := "worth", desc := "([I)J" } : Jvm.MethodName) prog_1_method_18_code (8 : Nat) (Option.some Jvm.ClassFile.FieldType.long)) ∈ lw_all := lw_g (lw_at lw_m4 205 rfl) rfl
theorem q973 : (Jvm.Cond.constantLong "RegularRally" (184 : Nat) (-1 : Int64)) ∈ lw_all := lw_g (lw_at lw_m4 206 rfl) rfl
theorem q974 : (Jvm.Cond.constantLong "RegularRally" (186 : Nat) (10 : Int64)) ∈ lw_all := lw_g (lw_at lw_m4 207 rfl) rfl
theorem q975 : (Jvm.Cond.constantLong "RegularRally" (188 : Nat) (-100 : Int64)) ∈ lw_all := lw_g (lw_at lw_m4 208 rfl) rfl
theorem q977 : (Jvm.Cond.instanceMethod ({ cls := "RegularRally", name := "tell", desc := "(I)I" } : Jvm.MethodName)) ∈ lw_all := lw_g (lw_at lw_m4 210 rfl) rfl
theorem q978 : (Jvm.Cond.selects "RegularRally" ({ cls := "RegularRally", name := "tell", desc := "(I)I" } : Jvm.MethodName) ({ cls := "RegularRally", name := "tell", desc := "(I)I" } : Jvm.MethodName)) ∈ lw_all := lw_g (lw_at lw_m4 211 rfl) rfl
theorem q979 : (Jvm.Cond.code ({ cls := "RegularRally", name := "tell", desc := "(I)I" } : Jvm.MethodName) prog_1_method_55_code (2 : Nat) (Option.some Jvm.ClassFile.FieldType.int)) ∈ lw_all := lw_g (lw_at lw_m4 212 rfl) rfl
theorem q980 : (Jvm.Cond.methodLink "RegularRally" (344 : Nat) ({ cls := "RegularRally$Road", name := "tell", desc := "()I" } : Jvm.MethodName)) ∈ lw_all := lw_g (lw_at lw_m4 213 rfl) rfl
theorem q988 : (Jvm.Cond.privateMethod ({ cls := "RegularRally", name := "begins", desc := "(I)V" } : Jvm.MethodName)) ∈ lw_tbl := lw_at lw_m4 221 rfl
theorem q989 : (Jvm.Cond.instanceMethod ({ cls := "RegularRally", name := "begins", desc := "(I)V" } : Jvm.MethodName)) ∈ lw_all := lw_g (lw_at lw_m4 222 rfl) rfl
theorem q990 : (Jvm.Cond.code ({ cls := "RegularRally", name := "begins", desc := "(I)V" } : Jvm.MethodName) prog_1_method_5_code (2 : Nat) (Option.none : Option Jvm.ClassFile.FieldType)) ∈ lw_all := lw_g (lw_at lw_m4 223 rfl) rfl
theorem q1000 : (Jvm.Cond.instanceMethod ({ cls := "RegularRally", name := "greet", desc := "(I)I" } : Jvm.MethodName)) ∈ lw_all := lw_g (lw_at lw_m4 233 rfl) rfl
theorem q1001 : (Jvm.Cond.selects "RegularRally" ({ cls := "RegularRally", name := "greet", desc := "(I)I" } : Jvm.MethodName) ({ cls := "RegularRally", name := "greet", desc := "(I)I" } : Jvm.MethodName)) ∈ lw_all := lw_g (lw_at lw_m4 234 rfl) rfl
theorem q1002 : (Jvm.Cond.code ({ cls := "RegularRally", name := "greet", desc := "(I)I" } : Jvm.MethodName) prog_1_method_56_code (2 : Nat) (Option.some Jvm.ClassFile.FieldType.int)) ∈ lw_all := lw_g (lw_at lw_m4 235 rfl) rfl
theorem q1067 : (Jvm.Cond.instanceMethod ({ cls := "RegularRally", name := "as", desc := "(II)I" } : Jvm.MethodName)) ∈ lw_all := lw_g (lw_at lw_m5 60 rfl) rfl
theorem q1068 : (Jvm.Cond.selects "RegularRally" ({ cls := "RegularRally", name := "as", desc := "(II)I" } : Jvm.MethodName) ({ cls := "RegularRally", name := "as", desc := "(II)I" } : Jvm.MethodName)) ∈ lw_all := lw_g (lw_at lw_m5 61 rfl) rfl
theorem q1069 : (Jvm.Cond.codeWith ({ cls := "RegularRally", name := "as", desc := "(II)I" } : Jvm.MethodName) prog_1_method_58_code (4 : Nat) (Option.some Jvm.ClassFile.FieldType.int) [((30 : Nat), (59 : Nat), (60 : Nat), (105 : Nat))]) ∈ lw_all := lw_g (lw_at lw_m5 62 rfl) rfl
theorem q1070 : (Jvm.Cond.methodLink "RegularRally" (350 : Nat) ({ cls := "RegularRally", name := "of", desc := "(LRegularRally$Car;I)LRegularRally$Car;" } : Jvm.MethodName)) ∈ lw_all := lw_g (lw_at lw_m5 63 rfl) rfl
theorem q1071 : (Jvm.Cond.static ({ cls := "RegularRally", name := "of", desc := "(LRegularRally$Car;I)LRegularRally$Car;" } : Jvm.MethodName)) ∈ lw_all := lw_g (lw_at lw_m5 64 rfl) rfl
theorem q1072 : (Jvm.Cond.code ({ cls := "RegularRally", name := "of", desc := "(LRegularRally$Car;I)LRegularRally$Car;" } : Jvm.MethodName) prog_1_method_57_code (2 : Nat) (Option.some (Jvm.ClassFile.FieldType.object "RegularRally$Car"))) ∈ lw_all := lw_g (lw_at lw_m5 65 rfl) rfl
theorem q1073 : (Jvm.Cond.methodLink "RegularRally" (354 : Nat) ({ cls := "RegularRally$Car", name := "kind", desc := "()I" } : Jvm.MethodName)) ∈ lw_all := lw_g (lw_at lw_m5 66 rfl) rfl
theorem q1075 : (Jvm.Cond.instanceMethod ({ cls := "RegularRally", name := "trace", desc := "()I" } : Jvm.MethodName)) ∈ lw_all := lw_g (lw_at lw_m5 68 rfl) rfl
theorem q1076 : (Jvm.Cond.selects "RegularRally" ({ cls := "RegularRally", name := "trace", desc := "()I" } : Jvm.MethodName) ({ cls := "RegularRally", name := "trace", desc := "()I" } : Jvm.MethodName)) ∈ lw_all := lw_g (lw_at lw_m5 69 rfl) rfl
theorem q1077 : (Jvm.Cond.code ({ cls := "RegularRally", name := "trace", desc := "()I" } : Jvm.MethodName) prog_1_method_59_code (1 : Nat) (Option.some Jvm.ClassFile.FieldType.int)) ∈ lw_all := lw_g (lw_at lw_m5 70 rfl) rfl
theorem q1079 : (Jvm.Cond.instanceMethod ({ cls := "RegularRally", name := "fault", desc := "()I" } : Jvm.MethodName)) ∈ lw_all := lw_g (lw_at lw_m5 72 rfl) rfl
theorem q1080 : (Jvm.Cond.selects "RegularRally" ({ cls := "RegularRally", name := "fault", desc := "()I" } : Jvm.MethodName) ({ cls := "RegularRally", name := "fault", desc := "()I" } : Jvm.MethodName)) ∈ lw_all := lw_g (lw_at lw_m5 73 rfl) rfl
theorem q1081 : (Jvm.Cond.code ({ cls := "RegularRally", name := "fault", desc := "()I" } : Jvm.MethodName) prog_1_method_60_code (1 : Nat) (Option.some Jvm.ClassFile.FieldType.int)) ∈ lw_all := lw_g (lw_at lw_m5 74 rfl) rfl
theorem q1083 : (Jvm.Cond.instanceMethod ({ cls := "RegularRally", name := "told", desc := "(I)I" } : Jvm.MethodName)) ∈ lw_all := lw_g (lw_at lw_m5 76 rfl) rfl
theorem q1084 : (Jvm.Cond.selects "RegularRally" ({ cls := "RegularRally", name := "told", desc := "(I)I" } : Jvm.MethodName) ({ cls := "RegularRally", name := "told", desc := "(I)I" } : Jvm.MethodName)) ∈ lw_all := lw_g (lw_at lw_m5 77 rfl) rfl
theorem q1085 : (Jvm.Cond.code ({ cls := "RegularRally", name := "told", desc := "(I)I" } : Jvm.MethodName) prog_1_method_61_code (2 : Nat) (Option.some Jvm.ClassFile.FieldType.int)) ∈ lw_all := lw_g (lw_at lw_m5 78 rfl) rfl
theorem q1504 : (Jvm.Cond.castable "RegularRally" "java/lang/Object") ∈ lw_tbl := lw_at lw_m7 17 rfl
theorem in_X0 : ∀ w ∈ wsX00, w ∈ lw_all := lw_in wsX00 [134, 136, 138, 140, 142, 144, 146, 148, 150, 152, 154, 156, 158, 160, 162, 164, 166, 168, 170, 172] (by decide +kernel) (by decide +kernel)
