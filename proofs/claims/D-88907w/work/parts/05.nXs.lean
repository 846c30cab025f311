/-! RegularRally$Greeted -/
set_option maxRecDepth 100000
def RX10 : String := "RegularRally$Greeted"
abbrev cX10_greet : ByteArray := prog_5_method_4_code
def yX10_greet : MethodName := ⟨RX10, "greet", "()I"⟩
def dkwX10_greet_1 : List UInt8 := [185, 0, 17, 1, 0, 96, 172]
abbrev dktX10_greet_1 : List UInt8 := dkwX10_greet_1 ++ []
def dkwX10_greet_0 : List UInt8 := [42, 185, 0, 1, 1, 0, 7, 182, 0, 7, 16, 10, 42, 185, 0, 13, 1, 0, 104, 42]
abbrev dktX10_greet_0 : List UInt8 := dkwX10_greet_0 ++ dktX10_greet_1
theorem dksX10_greet_0 : cX10_greet.data.toList.drop 0 = dktX10_greet_0 := by decide +kernel
theorem dksX10_greet_1 : cX10_greet.data.toList.drop 20 = dktX10_greet_1 := dk_seg dksX10_greet_0 20 rfl rfl
theorem dX10_greet_0 : decode cX10_greet 0 = .ok (.aload_n 0, 1) := dk_42 (dk_at dksX10_greet_0 0 rfl rfl)
theorem dX10_greet_1 : decode cX10_greet 1 = .ok (.invokeinterface 1 1, 5) := by decide +kernel
theorem dX10_greet_6 : decode cX10_greet 6 = .ok (.iconst 4, 1) := dk_7 (dk_at dksX10_greet_0 6 rfl rfl)
theorem dX10_greet_7 : decode cX10_greet 7 = .ok (.invokevirtual 7, 3) := dk_182 0 7 (dk_at dksX10_greet_0 7 rfl rfl)
theorem dX10_greet_10 : decode cX10_greet 10 = .ok (.bipush 10, 2) := dk_16 10 (dk_at dksX10_greet_0 10 rfl rfl)
theorem dX10_greet_12 : decode cX10_greet 12 = .ok (.aload_n 0, 1) := dk_42 (dk_at dksX10_greet_0 12 rfl rfl)
theorem dX10_greet_13 : decode cX10_greet 13 = .ok (.invokeinterface 13 1, 5) := by decide +kernel
theorem dX10_greet_18 : decode cX10_greet 18 = .ok (.imul, 1) := dk_104 (dk_at dksX10_greet_0 18 rfl rfl)
theorem dX10_greet_19 : decode cX10_greet 19 = .ok (.aload_n 0, 1) := dk_42 (dk_at dksX10_greet_0 19 rfl rfl)
theorem dX10_greet_20 : decode cX10_greet 20 = .ok (.invokeinterface 17 1, 5) := by decide +kernel
theorem dX10_greet_25 : decode cX10_greet 25 = .ok (.iadd, 1) := dk_96 (dk_at dksX10_greet_1 5 rfl rfl)
theorem dX10_greet_26 : decode cX10_greet 26 = .ok (.ireturn, 1) := dk_172 (dk_at dksX10_greet_1 6 rfl rfl)
theorem q1003 : (Jvm.Cond.declares ({ cls := "RegularRally$Greeted", name := "greet", desc := "()I" } : Jvm.MethodName)) ∈ lw_tbl := lw_at lw_m4 236 rfl
theorem q1014 : (Jvm.Cond.instanceMethod ({ cls := "RegularRally$Greeted", name := "greet", desc := "()I" } : Jvm.MethodName)) ∈ lw_all := lw_g (lw_at lw_m5 7 rfl) rfl
theorem q1015 : (Jvm.Cond.publicMethod ({ cls := "RegularRally$Greeted", name := "greet", desc := "()I" } : Jvm.MethodName)) ∈ lw_tbl := lw_at lw_m5 8 rfl
theorem q1016 : (Jvm.Cond.code ({ cls := "RegularRally$Greeted", name := "greet", desc := "()I" } : Jvm.MethodName) prog_5_method_4_code (1 : Nat) (Option.some Jvm.ClassFile.FieldType.int)) ∈ lw_all := lw_g (lw_at lw_m5 9 rfl) rfl
theorem q1017 : (Jvm.Cond.interfaceEntry "RegularRally$Greeted" (1 : Nat)) ∈ lw_tbl := lw_at lw_m5 10 rfl
theorem q1018 : (Jvm.Cond.methodLink "RegularRally$Greeted" (1 : Nat) ({ cls := "RegularRally$Greeted", name := "rally", desc := "()LRegularRally;" } : Jvm.MethodName)) ∈ lw_all := lw_g (lw_at lw_m5 11 rfl) rfl
theorem q1019 : (Jvm.Cond.interfaceMethod "RegularRally$Greeted" "RegularRally$Greeted" "rally" "()LRegularRally;") ∈ lw_tbl := lw_at lw_m5 12 rfl
theorem q1020 : (Jvm.Cond.declares ({ cls := "RegularRally$Greeted", name := "rally", desc := "()LRegularRally;" } : Jvm.MethodName)) ∈ lw_tbl := lw_at lw_m5 13 rfl
theorem q1033 : (Jvm.Cond.methodLinkNest "RegularRally$Greeted" (7 : Nat) ({ cls := "RegularRally", name := "begins", desc := "(I)V" } : Jvm.MethodName) "RegularRally") ∈ lw_tbl := lw_at lw_m5 26 rfl
theorem q1034 : (Jvm.Cond.interfaceEntry "RegularRally$Greeted" (13 : Nat)) ∈ lw_tbl := lw_at lw_m5 27 rfl
theorem q1035 : (Jvm.Cond.methodLink "RegularRally$Greeted" (13 : Nat) ({ cls := "RegularRally$Greeted", name := "number", desc := "()I" } : Jvm.MethodName)) ∈ lw_all := lw_g (lw_at lw_m5 28 rfl) rfl
theorem q1036 : (Jvm.Cond.interfaceMethod "RegularRally$Greeted" "RegularRally$Greeted" "number" "()I") ∈ lw_tbl := lw_at lw_m5 29 rfl
theorem q1037 : (Jvm.Cond.declares ({ cls := "RegularRally$Greeted", name := "number", desc := "()I" } : Jvm.MethodName)) ∈ lw_tbl := lw_at lw_m5 30 rfl
theorem q1047 : (Jvm.Cond.interfaceEntry "RegularRally$Greeted" (17 : Nat)) ∈ lw_tbl := lw_at lw_m5 40 rfl
theorem q1048 : (Jvm.Cond.methodLink "RegularRally$Greeted" (17 : Nat) ({ cls := "RegularRally$Greeted", name := "kind", desc := "()I" } : Jvm.MethodName)) ∈ lw_all := lw_g (lw_at lw_m5 41 rfl) rfl
theorem q1049 : (Jvm.Cond.interfaceMethod "RegularRally$Greeted" "RegularRally$Greeted" "kind" "()I") ∈ lw_tbl := lw_at lw_m5 42 rfl
theorem q1050 : (Jvm.Cond.declares ({ cls := "RegularRally$Greeted", name := "kind", desc := "()I" } : Jvm.MethodName)) ∈ lw_tbl := lw_at lw_m5 43 rfl

/-! RegularRally$Road -/
set_option maxRecDepth 100000
def RX2 : String := "RegularRally$Road"
def TX2 : u_T := fun k => match k with
  | 0 => ("RegularRally$Road", "a", "I", true)
  | 1 => ("RegularRally$Road", "b", "I", true)
  | 2 => ("RegularRally$Road", "length", "I", true)
  | 3 => ("RegularRally$Road", "isShut", "Z", false)
  | _ => ("RegularRally$Road", "this$0", "LRegularRally;", true)
def tyX2 : Nat → FieldType := fun k => match k with
  | 0 => .int
  | 1 => .int
  | 2 => .int
  | 3 => .boolean
  | _ => .object "RegularRally"
abbrev wsX20 : List Cond := u_ws RX2 TX2 5
theorem nmX2 : ∀ a, a < 5 → ∀ b, b < 5 → a ≠ b → (TX2 a).2.1 ≠ (TX2 b).2.1 := by decide +kernel
theorem tyX2_ok : ∀ k, k < 5 → parseFieldDescriptor (TX2 k).2.2.1 = some (tyX2 k) := by decide +kernel
abbrev cX2_init : ByteArray := prog_9_method_1_code
def yX2_init : MethodName := ⟨RX2, "<init>", "(LRegularRally;III)V"⟩
def dkwX2_init_1 : List UInt8 := [181, 0, 22, 177]
abbrev dktX2_init_1 : List UInt8 := dkwX2_init_1 ++ []
def dkwX2_init_0 : List UInt8 := [42, 43, 181, 0, 3, 42, 183, 0, 9, 42, 28, 181, 0, 15, 42, 29, 181, 0, 19, 42, 21, 4]
abbrev dktX2_init_0 : List UInt8 := dkwX2_init_0 ++ dktX2_init_1
theorem dksX2_init_0 : cX2_init.data.toList.drop 0 = dktX2_init_0 := by decide +kernel
theorem dksX2_init_1 : cX2_init.data.toList.drop 22 = dktX2_init_1 := dk_seg dksX2_init_0 22 rfl rfl
theorem dX2_init_0 : decode cX2_init 0 = .ok (.aload_n 0, 1) := dk_42 (dk_at dksX2_init_0 0 rfl rfl)
theorem dX2_init_1 : decode cX2_init 1 = .ok (.aload_n 1, 1) := dk_43 (dk_at dksX2_init_0 1 rfl rfl)
theorem dX2_init_2 : decode cX2_init 2 = .ok (.putfield 3, 3) := dk_181 0 3 (dk_at dksX2_init_0 2 rfl rfl)
theorem dX2_init_5 : decode cX2_init 5 = .ok (.aload_n 0, 1) := dk_42 (dk_at dksX2_init_0 5 rfl rfl)
theorem dX2_init_6 : decode cX2_init 6 = .ok (.invokespecial 9, 3) := dk_183 0 9 (dk_at dksX2_init_0 6 rfl rfl)
theorem dX2_init_9 : decode cX2_init 9 = .ok (.aload_n 0, 1) := dk_42 (dk_at dksX2_init_0 9 rfl rfl)
theorem dX2_init_10 : decode cX2_init 10 = .ok (.iload_n 2, 1) := dk_28 (dk_at dksX2_init_0 10 rfl rfl)
theorem dX2_init_11 : decode cX2_init 11 = .ok (.putfield 15, 3) := dk_181 0 15 (dk_at dksX2_init_0 11 rfl rfl)
theorem dX2_init_14 : decode cX2_init 14 = .ok (.aload_n 0, 1) := dk_42 (dk_at dksX2_init_0 14 rfl rfl)
theorem dX2_init_15 : decode cX2_init 15 = .ok (.iload_n 3, 1) := dk_29 (dk_at dksX2_init_0 15 rfl rfl)
theorem dX2_init_16 : decode cX2_init 16 = .ok (.putfield 19, 3) := dk_181 0 19 (dk_at dksX2_init_0 16 rfl rfl)
theorem dX2_init_19 : decode cX2_init 19 = .ok (.aload_n 0, 1) := dk_42 (dk_at dksX2_init_0 19 rfl rfl)
theorem dX2_init_20 : decode cX2_init 20 = .ok (.iload 4, 2) := dk_21 4 (dk_at dksX2_init_0 20 rfl rfl)
theorem dX2_init_22 : decode cX2_init 22 = .ok (.putfield 22, 3) := dk_181 0 22 (dk_at dksX2_init_1 0 rfl rfl)
theorem dX2_init_25 : decode cX2_init 25 = .ok (.return_, 1) := dk_177 (dk_at dksX2_init_1 3 rfl rfl)
abbrev cX2_kind : ByteArray := prog_9_method_2_code
def yX2_kind : MethodName := ⟨RX2, "kind", "()I"⟩
theorem dX2_kind_0 : decode cX2_kind 0 = .ok (.iconst 0, 1) := by decide +kernel
theorem dX2_kind_1 : decode cX2_kind 1 = .ok (.ireturn, 1) := by decide +kernel
abbrev cX2_isOpen : ByteArray := prog_9_method_3_code
def yX2_isOpen : MethodName := ⟨RX2, "isOpen", "()Z"⟩
def dkwX2_isOpen_0 : List UInt8 := [42, 180, 0, 25, 154, 0, 7, 4, 167, 0, 4, 3, 172]
abbrev dktX2_isOpen_0 : List UInt8 := dkwX2_isOpen_0 ++ []
theorem dksX2_isOpen_0 : cX2_isOpen.data.toList.drop 0 = dktX2_isOpen_0 := by decide +kernel
theorem dX2_isOpen_0 : decode cX2_isOpen 0 = .ok (.aload_n 0, 1) := dk_42 (dk_at dksX2_isOpen_0 0 rfl rfl)
theorem dX2_isOpen_1 : decode cX2_isOpen 1 = .ok (.getfield 25, 3) := dk_180 0 25 (dk_at dksX2_isOpen_0 1 rfl rfl)
theorem dX2_isOpen_4 : decode cX2_isOpen 4 = .ok (.ifCond .ne 7, 3) := dk_154 0 7 (dk_at dksX2_isOpen_0 4 rfl rfl)
theorem dX2_isOpen_7 : decode cX2_isOpen 7 = .ok (.iconst 1, 1) := dk_4 (dk_at dksX2_isOpen_0 7 rfl rfl)
theorem dX2_isOpen_8 : decode cX2_isOpen 8 = .ok (.goto 4, 3) := dk_167 0 4 (dk_at dksX2_isOpen_0 8 rfl rfl)
theorem dX2_isOpen_11 : decode cX2_isOpen 11 = .ok (.iconst 0, 1) := dk_3 (dk_at dksX2_isOpen_0 11 rfl rfl)
theorem dX2_isOpen_12 : decode cX2_isOpen 12 = .ok (.ireturn, 1) := dk_172 (dk_at dksX2_isOpen_0 12 rfl rfl)
abbrev cX2_from : ByteArray := prog_9_method_4_code
def yX2_from : MethodName := ⟨RX2, "from", "(I)I"⟩
def dkwX2_from_1 : List UInt8 := [167, 0, 20, 27, 42, 180, 0, 19, 160, 0, 10, 42, 180, 0, 15, 167, 0, 5, 16, 247, 172]
abbrev dktX2_from_1 : List UInt8 := dkwX2_from_1 ++ []
def dkwX2_from_0 : List UInt8 := [42, 182, 0, 29, 154, 0, 8, 16, 247, 167, 0, 35, 27, 42, 180, 0, 15, 160, 0, 10, 42, 180, 0, 19]
abbrev dktX2_from_0 : List UInt8 := dkwX2_from_0 ++ dktX2_from_1
theorem dksX2_from_0 : cX2_from.data.toList.drop 0 = dktX2_from_0 := by decide +kernel
theorem dksX2_from_1 : cX2_from.data.toList.drop 24 = dktX2_from_1 := dk_seg dksX2_from_0 24 rfl rfl
theorem dX2_from_0 : decode cX2_from 0 = .ok (.aload_n 0, 1) := dk_42 (dk_at dksX2_from_0 0 rfl rfl)
theorem dX2_from_1 : decode cX2_from 1 = .ok (.invokevirtual 29, 3) := dk_182 0 29 (dk_at dksX2_from_0 1 rfl rfl)
theorem dX2_from_4 : decode cX2_from 4 = .ok (.ifCond .ne 8, 3) := dk_154 0 8 (dk_at dksX2_from_0 4 rfl rfl)
theorem dX2_from_7 : decode cX2_from 7 = .ok (.bipush (-9), 2) := dk_16 247 (dk_at dksX2_from_0 7 rfl rfl)
theorem dX2_from_9 : decode cX2_from 9 = .ok (.goto 35, 3) := dk_167 0 35 (dk_at dksX2_from_0 9 rfl rfl)
theorem dX2_from_12 : decode cX2_from 12 = .ok (.iload_n 1, 1) := dk_27 (dk_at dksX2_from_0 12 rfl rfl)
theorem dX2_from_13 : decode cX2_from 13 = .ok (.aload_n 0, 1) := dk_42 (dk_at dksX2_from_0 13 rfl rfl)
theorem dX2_from_14 : decode cX2_from 14 = .ok (.getfield 15, 3) := dk_180 0 15 (dk_at dksX2_from_0 14 rfl rfl)
theorem dX2_from_17 : decode cX2_from 17 = .ok (.if_icmp .ne 10, 3) := dk_160 0 10 (dk_at dksX2_from_0 17 rfl rfl)
theorem dX2_from_20 : decode cX2_from 20 = .ok (.aload_n 0, 1) := dk_42 (dk_at dksX2_from_0 20 rfl rfl)
theorem dX2_from_21 : decode cX2_from 21 = .ok (.getfield 19, 3) := dk_180 0 19 (dk_at dksX2_from_0 21 rfl rfl)
theorem dX2_from_24 : decode cX2_from 24 = .ok (.goto 20, 3) := dk_167 0 20 (dk_at dksX2_from_1 0 rfl rfl)
theorem dX2_from_27 : decode cX2_from 27 = .ok (.iload_n 1, 1) := dk_27 (dk_at dksX2_from_1 3 rfl rfl)
theorem dX2_from_28 : decode cX2_from 28 = .ok (.aload_n 0, 1) := dk_42 (dk_at dksX2_from_1 4 rfl rfl)
theorem dX2_from_29 : decode cX2_from 29 = .ok (.getfield 19, 3) := dk_180 0 19 (dk_at dksX2_from_1 5 rfl rfl)
theorem dX2_from_32 : decode cX2_from 32 = .ok (.if_icmp .ne 10, 3) := dk_160 0 10 (dk_at dksX2_from_1 8 rfl rfl)
theorem dX2_from_35 : decode cX2_from 35 = .ok (.aload_n 0, 1) := dk_42 (dk_at dksX2_from_1 11 rfl rfl)
theorem dX2_from_36 : decode cX2_from 36 = .ok (.getfield 15, 3) := dk_180 0 15 (dk_at dksX2_from_1 12 rfl rfl)
theorem dX2_from_39 : decode cX2_from 39 = .ok (.goto 5, 3) := dk_167 0 5 (dk_at dksX2_from_1 15 rfl rfl)
theorem dX2_from_42 : decode cX2_from 42 = .ok (.bipush (-9), 2) := dk_16 247 (dk_at dksX2_from_1 18 rfl rfl)
theorem dX2_from_44 : decode cX2_from 44 = .ok (.ireturn, 1) := dk_172 (dk_at dksX2_from_1 20 rfl rfl)
abbrev cX2_tell : ByteArray := prog_9_method_5_code
def yX2_tell : MethodName := ⟨RX2, "tell", "()I"⟩
def dkwX2_tell_0 : List UInt8 := [42, 180, 0, 3, 4, 182, 0, 33, 42, 180, 0, 22, 172]
abbrev dktX2_tell_0 : List UInt8 := dkwX2_tell_0 ++ []
theorem dksX2_tell_0 : cX2_tell.data.toList.drop 0 = dktX2_tell_0 := by decide +kernel
theorem dX2_tell_0 : decode cX2_tell 0 = .ok (.aload_n 0, 1) := dk_42 (dk_at dksX2_tell_0 0 rfl rfl)
theorem dX2_tell_1 : decode cX2_tell 1 = .ok (.getfield 3, 3) := dk_180 0 3 (dk_at dksX2_tell_0 1 rfl rfl)
theorem dX2_tell_4 : decode cX2_tell 4 = .ok (.iconst 1, 1) := dk_4 (dk_at dksX2_tell_0 4 rfl rfl)
theorem dX2_tell_5 : decode cX2_tell 5 = .ok (.invokevirtual 33, 3) := dk_182 0 33 (dk_at dksX2_tell_0 5 rfl rfl)
theorem dX2_tell_8 : decode cX2_tell 8 = .ok (.aload_n 0, 1) := dk_42 (dk_at dksX2_tell_0 8 rfl rfl)
theorem dX2_tell_9 : decode cX2_tell 9 = .ok (.getfield 22, 3) := dk_180 0 22 (dk_at dksX2_tell_0 9 rfl rfl)
theorem dX2_tell_12 : decode cX2_tell 12 = .ok (.ireturn, 1) := dk_172 (dk_at dksX2_tell_0 12 rfl rfl)
theorem q53 : (Jvm.Cond.initialized "RegularRally$Road") ∈ lw_all := lw_g (lw_at lw_m1 6 rfl) rfl
theorem q200 : (Jvm.Cond.instantiable "RegularRally$Road" (5 : Nat)) ∈ lw_all := lw_g (lw_at lw_m1 153 rfl) rfl
theorem q202 : (Jvm.Cond.instanceMethod ({ cls := "RegularRally$Road", name := "<init>", desc := "(LRegularRally;III)V" } : Jvm.MethodName)) ∈ lw_all := lw_g (lw_at lw_m1 155 rfl) rfl
theorem q203 : (Jvm.Cond.code ({ cls := "RegularRally$Road", name := "<init>", desc := "(LRegularRally;III)V" } : Jvm.MethodName) prog_9_method_1_code (5 : Nat) (Option.none : Option Jvm.ClassFile.FieldType)) ∈ lw_all := lw_g (lw_at lw_m1 156 rfl) rfl
theorem q204 : (Jvm.Cond.methodLink "RegularRally$Road" (9 : Nat) ({ cls := "java/lang/Object", name := "<init>", desc := "()V" } : Jvm.MethodName)) ∈ lw_all := lw_g (lw_at lw_m1 157 rfl) rfl
theorem q205 : (Jvm.Cond.fieldLink "RegularRally$Road" (15 : Nat) "RegularRally$Road" "a" "I") ∈ lw_all := lw_g (lw_at lw_m1 158 rfl) rfl
theorem q207 : (Jvm.Cond.fieldLink "RegularRally$Road" (19 : Nat) "RegularRally$Road" "b" "I") ∈ lw_all := lw_g (lw_at lw_m1 160 rfl) rfl
theorem q211 : (Jvm.Cond.fieldLink "RegularRally$Road" (22 : Nat) "RegularRally$Road" "length" "I") ∈ lw_all := lw_g (lw_at lw_m1 164 rfl) rfl
theorem q213 : (Jvm.Cond.fieldLink "RegularRally$Road" (25 : Nat) "RegularRally$Road" "isShut" "Z") ∈ lw_all := lw_g (lw_at lw_m1 166 rfl) rfl
theorem q215 : (Jvm.Cond.fieldLink "RegularRally$Road" (3 : Nat) "RegularRally$Road" "this$0" "LRegularRally;") ∈ lw_all := lw_g (lw_at lw_m1 168 rfl) rfl
theorem q216 : (Jvm.Cond.laysFinal "RegularRally$Road" "RegularRally$Road" "a" "I") ∈ lw_all := lw_g (lw_at lw_m1 169 rfl) rfl
theorem q217 : (Jvm.Cond.soleField "RegularRally$Road" "a") ∈ lw_all := lw_g (lw_at lw_m1 170 rfl) rfl
theorem q218 : (Jvm.Cond.laysFinal "RegularRally$Road" "RegularRally$Road" "b" "I") ∈ lw_all := lw_g (lw_at lw_m1 171 rfl) rfl
theorem q219 : (Jvm.Cond.soleField "RegularRally$Road" "b") ∈ lw_all := lw_g (lw_at lw_m1 172 rfl) rfl
theorem q220 : (Jvm.Cond.laysFinal "RegularRally$Road" "RegularRally$Road" "length" "I") ∈ lw_all := lw_g (lw_at lw_m1 173 rfl) rfl
theorem q221 : (Jvm.Cond.soleField "RegularRally$Road" "length") ∈ lw_all := lw_g (lw_at lw_m1 174 rfl) rfl
theorem q222 : (Jvm.Cond.lays "RegularRally$Road" "RegularRally$Road" "isShut" "Z") ∈ lw_all := lw_g (lw_at lw_m1 175 rfl) rfl
theorem q223 : (Jvm.Cond.soleField "RegularRally$Road" "isShut") ∈ lw_all := lw_g (lw_at lw_m1 176 rfl) rfl
theorem q224 : (Jvm.Cond.laysFinal "RegularRally$Road" "RegularRally$Road" "this$0" "LRegularRally;") ∈ lw_all := lw_g (lw_at lw_m1 177 rfl) rfl
theorem q225 : (Jvm.Cond.soleField "RegularRally$Road" "this$0") ∈ lw_all := lw_g (lw_at lw_m1 178 rfl) rfl
theorem q226 : (Jvm.Cond.superclass "RegularRally$Road" "java/lang/Object") ∈ lw_all := lw_g (lw_at lw_m1 179 rfl) rfl
theorem q305 : (Jvm.Cond.selects "RegularRally$Road" ({ cls := "java/lang/Object", name := "getClass", desc := "()Ljava/lang/Class;" } : Jvm.MethodName) ({ cls := "java/lang/Object", name := "getClass", desc := "()Ljava/lang/Class;" } : Jvm.MethodName)) ∈ lw_all := lw_g (lw_at lw_m2 18 rfl) rfl
theorem q455 : (Jvm.Cond.instanceMethod ({ cls := "RegularRally$Road", name := "kind", desc := "()I" } : Jvm.MethodName)) ∈ lw_all := lw_g (lw_at lw_m2 168 rfl) rfl
theorem q456 : (Jvm.Cond.selects "RegularRally$Road" ({ cls := "RegularRally$Road", name := "kind", desc := "()I" } : Jvm.MethodName) ({ cls := "RegularRally$Road", name := "kind", desc := "()I" } : Jvm.MethodName)) ∈ lw_all := lw_g (lw_at lw_m2 169 rfl) rfl
theorem q457 : (Jvm.Cond.sameMethod "RegularRally$Road" "RegularRally$Road" "kind" "()I") ∈ lw_all := lw_g (lw_at lw_m2 170 rfl) rfl
theorem q464 : (Jvm.Cond.code ({ cls := "RegularRally$Road", name := "kind", desc := "()I" } : Jvm.MethodName) prog_9_method_2_code (1 : Nat) (Option.some Jvm.ClassFile.FieldType.int)) ∈ lw_all := lw_g (lw_at lw_m2 177 rfl) rfl
theorem q466 : (Jvm.Cond.instanceMethod ({ cls := "RegularRally$Road", name := "isOpen", desc := "()Z" } : Jvm.MethodName)) ∈ lw_all := lw_g (lw_at lw_m2 179 rfl) rfl
theorem q467 : (Jvm.Cond.selects "RegularRally$Road" ({ cls := "RegularRally$Road", name := "isOpen", desc := "()Z" } : Jvm.MethodName) ({ cls := "RegularRally$Road", name := "isOpen", desc := "()Z" } : Jvm.MethodName)) ∈ lw_all := lw_g (lw_at lw_m2 180 rfl) rfl
theorem q468 : (Jvm.Cond.sameMethod "RegularRally$Road" "RegularRally$Road" "isOpen" "()Z") ∈ lw_all := lw_g (lw_at lw_m2 181 rfl) rfl
theorem q474 : (Jvm.Cond.code ({ cls := "RegularRally$Road", name := "isOpen", desc := "()Z" } : Jvm.MethodName) prog_9_method_3_code (1 : Nat) (Option.some Jvm.ClassFile.FieldType.boolean)) ∈ lw_all := lw_g (lw_at lw_m2 187 rfl) rfl
theorem q490 : (Jvm.Cond.instanceMethod ({ cls := "RegularRally$Road", name := "from", desc := "(I)I" } : Jvm.MethodName)) ∈ lw_all := lw_g (lw_at lw_m2 203 rfl) rfl
theorem q491 : (Jvm.Cond.selects "RegularRally$Road" ({ cls := "RegularRally$Road", name := "from", desc := "(I)I" } : Jvm.MethodName) ({ cls := "RegularRally$Road", name := "from", desc := "(I)I" } : Jvm.MethodName)) ∈ lw_all := lw_g (lw_at lw_m2 204 rfl) rfl
theorem q492 : (Jvm.Cond.sameMethod "RegularRally$Road" "RegularRally$Road" "from" "(I)I") ∈ lw_all := lw_g (lw_at lw_m2 205 rfl) rfl
theorem q498 : (Jvm.Cond.code ({ cls := "RegularRally$Road", name := "from", desc := "(I)I" } : Jvm.MethodName) prog_9_method_4_code (2 : Nat) (Option.some Jvm.ClassFile.FieldType.int)) ∈ lw_all := lw_g (lw_at lw_m2 211 rfl) rfl
theorem q499 : (Jvm.Cond.methodLink "RegularRally$Road" (29 : Nat) ({ cls := "RegularRally$Road", name := "isOpen", desc := "()Z" } : Jvm.MethodName)) ∈ lw_all := lw_g (lw_at lw_m2 212 rfl) rfl
theorem q981 : (Jvm.Cond.instanceMethod ({ cls := "RegularRally$Road", name := "tell", desc := "()I" } : Jvm.MethodName)) ∈ lw_all := lw_g (lw_at lw_m4 214 rfl) rfl
theorem q982 : (Jvm.Cond.selects "RegularRally$Road" ({ cls := "RegularRally$Road", name := "tell", desc := "()I" } : Jvm.MethodName) ({ cls := "RegularRally$Road", name := "tell", desc := "()I" } : Jvm.MethodName)) ∈ lw_all := lw_g (lw_at lw_m4 215 rfl) rfl
theorem q983 : (Jvm.Cond.sameMethod "RegularRally$Road" "RegularRally$Road" "tell" "()I") ∈ lw_all := lw_g (lw_at lw_m4 216 rfl) rfl
theorem q997 : (Jvm.Cond.code ({ cls := "RegularRally$Road", name := "tell", desc := "()I" } : Jvm.MethodName) prog_9_method_5_code (1 : Nat) (Option.some Jvm.ClassFile.FieldType.int)) ∈ lw_all := lw_g (lw_at lw_m4 230 rfl) rfl
theorem q998 : (Jvm.Cond.methodLinkNest "RegularRally$Road" (33 : Nat) ({ cls := "RegularRally", name := "begins", desc := "(I)V" } : Jvm.MethodName) "RegularRally") ∈ lw_tbl := lw_at lw_m4 231 rfl
theorem q1507 : (Jvm.Cond.castable "RegularRally$Road" "java/lang/Object") ∈ lw_tbl := lw_at lw_m7 20 rfl
theorem in_X2 : ∀ w ∈ wsX20, w ∈ lw_all := lw_in wsX20 [216, 218, 220, 222, 224] (by decide +kernel) (by decide +kernel)

/-! RegularRally$OneWay -/
set_option maxRecDepth 100000
def RX3 : String := "RegularRally$OneWay"
def TX3 : u_T := fun k => match k with
  | 0 => ("RegularRally$Road", "a", "I", true)
  | 1 => ("RegularRally$Road", "b", "I", true)
  | 2 => ("RegularRally$Road", "length", "I", true)
  | 3 => ("RegularRally$Road", "isShut", "Z", false)
  | 4 => ("RegularRally$Road", "this$0", "LRegularRally;", true)
  | _ => ("RegularRally$OneWay", "this$0", "LRegularRally;", true)
def tyX3 : Nat → FieldType := fun k => match k with
  | 0 => .int
  | 1 => .int
  | 2 => .int
  | 3 => .boolean
  | 4 => .object "RegularRally"
  | _ => .object "RegularRally"
abbrev wsX30 : List Cond := u_ws RX3 TX3 6
-- two fields of one name: no nmX3
theorem tyX3_ok : ∀ k, k < 6 → parseFieldDescriptor (TX3 k).2.2.1 = some (tyX3 k) := by decide +kernel
abbrev cX3_init : ByteArray := prog_8_method_1_code
def yX3_init : MethodName := ⟨RX3, "<init>", "(LRegularRally;III)V"⟩
def dkwX3_init_0 : List UInt8 := [42, 43, 181, 0, 3, 42, 43, 28, 29, 21, 4, 183, 0, 9, 177]
abbrev dktX3_init_0 : List UInt8 := dkwX3_init_0 ++ []
theorem dksX3_init_0 : cX3_init.data.toList.drop 0 = dktX3_init_0 := by decide +kernel
theorem dX3_init_0 : decode cX3_init 0 = .ok (.aload_n 0, 1) := dk_42 (dk_at dksX3_init_0 0 rfl rfl)
theorem dX3_init_1 : decode cX3_init 1 = .ok (.aload_n 1, 1) := dk_43 (dk_at dksX3_init_0 1 rfl rfl)
theorem dX3_init_2 : decode cX3_init 2 = .ok (.putfield 3, 3) := dk_181 0 3 (dk_at dksX3_init_0 2 rfl rfl)
theorem dX3_init_5 : decode cX3_init 5 = .ok (.aload_n 0, 1) := dk_42 (dk_at dksX3_init_0 5 rfl rfl)
theorem dX3_init_6 : decode cX3_init 6 = .ok (.aload_n 1, 1) := dk_43 (dk_at dksX3_init_0 6 rfl rfl)
theorem dX3_init_7 : decode cX3_init 7 = .ok (.iload_n 2, 1) := dk_28 (dk_at dksX3_init_0 7 rfl rfl)
theorem dX3_init_8 : decode cX3_init 8 = .ok (.iload_n 3, 1) := dk_29 (dk_at dksX3_init_0 8 rfl rfl)
theorem dX3_init_9 : decode cX3_init 9 = .ok (.iload 4, 2) := dk_21 4 (dk_at dksX3_init_0 9 rfl rfl)
theorem dX3_init_11 : decode cX3_init 11 = .ok (.invokespecial 9, 3) := dk_183 0 9 (dk_at dksX3_init_0 11 rfl rfl)
theorem dX3_init_14 : decode cX3_init 14 = .ok (.return_, 1) := dk_177 (dk_at dksX3_init_0 14 rfl rfl)
abbrev cX3_kind : ByteArray := prog_8_method_2_code
def yX3_kind : MethodName := ⟨RX3, "kind", "()I"⟩
theorem dX3_kind_0 : decode cX3_kind 0 = .ok (.iconst 1, 1) := by decide +kernel
theorem dX3_kind_1 : decode cX3_kind 1 = .ok (.ireturn, 1) := by decide +kernel
abbrev cX3_from : ByteArray := prog_8_method_3_code
def yX3_from : MethodName := ⟨RX3, "from", "(I)I"⟩
def dkwX3_from_0 : List UInt8 := [27, 42, 180, 0, 15, 160, 0, 8, 16, 247, 167, 0, 8, 42, 27, 183, 0, 19, 172]
abbrev dktX3_from_0 : List UInt8 := dkwX3_from_0 ++ []
theorem dksX3_from_0 : cX3_from.data.toList.drop 0 = dktX3_from_0 := by decide +kernel
theorem dX3_from_0 : decode cX3_from 0 = .ok (.iload_n 1, 1) := dk_27 (dk_at dksX3_from_0 0 rfl rfl)
theorem dX3_from_1 : decode cX3_from 1 = .ok (.aload_n 0, 1) := dk_42 (dk_at dksX3_from_0 1 rfl rfl)
theorem dX3_from_2 : decode cX3_from 2 = .ok (.getfield 15, 3) := dk_180 0 15 (dk_at dksX3_from_0 2 rfl rfl)
theorem dX3_from_5 : decode cX3_from 5 = .ok (.if_icmp .ne 8, 3) := dk_160 0 8 (dk_at dksX3_from_0 5 rfl rfl)
theorem dX3_from_8 : decode cX3_from 8 = .ok (.bipush (-9), 2) := dk_16 247 (dk_at dksX3_from_0 8 rfl rfl)
theorem dX3_from_10 : decode cX3_from 10 = .ok (.goto 8, 3) := dk_167 0 8 (dk_at dksX3_from_0 10 rfl rfl)
theorem dX3_from_13 : decode cX3_from 13 = .ok (.aload_n 0, 1) := dk_42 (dk_at dksX3_from_0 13 rfl rfl)
theorem dX3_from_14 : decode cX3_from 14 = .ok (.iload_n 1, 1) := dk_27 (dk_at dksX3_from_0 14 rfl rfl)
theorem dX3_from_15 : decode cX3_from 15 = .ok (.invokespecial 19, 3) := dk_183 0 19 (dk_at dksX3_from_0 15 rfl rfl)
theorem dX3_from_18 : decode cX3_from 18 = .ok (.ireturn, 1) := dk_172 (dk_at dksX3_from_0 18 rfl rfl)
abbrev cX3_tell : ByteArray := prog_8_method_4_code
def yX3_tell : MethodName := ⟨RX3, "tell", "()I"⟩
def dkwX3_tell_0 : List UInt8 := [42, 180, 0, 3, 5, 182, 0, 23, 4, 42, 183, 0, 27, 96, 172]
abbrev dktX3_tell_0 : List UInt8 := dkwX3_tell_0 ++ []
theorem dksX3_tell_0 : cX3_tell.data.toList.drop 0 = dktX3_tell_0 := by decide +kernel
theorem dX3_tell_0 : decode cX3_tell 0 = .ok (.aload_n 0, 1) := dk_42 (dk_at dksX3_tell_0 0 rfl rfl)
theorem dX3_tell_1 : decode cX3_tell 1 = .ok (.getfield 3, 3) := dk_180 0 3 (dk_at dksX3_tell_0 1 rfl rfl)
theorem dX3_tell_4 : decode cX3_tell 4 = .ok (.iconst 2, 1) := dk_5 (dk_at dksX3_tell_0 4 rfl rfl)
theorem dX3_tell_5 : decode cX3_tell 5 = .ok (.invokevirtual 23, 3) := dk_182 0 23 (dk_at dksX3_tell_0 5 rfl rfl)
theorem dX3_tell_8 : decode cX3_tell 8 = .ok (.iconst 1, 1) := dk_4 (dk_at dksX3_tell_0 8 rfl rfl)
theorem dX3_tell_9 : decode cX3_tell 9 = .ok (.aload_n 0, 1) := dk_42 (dk_at dksX3_tell_0 9 rfl rfl)
theorem dX3_tell_10 : decode cX3_tell 10 = .ok (.invokespecial 27, 3) := dk_183 0 27 (dk_at dksX3_tell_0 10 rfl rfl)
theorem dX3_tell_13 : decode cX3_tell 13 = .ok (.iadd, 1) := dk_96 (dk_at dksX3_tell_0 13 rfl rfl)
theorem dX3_tell_14 : decode cX3_tell 14 = .ok (.ireturn, 1) := dk_172 (dk_at dksX3_tell_0 14 rfl rfl)
theorem q54 : (Jvm.Cond.initialized "RegularRally$OneWay") ∈ lw_all := lw_g (lw_at lw_m1 7 rfl) rfl
theorem q208 : (Jvm.Cond.fieldLink "RegularRally$OneWay" (15 : Nat) "RegularRally$OneWay" "b" "I") ∈ lw_all := lw_g (lw_at lw_m1 161 rfl) rfl
theorem q209 : (Jvm.Cond.sameField "RegularRally$OneWay" "RegularRally$Road" "b" "I") ∈ lw_all := lw_g (lw_at lw_m1 162 rfl) rfl
theorem q228 : (Jvm.Cond.instantiable "RegularRally$OneWay" (6 : Nat)) ∈ lw_all := lw_g (lw_at lw_m1 181 rfl) rfl
theorem q230 : (Jvm.Cond.instanceMethod ({ cls := "RegularRally$OneWay", name := "<init>", desc := "(LRegularRally;III)V" } : Jvm.MethodName)) ∈ lw_all := lw_g (lw_at lw_m1 183 rfl) rfl
theorem q231 : (Jvm.Cond.code ({ cls := "RegularRally$OneWay", name := "<init>", desc := "(LRegularRally;III)V" } : Jvm.MethodName) prog_8_method_1_code (5 : Nat) (Option.none : Option Jvm.ClassFile.FieldType)) ∈ lw_all := lw_g (lw_at lw_m1 184 rfl) rfl
theorem q232 : (Jvm.Cond.methodLink "RegularRally$OneWay" (9 : Nat) ({ cls := "RegularRally$Road", name := "<init>", desc := "(LRegularRally;III)V" } : Jvm.MethodName)) ∈ lw_all := lw_g (lw_at lw_m1 185 rfl) rfl
theorem q233 : (Jvm.Cond.fieldLink "RegularRally$OneWay" (3 : Nat) "RegularRally$OneWay" "this$0" "LRegularRally;") ∈ lw_all := lw_g (lw_at lw_m1 186 rfl) rfl
theorem q234 : (Jvm.Cond.laysFinal "RegularRally$OneWay" "RegularRally$OneWay" "this$0" "LRegularRally;") ∈ lw_all := lw_g (lw_at lw_m1 187 rfl) rfl
theorem q235 : (Jvm.Cond.soleField "RegularRally$OneWay" "this$0") ∈ lw_all := lw_g (lw_at lw_m1 188 rfl) rfl
theorem q236 : (Jvm.Cond.laysFinal "RegularRally$OneWay" "RegularRally$Road" "a" "I") ∈ lw_all := lw_g (lw_at lw_m1 189 rfl) rfl
theorem q237 : (Jvm.Cond.laysFinal "RegularRally$OneWay" "RegularRally$Road" "b" "I") ∈ lw_all := lw_g (lw_at lw_m1 190 rfl) rfl
theorem q238 : (Jvm.Cond.laysFinal "RegularRally$OneWay" "RegularRally$Road" "length" "I") ∈ lw_all := lw_g (lw_at lw_m1 191 rfl) rfl
theorem q239 : (Jvm.Cond.lays "RegularRally$OneWay" "RegularRally$Road" "isShut" "Z") ∈ lw_all := lw_g (lw_at lw_m1 192 rfl) rfl
theorem q240 : (Jvm.Cond.laysFinal "RegularRally$OneWay" "RegularRally$Road" "this$0" "LRegularRally;") ∈ lw_all := lw_g (lw_at lw_m1 193 rfl) rfl
theorem q241 : (Jvm.Cond.superclass "RegularRally$OneWay" "RegularRally$Road") ∈ lw_all := lw_g (lw_at lw_m1 194 rfl) rfl
theorem q304 : (Jvm.Cond.selects "RegularRally$OneWay" ({ cls := "java/lang/Object", name := "getClass", desc := "()Ljava/lang/Class;" } : Jvm.MethodName) ({ cls := "java/lang/Object", name := "getClass", desc := "()Ljava/lang/Class;" } : Jvm.MethodName)) ∈ lw_all := lw_g (lw_at lw_m2 17 rfl) rfl
theorem q461 : (Jvm.Cond.selects "RegularRally$OneWay" ({ cls := "RegularRally$Road", name := "kind", desc := "()I" } : Jvm.MethodName) ({ cls := "RegularRally$OneWay", name := "kind", desc := "()I" } : Jvm.MethodName)) ∈ lw_all := lw_g (lw_at lw_m2 174 rfl) rfl
theorem q462 : (Jvm.Cond.instanceMethod ({ cls := "RegularRally$OneWay", name := "kind", desc := "()I" } : Jvm.MethodName)) ∈ lw_all := lw_g (lw_at lw_m2 175 rfl) rfl
theorem q463 : (Jvm.Cond.code ({ cls := "RegularRally$OneWay", name := "kind", desc := "()I" } : Jvm.MethodName) prog_8_method_2_code (1 : Nat) (Option.some Jvm.ClassFile.FieldType.int)) ∈ lw_all := lw_g (lw_at lw_m2 176 rfl) rfl
theorem q473 : (Jvm.Cond.selects "RegularRally$OneWay" ({ cls := "RegularRally$Road", name := "isOpen", desc := "()Z" } : Jvm.MethodName) ({ cls := "RegularRally$Road", name := "isOpen", desc := "()Z" } : Jvm.MethodName)) ∈ lw_all := lw_g (lw_at lw_m2 186 rfl) rfl
theorem q494 : (Jvm.Cond.selects "RegularRally$OneWay" ({ cls := "RegularRally$Road", name := "from", desc := "(I)I" } : Jvm.MethodName) ({ cls := "RegularRally$OneWay", name := "from", desc := "(I)I" } : Jvm.MethodName)) ∈ lw_all := lw_g (lw_at lw_m2 207 rfl) rfl
theorem q495 : (Jvm.Cond.instanceMethod ({ cls := "RegularRally$OneWay", name := "from", desc := "(I)I" } : Jvm.MethodName)) ∈ lw_all := lw_g (lw_at lw_m2 208 rfl) rfl
theorem q496 : (Jvm.Cond.code ({ cls := "RegularRally$OneWay", name := "from", desc := "(I)I" } : Jvm.MethodName) prog_8_method_3_code (2 : Nat) (Option.some Jvm.ClassFile.FieldType.int)) ∈ lw_all := lw_g (lw_at lw_m2 209 rfl) rfl
theorem q497 : (Jvm.Cond.methodLink "RegularRally$OneWay" (19 : Nat) ({ cls := "RegularRally$Road", name := "from", desc := "(I)I" } : Jvm.MethodName)) ∈ lw_all := lw_g (lw_at lw_m2 210 rfl) rfl
theorem q992 : (Jvm.Cond.selects "RegularRally$OneWay" ({ cls := "RegularRally$Road", name := "tell", desc := "()I" } : Jvm.MethodName) ({ cls := "RegularRally$OneWay", name := "tell", desc := "()I" } : Jvm.MethodName)) ∈ lw_all := lw_g (lw_at lw_m4 225 rfl) rfl
theorem q993 : (Jvm.Cond.instanceMethod ({ cls := "RegularRally$OneWay", name := "tell", desc := "()I" } : Jvm.MethodName)) ∈ lw_all := lw_g (lw_at lw_m4 226 rfl) rfl
theorem q994 : (Jvm.Cond.code ({ cls := "RegularRally$OneWay", name := "tell", desc := "()I" } : Jvm.MethodName) prog_8_method_4_code (1 : Nat) (Option.some Jvm.ClassFile.FieldType.int)) ∈ lw_all := lw_g (lw_at lw_m4 227 rfl) rfl
theorem q995 : (Jvm.Cond.methodLinkNest "RegularRally$OneWay" (23 : Nat) ({ cls := "RegularRally", name := "begins", desc := "(I)V" } : Jvm.MethodName) "RegularRally") ∈ lw_tbl := lw_at lw_m4 228 rfl
theorem q996 : (Jvm.Cond.methodLink "RegularRally$OneWay" (27 : Nat) ({ cls := "RegularRally$Road", name := "tell", desc := "()I" } : Jvm.MethodName)) ∈ lw_all := lw_g (lw_at lw_m4 229 rfl) rfl
theorem q1500 : (Jvm.Cond.castable "RegularRally$OneWay" "RegularRally$Road") ∈ lw_tbl := lw_at lw_m7 13 rfl
theorem q1508 : (Jvm.Cond.castable "RegularRally$OneWay" "java/lang/Object") ∈ lw_tbl := lw_at lw_m7 21 rfl
theorem in_X3 : ∀ w ∈ wsX30, w ∈ lw_all := lw_in wsX30 [236, 237, 238, 239, 240, 234] (by decide +kernel) (by decide +kernel)

/-! RegularRally$Ford -/
set_option maxRecDepth 100000
def RX4 : String := "RegularRally$Ford"
def TX4 : u_T := fun k => match k with
  | 0 => ("RegularRally$Road", "a", "I", true)
  | 1 => ("RegularRally$Road", "b", "I", true)
  | 2 => ("RegularRally$Road", "length", "I", true)
  | 3 => ("RegularRally$Road", "isShut", "Z", false)
  | 4 => ("RegularRally$Road", "this$0", "LRegularRally;", true)
  | 5 => ("RegularRally$Ford", "isWet", "Z", false)
  | _ => ("RegularRally$Ford", "this$0", "LRegularRally;", true)
def tyX4 : Nat → FieldType := fun k => match k with
  | 0 => .int
  | 1 => .int
  | 2 => .int
  | 3 => .boolean
  | 4 => .object "RegularRally"
  | 5 => .boolean
  | _ => .object "RegularRally"
abbrev wsX40 : List Cond := u_ws RX4 TX4 7
-- two fields of one name: no nmX4
theorem tyX4_ok : ∀ k, k < 7 → parseFieldDescriptor (TX4 k).2.2.1 = some (tyX4 k) := by decide +kernel
abbrev cX4_init : ByteArray := prog_4_method_1_code
def yX4_init : MethodName := ⟨RX4, "<init>", "(LRegularRally;III)V"⟩
def dkwX4_init_0 : List UInt8 := [42, 43, 181, 0, 1, 42, 43, 28, 29, 21, 4, 183, 0, 7, 177]
abbrev dktX4_init_0 : List UInt8 := dkwX4_init_0 ++ []
theorem dksX4_init_0 : cX4_init.data.toList.drop 0 = dktX4_init_0 := by decide +kernel
theorem dX4_init_0 : decode cX4_init 0 = .ok (.aload_n 0, 1) := dk_42 (dk_at dksX4_init_0 0 rfl rfl)
theorem dX4_init_1 : decode cX4_init 1 = .ok (.aload_n 1, 1) := dk_43 (dk_at dksX4_init_0 1 rfl rfl)
theorem dX4_init_2 : decode cX4_init 2 = .ok (.putfield 1, 3) := dk_181 0 1 (dk_at dksX4_init_0 2 rfl rfl)
theorem dX4_init_5 : decode cX4_init 5 = .ok (.aload_n 0, 1) := dk_42 (dk_at dksX4_init_0 5 rfl rfl)
theorem dX4_init_6 : decode cX4_init 6 = .ok (.aload_n 1, 1) := dk_43 (dk_at dksX4_init_0 6 rfl rfl)
theorem dX4_init_7 : decode cX4_init 7 = .ok (.iload_n 2, 1) := dk_28 (dk_at dksX4_init_0 7 rfl rfl)
theorem dX4_init_8 : decode cX4_init 8 = .ok (.iload_n 3, 1) := dk_29 (dk_at dksX4_init_0 8 rfl rfl)
theorem dX4_init_9 : decode cX4_init 9 = .ok (.iload 4, 2) := dk_21 4 (dk_at dksX4_init_0 9 rfl rfl)
theorem dX4_init_11 : decode cX4_init 11 = .ok (.invokespecial 7, 3) := dk_183 0 7 (dk_at dksX4_init_0 11 rfl rfl)
theorem dX4_init_14 : decode cX4_init 14 = .ok (.return_, 1) := dk_177 (dk_at dksX4_init_0 14 rfl rfl)
abbrev cX4_kind : ByteArray := prog_4_method_2_code
def yX4_kind : MethodName := ⟨RX4, "kind", "()I"⟩
theorem dX4_kind_0 : decode cX4_kind 0 = .ok (.iconst 2, 1) := by decide +kernel
theorem dX4_kind_1 : decode cX4_kind 1 = .ok (.ireturn, 1) := by decide +kernel
abbrev cX4_isOpen : ByteArray := prog_4_method_3_code
def yX4_isOpen : MethodName := ⟨RX4, "isOpen", "()Z"⟩
def dkwX4_isOpen_0 : List UInt8 := [42, 180, 0, 13, 154, 0, 14, 42, 183, 0, 17, 153, 0, 7, 4, 167, 0, 4, 3, 172]
abbrev dktX4_isOpen_0 : List UInt8 := dkwX4_isOpen_0 ++ []
theorem dksX4_isOpen_0 : cX4_isOpen.data.toList.drop 0 = dktX4_isOpen_0 := by decide +kernel
theorem dX4_isOpen_0 : decode cX4_isOpen 0 = .ok (.aload_n 0, 1) := dk_42 (dk_at dksX4_isOpen_0 0 rfl rfl)
theorem dX4_isOpen_1 : decode cX4_isOpen 1 = .ok (.getfield 13, 3) := dk_180 0 13 (dk_at dksX4_isOpen_0 1 rfl rfl)
theorem dX4_isOpen_4 : decode cX4_isOpen 4 = .ok (.ifCond .ne 14, 3) := dk_154 0 14 (dk_at dksX4_isOpen_0 4 rfl rfl)
theorem dX4_isOpen_7 : decode cX4_isOpen 7 = .ok (.aload_n 0, 1) := dk_42 (dk_at dksX4_isOpen_0 7 rfl rfl)
theorem dX4_isOpen_8 : decode cX4_isOpen 8 = .ok (.invokespecial 17, 3) := dk_183 0 17 (dk_at dksX4_isOpen_0 8 rfl rfl)
theorem dX4_isOpen_11 : decode cX4_isOpen 11 = .ok (.ifCond .eq 7, 3) := dk_153 0 7 (dk_at dksX4_isOpen_0 11 rfl rfl)
theorem dX4_isOpen_14 : decode cX4_isOpen 14 = .ok (.iconst 1, 1) := dk_4 (dk_at dksX4_isOpen_0 14 rfl rfl)
theorem dX4_isOpen_15 : decode cX4_isOpen 15 = .ok (.goto 4, 3) := dk_167 0 4 (dk_at dksX4_isOpen_0 15 rfl rfl)
theorem dX4_isOpen_18 : decode cX4_isOpen 18 = .ok (.iconst 0, 1) := dk_3 (dk_at dksX4_isOpen_0 18 rfl rfl)
theorem dX4_isOpen_19 : decode cX4_isOpen 19 = .ok (.ireturn, 1) := dk_172 (dk_at dksX4_isOpen_0 19 rfl rfl)
abbrev cX4_tell : ByteArray := prog_4_method_4_code
def yX4_tell : MethodName := ⟨RX4, "tell", "()I"⟩
def dkwX4_tell_1 : List UInt8 := [167, 0, 4, 27, 172]
abbrev dktX4_tell_1 : List UInt8 := dkwX4_tell_1 ++ []
def dkwX4_tell_0 : List UInt8 := [42, 180, 0, 1, 6, 182, 0, 21, 42, 183, 0, 27, 60, 42, 180, 0, 13, 153, 0, 8, 27, 116]
abbrev dktX4_tell_0 : List UInt8 := dkwX4_tell_0 ++ dktX4_tell_1
theorem dksX4_tell_0 : cX4_tell.data.toList.drop 0 = dktX4_tell_0 := by decide +kernel
theorem dksX4_tell_1 : cX4_tell.data.toList.drop 22 = dktX4_tell_1 := dk_seg dksX4_tell_0 22 rfl rfl
theorem dX4_tell_0 : decode cX4_tell 0 = .ok (.aload_n 0, 1) := dk_42 (dk_at dksX4_tell_0 0 rfl rfl)
theorem dX4_tell_1 : decode cX4_tell 1 = .ok (.getfield 1, 3) := dk_180 0 1 (dk_at dksX4_tell_0 1 rfl rfl)
theorem dX4_tell_4 : decode cX4_tell 4 = .ok (.iconst 3, 1) := dk_6 (dk_at dksX4_tell_0 4 rfl rfl)
theorem dX4_tell_5 : decode cX4_tell 5 = .ok (.invokevirtual 21, 3) := dk_182 0 21 (dk_at dksX4_tell_0 5 rfl rfl)
theorem dX4_tell_8 : decode cX4_tell 8 = .ok (.aload_n 0, 1) := dk_42 (dk_at dksX4_tell_0 8 rfl rfl)
theorem dX4_tell_9 : decode cX4_tell 9 = .ok (.invokespecial 27, 3) := dk_183 0 27 (dk_at dksX4_tell_0 9 rfl rfl)
theorem dX4_tell_12 : decode cX4_tell 12 = .ok (.istore_n 1, 1) := dk_60 (dk_at dksX4_tell_0 12 rfl rfl)
theorem dX4_tell_13 : decode cX4_tell 13 = .ok (.aload_n 0, 1) := dk_42 (dk_at dksX4_tell_0 13 rfl rfl)
theorem dX4_tell_14 : decode cX4_tell 14 = .ok (.getfield 13, 3) := dk_180 0 13 (dk_at dksX4_tell_0 14 rfl rfl)
theorem dX4_tell_17 : decode cX4_tell 17 = .ok (.ifCond .eq 8, 3) := dk_153 0 8 (dk_at dksX4_tell_0 17 rfl rfl)
theorem dX4_tell_20 : decode cX4_tell 20 = .ok (.iload_n 1, 1) := dk_27 (dk_at dksX4_tell_0 20 rfl rfl)
theorem dX4_tell_21 : decode cX4_tell 21 = .ok (.ineg, 1) := dk_116 (dk_at dksX4_tell_0 21 rfl rfl)
theorem dX4_tell_22 : decode cX4_tell 22 = .ok (.goto 4, 3) := dk_167 0 4 (dk_at dksX4_tell_1 0 rfl rfl)
theorem dX4_tell_25 : decode cX4_tell 25 = .ok (.iload_n 1, 1) := dk_27 (dk_at dksX4_tell_1 3 rfl rfl)
theorem dX4_tell_26 : decode cX4_tell 26 = .ok (.ireturn, 1) := dk_172 (dk_at dksX4_tell_1 4 rfl rfl)
theorem q55 : (Jvm.Cond.initialized "RegularRally$Ford") ∈ lw_all := lw_g (lw_at lw_m1 8 rfl) rfl
theorem q243 : (Jvm.Cond.instantiable "RegularRally$Ford" (7 : Nat)) ∈ lw_all := lw_g (lw_at lw_m1 196 rfl) rfl
theorem q245 : (Jvm.Cond.instanceMethod ({ cls := "RegularRally$Ford", name := "<init>", desc := "(LRegularRally;III)V" } : Jvm.MethodName)) ∈ lw_all := lw_g (lw_at lw_m1 198 rfl) rfl
theorem q246 : (Jvm.Cond.code ({ cls := "RegularRally$Ford", name := "<init>", desc := "(LRegularRally;III)V" } : Jvm.MethodName) prog_4_method_1_code (5 : Nat) (Option.none : Option Jvm.ClassFile.FieldType)) ∈ lw_all := lw_g (lw_at lw_m1 199 rfl) rfl
theorem q247 : (Jvm.Cond.methodLink "RegularRally$Ford" (7 : Nat) ({ cls := "RegularRally$Road", name := "<init>", desc := "(LRegularRally;III)V" } : Jvm.MethodName)) ∈ lw_all := lw_g (lw_at lw_m1 200 rfl) rfl
theorem q248 : (Jvm.Cond.fieldLink "RegularRally$Ford" (13 : Nat) "RegularRally$Ford" "isWet" "Z") ∈ lw_all := lw_g (lw_at lw_m1 201 rfl) rfl
theorem q250 : (Jvm.Cond.fieldLink "RegularRally$Ford" (1 : Nat) "RegularRally$Ford" "this$0" "LRegularRally;") ∈ lw_all := lw_g (lw_at lw_m1 203 rfl) rfl
theorem q251 : (Jvm.Cond.lays "RegularRally$Ford" "RegularRally$Ford" "isWet" "Z") ∈ lw_all := lw_g (lw_at lw_m1 204 rfl) rfl
theorem q252 : (Jvm.Cond.soleField "RegularRally$Ford" "isWet") ∈ lw_all := lw_g (lw_at lw_m1 205 rfl) rfl
theorem q253 : (Jvm.Cond.laysFinal "RegularRally$Ford" "RegularRally$Ford" "this$0" "LRegularRally;") ∈ lw_all := lw_g (lw_at lw_m1 206 rfl) rfl
theorem q254 : (Jvm.Cond.soleField "RegularRally$Ford" "this$0") ∈ lw_all := lw_g (lw_at lw_m1 207 rfl) rfl
theorem q255 : (Jvm.Cond.laysFinal "RegularRally$Ford" "RegularRally$Road" "a" "I") ∈ lw_all := lw_g (lw_at lw_m1 208 rfl) rfl
theorem q256 : (Jvm.Cond.laysFinal "RegularRally$Ford" "RegularRally$Road" "b" "I") ∈ lw_all := lw_g (lw_at lw_m1 209 rfl) rfl
theorem q257 : (Jvm.Cond.laysFinal "RegularRally$Ford" "RegularRally$Road" "length" "I") ∈ lw_all := lw_g (lw_at lw_m1 210 rfl) rfl
theorem q258 : (Jvm.Cond.lays "RegularRally$Ford" "RegularRally$Road" "isShut" "Z") ∈ lw_all := lw_g (lw_at lw_m1 211 rfl) rfl
theorem q259 : (Jvm.Cond.laysFinal "RegularRally$Ford" "RegularRally$Road" "this$0" "LRegularRally;") ∈ lw_all := lw_g (lw_at lw_m1 212 rfl) rfl
theorem q260 : (Jvm.Cond.superclass "RegularRally$Ford" "RegularRally$Road") ∈ lw_all := lw_g (lw_at lw_m1 213 rfl) rfl
theorem q301 : (Jvm.Cond.selects "RegularRally$Ford" ({ cls := "java/lang/Object", name := "getClass", desc := "()Ljava/lang/Class;" } : Jvm.MethodName) ({ cls := "java/lang/Object", name := "getClass", desc := "()Ljava/lang/Class;" } : Jvm.MethodName)) ∈ lw_all := lw_g (lw_at lw_m2 14 rfl) rfl
theorem q458 : (Jvm.Cond.selects "RegularRally$Ford" ({ cls := "RegularRally$Road", name := "kind", desc := "()I" } : Jvm.MethodName) ({ cls := "RegularRally$Ford", name := "kind", desc := "()I" } : Jvm.MethodName)) ∈ lw_all := lw_g (lw_at lw_m2 171 rfl) rfl
theorem q459 : (Jvm.Cond.instanceMethod ({ cls := "RegularRally$Ford", name := "kind", desc := "()I" } : Jvm.MethodName)) ∈ lw_all := lw_g (lw_at lw_m2 172 rfl) rfl
theorem q460 : (Jvm.Cond.code ({ cls := "RegularRally$Ford", name := "kind", desc := "()I" } : Jvm.MethodName) prog_4_method_2_code (1 : Nat) (Option.some Jvm.ClassFile.FieldType.int)) ∈ lw_all := lw_g (lw_at lw_m2 173 rfl) rfl
theorem q469 : (Jvm.Cond.selects "RegularRally$Ford" ({ cls := "RegularRally$Road", name := "isOpen", desc := "()Z" } : Jvm.MethodName) ({ cls := "RegularRally$Ford", name := "isOpen", desc := "()Z" } : Jvm.MethodName)) ∈ lw_all := lw_g (lw_at lw_m2 182 rfl) rfl
theorem q470 : (Jvm.Cond.instanceMethod ({ cls := "RegularRally$Ford", name := "isOpen", desc := "()Z" } : Jvm.MethodName)) ∈ lw_all := lw_g (lw_at lw_m2 183 rfl) rfl
theorem q471 : (Jvm.Cond.code ({ cls := "RegularRally$Ford", name := "isOpen", desc := "()Z" } : Jvm.MethodName) prog_4_method_3_code (1 : Nat) (Option.some Jvm.ClassFile.FieldType.boolean)) ∈ lw_all := lw_g (lw_at lw_m2 184 rfl) rfl
theorem q472 : (Jvm.Cond.methodLink "RegularRally$Ford" (17 : Nat) ({ cls := "RegularRally$Road", name := "isOpen", desc := "()Z" } : Jvm.MethodName)) ∈ lw_all := lw_g (lw_at lw_m2 185 rfl) rfl
theorem q493 : (Jvm.Cond.selects "RegularRally$Ford" ({ cls := "RegularRally$Road", name := "from", desc := "(I)I" } : Jvm.MethodName) ({ cls := "RegularRally$Road", name := "from", desc := "(I)I" } : Jvm.MethodName)) ∈ lw_all := lw_g (lw_at lw_m2 206 rfl) rfl
theorem q984 : (Jvm.Cond.selects "RegularRally$Ford" ({ cls := "RegularRally$Road", name := "tell", desc := "()I" } : Jvm.MethodName) ({ cls := "RegularRally$Ford", name := "tell", desc := "()I" } : Jvm.MethodName)) ∈ lw_all := lw_g (lw_at lw_m4 217 rfl) rfl
theorem q985 : (Jvm.Cond.instanceMethod ({ cls := "RegularRally$Ford", name := "tell", desc := "()I" } : Jvm.MethodName)) ∈ lw_all := lw_g (lw_at lw_m4 218 rfl) rfl
theorem q986 : (Jvm.Cond.code ({ cls := "RegularRally$Ford", name := "tell", desc := "()I" } : Jvm.MethodName) prog_4_method_4_code (2 : Nat) (Option.some Jvm.ClassFile.FieldType.int)) ∈ lw_all := lw_g (lw_at lw_m4 219 rfl) rfl
theorem q987 : (Jvm.Cond.methodLinkNest "RegularRally$Ford" (21 : Nat) ({ cls := "RegularRally", name := "begins", desc := "(I)V" } : Jvm.MethodName) "RegularRally") ∈ lw_tbl := lw_at lw_m4 220 rfl
theorem q991 : (Jvm.Cond.methodLink "RegularRally$Ford" (27 : Nat) ({ cls := "RegularRally$Road", name := "tell", desc := "()I" } : Jvm.MethodName)) ∈ lw_all := lw_g (lw_at lw_m4 224 rfl) rfl
theorem q1499 : (Jvm.Cond.castable "RegularRally$Ford" "RegularRally$Road") ∈ lw_tbl := lw_at lw_m7 12 rfl
theorem q1509 : (Jvm.Cond.castable "RegularRally$Ford" "java/lang/Object") ∈ lw_tbl := lw_at lw_m7 22 rfl
theorem in_X4 : ∀ w ∈ wsX40, w ∈ lw_all := lw_in wsX40 [255, 256, 257, 258, 259, 251, 253] (by decide +kernel) (by decide +kernel)

/-! RegularRally$Spent -/
set_option maxRecDepth 100000
def RX5 : String := "RegularRally$Spent"
def TX5 : u_T := fun k => match k with
  | 0 => ("java/lang/Throwable", "cause", "Ljava/lang/Throwable;", false)
  | 1 => ("java/lang/Throwable", "stackTrace", "[Ljava/lang/StackTraceElement;", false)
  | 2 => ("java/lang/Throwable", "suppressedExceptions", "Ljava/util/List;", false)
  | 3 => ("java/lang/Throwable", "detailMessage", "Ljava/lang/String;", false)
  | 4 => ("java/lang/Throwable", "backtrace", "Ljava/lang/Object;", false)
  | _ => ("java/lang/Throwable", "depth", "I", false)
def tyX5 : Nat → FieldType := fun k => match k with
  | 0 => .object "java/lang/Throwable"
  | 1 => .array (.object "java/lang/StackTraceElement")
  | 2 => .object "java/util/List"
  | 3 => .object "java/lang/String"
  | 4 => .object "java/lang/Object"
  | _ => .int
abbrev wsX50 : List Cond := u_ws RX5 TX5 6
theorem nmX5 : ∀ a, a < 6 → ∀ b, b < 6 → a ≠ b → (TX5 a).2.1 ≠ (TX5 b).2.1 := by decide +kernel
theorem tyX5_ok : ∀ k, k < 6 → parseFieldDescriptor (TX5 k).2.2.1 = some (tyX5 k) := by decide +kernel
abbrev cX5_init : ByteArray := prog_10_method_1_code
def yX5_init : MethodName := ⟨RX5, "<init>", "()V"⟩
def dkwX5_init_0 : List UInt8 := [42, 18, 1, 1, 3, 3, 183, 0, 3, 177]
abbrev dktX5_init_0 : List UInt8 := dkwX5_init_0 ++ []
theorem dksX5_init_0 : cX5_init.data.toList.drop 0 = dktX5_init_0 := by decide +kernel
theorem dX5_init_0 : decode cX5_init 0 = .ok (.aload_n 0, 1) := dk_42 (dk_at dksX5_init_0 0 rfl rfl)
theorem dX5_init_1 : decode cX5_init 1 = .ok (.ldc 1, 2) := dk_18 1 (dk_at dksX5_init_0 1 rfl rfl)
theorem dX5_init_3 : decode cX5_init 3 = .ok (.aconst_null, 1) := dk_1 (dk_at dksX5_init_0 3 rfl rfl)
theorem dX5_init_4 : decode cX5_init 4 = .ok (.iconst 0, 1) := dk_3 (dk_at dksX5_init_0 4 rfl rfl)
theorem dX5_init_5 : decode cX5_init 5 = .ok (.iconst 0, 1) := dk_3 (dk_at dksX5_init_0 5 rfl rfl)
theorem dX5_init_6 : decode cX5_init 6 = .ok (.invokespecial 3, 3) := dk_183 0 3 (dk_at dksX5_init_0 6 rfl rfl)
theorem dX5_init_9 : decode cX5_init 9 = .ok (.return_, 1) := dk_177 (dk_at dksX5_init_0 9 rfl rfl)
theorem q71 : (Jvm.Cond.initialized "RegularRally$Spent") ∈ lw_all := lw_g (lw_at lw_m1 24 rfl) rfl
theorem q306 : (Jvm.Cond.selects "RegularRally$Spent" ({ cls := "java/lang/Object", name := "getClass", desc := "()Ljava/lang/Class;" } : Jvm.MethodName) ({ cls := "java/lang/Object", name := "getClass", desc := "()Ljava/lang/Class;" } : Jvm.MethodName)) ∈ lw_all := lw_g (lw_at lw_m2 19 rfl) rfl
theorem q380 : (Jvm.Cond.selects "RegularRally$Spent" ({ cls := "java/lang/Throwable", name := "fillInStackTrace", desc := "()Ljava/lang/Throwable;" } : Jvm.MethodName) ({ cls := "java/lang/Throwable", name := "fillInStackTrace", desc := "()Ljava/lang/Throwable;" } : Jvm.MethodName)) ∈ lw_all := lw_g (lw_at lw_m2 93 rfl) rfl
theorem q501 : (Jvm.Cond.instantiable "RegularRally$Spent" (6 : Nat)) ∈ lw_all := lw_g (lw_at lw_m2 214 rfl) rfl
theorem q502 : (Jvm.Cond.castable "RegularRally$Spent" "RegularRally$Spent") ∈ lw_tbl := lw_at lw_m2 215 rfl
theorem q503 : (Jvm.Cond.selects "RegularRally$Spent" ({ cls := "java/lang/Throwable", name := "fillInStackTrace", desc := "(I)Ljava/lang/Throwable;" } : Jvm.MethodName) ({ cls := "java/lang/Throwable", name := "fillInStackTrace", desc := "(I)Ljava/lang/Throwable;" } : Jvm.MethodName)) ∈ lw_all := lw_g (lw_at lw_m2 216 rfl) rfl
theorem q504 : (Jvm.Cond.lays "RegularRally$Spent" "java/lang/Throwable" "cause" "Ljava/lang/Throwable;") ∈ lw_all := lw_g (lw_at lw_m2 217 rfl) rfl
theorem q505 : (Jvm.Cond.lays "RegularRally$Spent" "java/lang/Throwable" "stackTrace" "[Ljava/lang/StackTraceElement;") ∈ lw_all := lw_g (lw_at lw_m2 218 rfl) rfl
theorem q506 : (Jvm.Cond.lays "RegularRally$Spent" "java/lang/Throwable" "suppressedExceptions" "Ljava/util/List;") ∈ lw_all := lw_g (lw_at lw_m2 219 rfl) rfl
theorem q507 : (Jvm.Cond.lays "RegularRally$Spent" "java/lang/Throwable" "detailMessage" "Ljava/lang/String;") ∈ lw_all := lw_g (lw_at lw_m2 220 rfl) rfl
theorem q508 : (Jvm.Cond.lays "RegularRally$Spent" "java/lang/Throwable" "backtrace" "Ljava/lang/Object;") ∈ lw_all := lw_g (lw_at lw_m2 221 rfl) rfl
theorem q510 : (Jvm.Cond.instanceMethod ({ cls := "RegularRally$Spent", name := "<init>", desc := "()V" } : Jvm.MethodName)) ∈ lw_all := lw_g (lw_at lw_m2 223 rfl) rfl
theorem q511 : (Jvm.Cond.code ({ cls := "RegularRally$Spent", name := "<init>", desc := "()V" } : Jvm.MethodName) prog_10_method_1_code (1 : Nat) (Option.none : Option Jvm.ClassFile.FieldType)) ∈ lw_all := lw_g (lw_at lw_m2 224 rfl) rfl
theorem q512 : (Jvm.Cond.stringRef "RegularRally$Spent" (1 : Nat) "spent") ∈ lw_tbl := lw_at lw_m2 225 rfl
theorem q513 : (Jvm.Cond.methodLink "RegularRally$Spent" (3 : Nat) ({ cls := "java/lang/Exception", name := "<init>", desc := "(Ljava/lang/String;Ljava/lang/Throwable;ZZ)V" } : Jvm.MethodName)) ∈ lw_all := lw_g (lw_at lw_m2 226 rfl) rfl
theorem q519 : (Jvm.Cond.lays "RegularRally$Spent" "java/lang/Throwable" "depth" "I") ∈ lw_all := lw_g (lw_at lw_m2 232 rfl) rfl
theorem q520 : (Jvm.Cond.superclass "RegularRally$Spent" "java/lang/Exception") ∈ lw_all := lw_g (lw_at lw_m2 233 rfl) rfl
theorem q1514 : (Jvm.Cond.castable "RegularRally$Spent" "java/lang/Object") ∈ lw_tbl := lw_at lw_m7 27 rfl
theorem in_X5 : ∀ w ∈ wsX50, w ∈ lw_all := lw_in wsX50 [504, 505, 506, 507, 508, 519] (by decide +kernel) (by decide +kernel)

/-! RegularRally$Control -/
set_option maxRecDepth 100000
def RX6 : String := "RegularRally$Control"
def TX6 : u_T := fun k => match k with
  | 0 => ("RegularRally$Control", "place", "I", true)
  | 1 => ("RegularRally$Control", "isStruck", "Z", false)
  | 2 => ("RegularRally$Control", "isChecked", "Z", false)
  | 3 => ("RegularRally$Control", "a", "I", false)
  | 4 => ("RegularRally$Control", "b", "I", false)
  | 5 => ("RegularRally$Control", "c", "I", false)
  | _ => ("RegularRally$Control", "d", "I", false)
def tyX6 : Nat → FieldType := fun k => match k with
  | 0 => .int
  | 1 => .boolean
  | 2 => .boolean
  | 3 => .int
  | 4 => .int
  | 5 => .int
  | _ => .int
abbrev wsX60 : List Cond := u_ws RX6 TX6 7
theorem nmX6 : ∀ a, a < 7 → ∀ b, b < 7 → a ≠ b → (TX6 a).2.1 ≠ (TX6 b).2.1 := by decide +kernel
theorem tyX6_ok : ∀ k, k < 7 → parseFieldDescriptor (TX6 k).2.2.1 = some (tyX6 k) := by decide +kernel
abbrev cX6_init : ByteArray := prog_3_method_1_code
def yX6_init : MethodName := ⟨RX6, "<init>", "(I)V"⟩
def dkwX6_init_0 : List UInt8 := [42, 183, 0, 1, 42, 27, 181, 0, 7, 177]
abbrev dktX6_init_0 : List UInt8 := dkwX6_init_0 ++ []
theorem dksX6_init_0 : cX6_init.data.toList.drop 0 = dktX6_init_0 := by decide +kernel
theorem dX6_init_0 : decode cX6_init 0 = .ok (.aload_n 0, 1) := dk_42 (dk_at dksX6_init_0 0 rfl rfl)
theorem dX6_init_1 : decode cX6_init 1 = .ok (.invokespecial 1, 3) := dk_183 0 1 (dk_at dksX6_init_0 1 rfl rfl)
theorem dX6_init_4 : decode cX6_init 4 = .ok (.aload_n 0, 1) := dk_42 (dk_at dksX6_init_0 4 rfl rfl)
theorem dX6_init_5 : decode cX6_init 5 = .ok (.iload_n 1, 1) := dk_27 (dk_at dksX6_init_0 5 rfl rfl)
theorem dX6_init_6 : decode cX6_init 6 = .ok (.putfield 7, 3) := dk_181 0 7 (dk_at dksX6_init_0 6 rfl rfl)
theorem dX6_init_9 : decode cX6_init 9 = .ok (.return_, 1) := dk_177 (dk_at dksX6_init_0 9 rfl rfl)
abbrev cX6_right : ByteArray := prog_3_method_2_code
def yX6_right : MethodName := ⟨RX6, "right", "(I)J"⟩
def dkwX6_right_2 : List UInt8 := [173]
abbrev dktX6_right_2 : List UInt8 := dkwX6_right_2 ++ []
def dkwX6_right_1 : List UInt8 := [42, 180, 0, 17, 100, 133, 105, 42, 180, 0, 26, 42, 180, 0, 20, 100, 133, 109, 97, 167, 0, 5, 27, 133]
abbrev dktX6_right_1 : List UInt8 := dkwX6_right_1 ++ dktX6_right_2
def dkwX6_right_0 : List UInt8 := [42, 180, 0, 13, 153, 0, 42, 42, 180, 0, 17, 133, 27, 133, 42, 180, 0, 20, 133, 101, 42, 180, 0, 23]
abbrev dktX6_right_0 : List UInt8 := dkwX6_right_0 ++ dktX6_right_1
theorem dksX6_right_0 : cX6_right.data.toList.drop 0 = dktX6_right_0 := by decide +kernel
theorem dksX6_right_1 : cX6_right.data.toList.drop 24 = dktX6_right_1 := dk_seg dksX6_right_0 24 rfl rfl
theorem dksX6_right_2 : cX6_right.data.toList.drop 48 = dktX6_right_2 := dk_seg dksX6_right_1 24 rfl rfl
theorem dX6_right_0 : decode cX6_right 0 = .ok (.aload_n 0, 1) := dk_42 (dk_at dksX6_right_0 0 rfl rfl)
theorem dX6_right_1 : decode cX6_right 1 = .ok (.getfield 13, 3) := dk_180 0 13 (dk_at dksX6_right_0 1 rfl rfl)
theorem dX6_right_4 : decode cX6_right 4 = .ok (.ifCond .eq 42, 3) := dk_153 0 42 (dk_at dksX6_right_0 4 rfl rfl)
theorem dX6_right_7 : decode cX6_right 7 = .ok (.aload_n 0, 1) := dk_42 (dk_at dksX6_right_0 7 rfl rfl)
theorem dX6_right_8 : decode cX6_right 8 = .ok (.getfield 17, 3) := dk_180 0 17 (dk_at dksX6_right_0 8 rfl rfl)
theorem dX6_right_11 : decode cX6_right 11 = .ok (.i2l, 1) := dk_133 (dk_at dksX6_right_0 11 rfl rfl)
theorem dX6_right_12 : decode cX6_right 12 = .ok (.iload_n 1, 1) := dk_27 (dk_at dksX6_right_0 12 rfl rfl)
theorem dX6_right_13 : decode cX6_right 13 = .ok (.i2l, 1) := dk_133 (dk_at dksX6_right_0 13 rfl rfl)
theorem dX6_right_14 : decode cX6_right 14 = .ok (.aload_n 0, 1) := dk_42 (dk_at dksX6_right_0 14 rfl rfl)
theorem dX6_right_15 : decode cX6_right 15 = .ok (.getfield 20, 3) := dk_180 0 20 (dk_at dksX6_right_0 15 rfl rfl)
theorem dX6_right_18 : decode cX6_right 18 = .ok (.i2l, 1) := dk_133 (dk_at dksX6_right_0 18 rfl rfl)
theorem dX6_right_19 : decode cX6_right 19 = .ok (.lsub, 1) := dk_101 (dk_at dksX6_right_0 19 rfl rfl)
theorem dX6_right_20 : decode cX6_right 20 = .ok (.aload_n 0, 1) := dk_42 (dk_at dksX6_right_0 20 rfl rfl)
theorem dX6_right_21 : decode cX6_right 21 = .ok (.getfield 23, 3) := dk_180 0 23 (dk_at dksX6_right_0 21 rfl rfl)
theorem dX6_right_24 : decode cX6_right 24 = .ok (.aload_n 0, 1) := dk_42 (dk_at dksX6_right_1 0 rfl rfl)
theorem dX6_right_25 : decode cX6_right 25 = .ok (.getfield 17, 3) := dk_180 0 17 (dk_at dksX6_right_1 1 rfl rfl)
theorem dX6_right_28 : decode cX6_right 28 = .ok (.isub, 1) := dk_100 (dk_at dksX6_right_1 4 rfl rfl)
theorem dX6_right_29 : decode cX6_right 29 = .ok (.i2l, 1) := dk_133 (dk_at dksX6_right_1 5 rfl rfl)
theorem dX6_right_30 : decode cX6_right 30 = .ok (.lmul, 1) := dk_105 (dk_at dksX6_right_1 6 rfl rfl)
theorem dX6_right_31 : decode cX6_right 31 = .ok (.aload_n 0, 1) := dk_42 (dk_at dksX6_right_1 7 rfl rfl)
theorem dX6_right_32 : decode cX6_right 32 = .ok (.getfield 26, 3) := dk_180 0 26 (dk_at dksX6_right_1 8 rfl rfl)
theorem dX6_right_35 : decode cX6_right 35 = .ok (.aload_n 0, 1) := dk_42 (dk_at dksX6_right_1 11 rfl rfl)
theorem dX6_right_36 : decode cX6_right 36 = .ok (.getfield 20, 3) := dk_180 0 20 (dk_at dksX6_right_1 12 rfl rfl)
theorem dX6_right_39 : decode cX6_right 39 = .ok (.isub, 1) := dk_100 (dk_at dksX6_right_1 15 rfl rfl)
theorem dX6_right_40 : decode cX6_right 40 = .ok (.i2l, 1) := dk_133 (dk_at dksX6_right_1 16 rfl rfl)
theorem dX6_right_41 : decode cX6_right 41 = .ok (.ldiv, 1) := dk_109 (dk_at dksX6_right_1 17 rfl rfl)
theorem dX6_right_42 : decode cX6_right 42 = .ok (.ladd, 1) := dk_97 (dk_at dksX6_right_1 18 rfl rfl)
theorem dX6_right_43 : decode cX6_right 43 = .ok (.goto 5, 3) := dk_167 0 5 (dk_at dksX6_right_1 19 rfl rfl)
theorem dX6_right_46 : decode cX6_right 46 = .ok (.iload_n 1, 1) := dk_27 (dk_at dksX6_right_1 22 rfl rfl)
theorem dX6_right_47 : decode cX6_right 47 = .ok (.i2l, 1) := dk_133 (dk_at dksX6_right_1 23 rfl rfl)
theorem dX6_right_48 : decode cX6_right 48 = .ok (.lreturn, 1) := dk_173 (dk_at dksX6_right_2 0 rfl rfl)
theorem q72 : (Jvm.Cond.initialized "RegularRally$Control") ∈ lw_all := lw_g (lw_at lw_m1 25 rfl) rfl
theorem q300 : (Jvm.Cond.selects "RegularRally$Control" ({ cls := "java/lang/Object", name := "getClass", desc := "()Ljava/lang/Class;" } : Jvm.MethodName) ({ cls := "java/lang/Object", name := "getClass", desc := "()Ljava/lang/Class;" } : Jvm.MethodName)) ∈ lw_all := lw_g (lw_at lw_m2 13 rfl) rfl
theorem q587 : (Jvm.Cond.instantiable "RegularRally$Control" (7 : Nat)) ∈ lw_all := lw_g (lw_at lw_m3 60 rfl) rfl
theorem q589 : (Jvm.Cond.instanceMethod ({ cls := "RegularRally$Control", name := "<init>", desc := "(I)V" } : Jvm.MethodName)) ∈ lw_all := lw_g (lw_at lw_m3 62 rfl) rfl
theorem q590 : (Jvm.Cond.code ({ cls := "RegularRally$Control", name := "<init>", desc := "(I)V" } : Jvm.MethodName) prog_3_method_1_code (2 : Nat) (Option.none : Option Jvm.ClassFile.FieldType)) ∈ lw_all := lw_g (lw_at lw_m3 63 rfl) rfl
theorem q591 : (Jvm.Cond.methodLink "RegularRally$Control" (1 : Nat) ({ cls := "java/lang/Object", name := "<init>", desc := "()V" } : Jvm.MethodName)) ∈ lw_all := lw_g (lw_at lw_m3 64 rfl) rfl
theorem q592 : (Jvm.Cond.fieldLink "RegularRally$Control" (7 : Nat) "RegularRally$Control" "place" "I") ∈ lw_all := lw_g (lw_at lw_m3 65 rfl) rfl
theorem q597 : (Jvm.Cond.fieldLink "RegularRally$Control" (13 : Nat) "RegularRally$Control" "isChecked" "Z") ∈ lw_all := lw_g (lw_at lw_m3 70 rfl) rfl
theorem q599 : (Jvm.Cond.fieldLink "RegularRally$Control" (17 : Nat) "RegularRally$Control" "a" "I") ∈ lw_all := lw_g (lw_at lw_m3 72 rfl) rfl
theorem q601 : (Jvm.Cond.fieldLink "RegularRally$Control" (23 : Nat) "RegularRally$Control" "b" "I") ∈ lw_all := lw_g (lw_at lw_m3 74 rfl) rfl
theorem q603 : (Jvm.Cond.fieldLink "RegularRally$Control" (20 : Nat) "RegularRally$Control" "c" "I") ∈ lw_all := lw_g (lw_at lw_m3 76 rfl) rfl
theorem q605 : (Jvm.Cond.fieldLink "RegularRally$Control" (26 : Nat) "RegularRally$Control" "d" "I") ∈ lw_all := lw_g (lw_at lw_m3 78 rfl) rfl
theorem q607 : (Jvm.Cond.laysFinal "RegularRally$Control" "RegularRally$Control" "place" "I") ∈ lw_all := lw_g (lw_at lw_m3 80 rfl) rfl
theorem q608 : (Jvm.Cond.soleField "RegularRally$Control" "place") ∈ lw_all := lw_g (lw_at lw_m3 81 rfl) rfl
theorem q609 : (Jvm.Cond.lays "RegularRally$Control" "RegularRally$Control" "isStruck" "Z") ∈ lw_all := lw_g (lw_at lw_m3 82 rfl) rfl
theorem q610 : (Jvm.Cond.soleField "RegularRally$Control" "isStruck") ∈ lw_all := lw_g (lw_at lw_m3 83 rfl) rfl
theorem q611 : (Jvm.Cond.lays "RegularRally$Control" "RegularRally$Control" "isChecked" "Z") ∈ lw_all := lw_g (lw_at lw_m3 84 rfl) rfl
theorem q612 : (Jvm.Cond.soleField "RegularRally$Control" "isChecked") ∈ lw_all := lw_g (lw_at lw_m3 85 rfl) rfl
theorem q613 : (Jvm.Cond.lays "RegularRally$Control" "RegularRally$Control" "a" "I") ∈ lw_all := lw_g (lw_at lw_m3 86 rfl) rfl
theorem q614 : (Jvm.Cond.soleField "RegularRally$Control" "a") ∈ lw_all := lw_g (lw_at lw_m3 87 rfl) rfl
theorem q615 : (Jvm.Cond.lays "RegularRally$Control" "RegularRally$Control" "b" "I") ∈ lw_all := lw_g (lw_at lw_m3 88 rfl) rfl
theorem q616 : (Jvm.Cond.soleField "RegularRally$Control" "b") ∈ lw_all := lw_g (lw_at lw_m3 89 rfl) rfl
theorem q617 : (Jvm.Cond.lays "RegularRally$Control" "RegularRally$Control" "c" "I") ∈ lw_all := lw_g (lw_at lw_m3 90 rfl) rfl
theorem q618 : (Jvm.Cond.soleField "RegularRally$Control" "c") ∈ lw_all := lw_g (lw_at lw_m3 91 rfl) rfl
theorem q619 : (Jvm.Cond.lays "RegularRally$Control" "RegularRally$Control" "d" "I") ∈ lw_all := lw_g (lw_at lw_m3 92 rfl) rfl
theorem q620 : (Jvm.Cond.soleField "RegularRally$Control" "d") ∈ lw_all := lw_g (lw_at lw_m3 93 rfl) rfl
theorem q621 : (Jvm.Cond.superclass "RegularRally$Control" "java/lang/Object") ∈ lw_all := lw_g (lw_at lw_m3 94 rfl) rfl
theorem q639 : (Jvm.Cond.instanceMethod ({ cls := "RegularRally$Control", name := "right", desc := "(I)J" } : Jvm.MethodName)) ∈ lw_all := lw_g (lw_at lw_m3 112 rfl) rfl
theorem q640 : (Jvm.Cond.selects "RegularRally$Control" ({ cls := "RegularRally$Control", name := "right", desc := "(I)J" } : Jvm.MethodName) ({ cls := "RegularRally$Control", name := "right", desc := "(I)J" } : Jvm.MethodName)) ∈ lw_all := lw_g (lw_at lw_m3 113 rfl) rfl
theorem q641 : (Jvm.Cond.code ({ cls := "RegularRally$Control", name := "right", desc := "(I)J" } : Jvm.MethodName) prog_3_method_2_code (2 : Nat) (Option.some Jvm.ClassFile.FieldType.long)) ∈ lw_all := lw_g (lw_at lw_m3 114 rfl) rfl
theorem q1515 : (Jvm.Cond.castable "RegularRally$Control" "java/lang/Object") ∈ lw_tbl := lw_at lw_m7 28 rfl
theorem in_X6 : ∀ w ∈ wsX60, w ∈ lw_all := lw_in wsX60 [607, 609, 611, 613, 615, 617, 619] (by decide +kernel) (by decide +kernel)

/-! RegularRally$Car -/
set_option maxRecDepth 100000
def RX7 : String := "RegularRally$Car"
def TX7 : u_T := fun k => match k with
  | 0 => ("RegularRally$Car", "number", "I", true)
  | 1 => ("RegularRally$Car", "start", "I", true)
  | 2 => ("RegularRally$Car", "times", "[I", true)
  | 3 => ("RegularRally$Car", "orders", "[I", true)
  | 4 => ("RegularRally$Car", "claims", "[I", true)
  | 5 => ("RegularRally$Car", "clocked", "I", false)
  | _ => ("RegularRally$Car", "this$0", "LRegularRally;", true)
def tyX7 : Nat → FieldType := fun k => match k with
  | 0 => .int
  | 1 => .int
  | 2 => .array .int
  | 3 => .array .int
  | 4 => .array .int
  | 5 => .int
  | _ => .object "RegularRally"
abbrev wsX70 : List Cond := u_ws RX7 TX7 7
theorem nmX7 : ∀ a, a < 7 → ∀ b, b < 7 → a ≠ b → (TX7 a).2.1 ≠ (TX7 b).2.1 := by decide +kernel
theorem tyX7_ok : ∀ k, k < 7 → parseFieldDescriptor (TX7 k).2.2.1 = some (tyX7 k) := by decide +kernel
abbrev cX7_forget : ByteArray := prog_2_method_5_code
def yX7_forget : MethodName := ⟨RX7, "forget", "()V"⟩
def dkwX7_forget_1 : List UInt8 := [132, 1, 1, 167, 255, 233, 42, 3, 181, 0, 32, 177]
abbrev dktX7_forget_1 : List UInt8 := dkwX7_forget_1 ++ []
def dkwX7_forget_0 : List UInt8 := [3, 60, 27, 16, 8, 162, 0, 23, 42, 180, 0, 19, 27, 3, 79, 42, 180, 0, 22, 27, 3, 79]
abbrev dktX7_forget_0 : List UInt8 := dkwX7_forget_0 ++ dktX7_forget_1
theorem dksX7_forget_0 : cX7_forget.data.toList.drop 0 = dktX7_forget_0 := by decide +kernel
theorem dksX7_forget_1 : cX7_forget.data.toList.drop 22 = dktX7_forget_1 := dk_seg dksX7_forget_0 22 rfl rfl
theorem dX7_forget_0 : decode cX7_forget 0 = .ok (.iconst 0, 1) := dk_3 (dk_at dksX7_forget_0 0 rfl rfl)
theorem dX7_forget_1 : decode cX7_forget 1 = .ok (.istore_n 1, 1) := dk_60 (dk_at dksX7_forget_0 1 rfl rfl)
theorem dX7_forget_2 : decode cX7_forget 2 = .ok (.iload_n 1, 1) := dk_27 (dk_at dksX7_forget_0 2 rfl rfl)
theorem dX7_forget_3 : decode cX7_forget 3 = .ok (.bipush 8, 2) := dk_16 8 (dk_at dksX7_forget_0 3 rfl rfl)
theorem dX7_forget_5 : decode cX7_forget 5 = .ok (.if_icmp .ge 23, 3) := dk_162 0 23 (dk_at dksX7_forget_0 5 rfl rfl)
theorem dX7_forget_8 : decode cX7_forget 8 = .ok (.aload_n 0, 1) := dk_42 (dk_at dksX7_forget_0 8 rfl rfl)
theorem dX7_forget_9 : decode cX7_forget 9 = .ok (.getfield 19, 3) := dk_180 0 19 (dk_at dksX7_forget_0 9 rfl rfl)
theorem dX7_forget_12 : decode cX7_forget 12 = .ok (.iload_n 1, 1) := dk_27 (dk_at dksX7_forget_0 12 rfl rfl)
theorem dX7_forget_13 : decode cX7_forget 13 = .ok (.iconst 0, 1) := dk_3 (dk_at dksX7_forget_0 13 rfl rfl)
theorem dX7_forget_14 : decode cX7_forget 14 = .ok (.iastore, 1) := dk_79 (dk_at dksX7_forget_0 14 rfl rfl)
theorem dX7_forget_15 : decode cX7_forget 15 = .ok (.aload_n 0, 1) := dk_42 (dk_at dksX7_forget_0 15 rfl rfl)
theorem dX7_forget_16 : decode cX7_forget 16 = .ok (.getfield 22, 3) := dk_180 0 22 (dk_at dksX7_forget_0 16 rfl rfl)
theorem dX7_forget_19 : decode cX7_forget 19 = .ok (.iload_n 1, 1) := dk_27 (dk_at dksX7_forget_0 19 rfl rfl)
theorem dX7_forget_20 : decode cX7_forget 20 = .ok (.iconst 0, 1) := dk_3 (dk_at dksX7_forget_0 20 rfl rfl)
theorem dX7_forget_21 : decode cX7_forget 21 = .ok (.iastore, 1) := dk_79 (dk_at dksX7_forget_0 21 rfl rfl)
theorem dX7_forget_22 : decode cX7_forget 22 = .ok (.iinc 1 1, 3) := dk_132 1 1 (dk_at dksX7_forget_1 0 rfl rfl)
theorem dX7_forget_25 : decode cX7_forget 25 = .ok (.goto (-23), 3) := dk_167 255 233 (dk_at dksX7_forget_1 3 rfl rfl)
theorem dX7_forget_28 : decode cX7_forget 28 = .ok (.aload_n 0, 1) := dk_42 (dk_at dksX7_forget_1 6 rfl rfl)
theorem dX7_forget_29 : decode cX7_forget 29 = .ok (.iconst 0, 1) := dk_3 (dk_at dksX7_forget_1 7 rfl rfl)
theorem dX7_forget_30 : decode cX7_forget 30 = .ok (.putfield 32, 3) := dk_181 0 32 (dk_at dksX7_forget_1 8 rfl rfl)
theorem dX7_forget_33 : decode cX7_forget 33 = .ok (.return_, 1) := dk_177 (dk_at dksX7_forget_1 11 rfl rfl)
abbrev cX7_init : ByteArray := prog_2_method_1_code
def yX7_init : MethodName := ⟨RX7, "<init>", "(LRegularRally;II)V"⟩
def dkwX7_init_1 : List UInt8 := [181, 0, 19, 42, 16, 8, 188, 10, 181, 0, 22, 42, 28, 181, 0, 25, 42, 29, 181, 0, 29, 177]
abbrev dktX7_init_1 : List UInt8 := dkwX7_init_1 ++ []
def dkwX7_init_0 : List UInt8 := [42, 43, 181, 0, 3, 42, 183, 0, 9, 42, 16, 8, 188, 10, 181, 0, 15, 42, 16, 8, 188, 10]
abbrev dktX7_init_0 : List UInt8 := dkwX7_init_0 ++ dktX7_init_1
theorem dksX7_init_0 : cX7_init.data.toList.drop 0 = dktX7_init_0 := by decide +kernel
theorem dksX7_init_1 : cX7_init.data.toList.drop 22 = dktX7_init_1 := dk_seg dksX7_init_0 22 rfl rfl
theorem dX7_init_0 : decode cX7_init 0 = .ok (.aload_n 0, 1) := dk_42 (dk_at dksX7_init_0 0 rfl rfl)
theorem dX7_init_1 : decode cX7_init 1 = .ok (.aload_n 1, 1) := dk_43 (dk_at dksX7_init_0 1 rfl rfl)
theorem dX7_init_2 : decode cX7_init 2 = .ok (.putfield 3, 3) := dk_181 0 3 (dk_at dksX7_init_0 2 rfl rfl)
theorem dX7_init_5 : decode cX7_init 5 = .ok (.aload_n 0, 1) := dk_42 (dk_at dksX7_init_0 5 rfl rfl)
theorem dX7_init_6 : decode cX7_init 6 = .ok (.invokespecial 9, 3) := dk_183 0 9 (dk_at dksX7_init_0 6 rfl rfl)
theorem dX7_init_9 : decode cX7_init 9 = .ok (.aload_n 0, 1) := dk_42 (dk_at dksX7_init_0 9 rfl rfl)
theorem dX7_init_10 : decode cX7_init 10 = .ok (.bipush 8, 2) := dk_16 8 (dk_at dksX7_init_0 10 rfl rfl)
theorem dX7_init_12 : decode cX7_init 12 = .ok (.newarray .int, 2) := dk_188_10 (dk_at dksX7_init_0 12 rfl rfl)
theorem dX7_init_14 : decode cX7_init 14 = .ok (.putfield 15, 3) := dk_181 0 15 (dk_at dksX7_init_0 14 rfl rfl)
theorem dX7_init_17 : decode cX7_init 17 = .ok (.aload_n 0, 1) := dk_42 (dk_at dksX7_init_0 17 rfl rfl)
theorem dX7_init_18 : decode cX7_init 18 = .ok (.bipush 8, 2) := dk_16 8 (dk_at dksX7_init_0 18 rfl rfl)
theorem dX7_init_20 : decode cX7_init 20 = .ok (.newarray .int, 2) := dk_188_10 (dk_at dksX7_init_0 20 rfl rfl)
theorem dX7_init_22 : decode cX7_init 22 = .ok (.putfield 19, 3) := dk_181 0 19 (dk_at dksX7_init_1 0 rfl rfl)
theorem dX7_init_25 : decode cX7_init 25 = .ok (.aload_n 0, 1) := dk_42 (dk_at dksX7_init_1 3 rfl rfl)
theorem dX7_init_26 : decode cX7_init 26 = .ok (.bipush 8, 2) := dk_16 8 (dk_at dksX7_init_1 4 rfl rfl)
theorem dX7_init_28 : decode cX7_init 28 = .ok (.newarray .int, 2) := dk_188_10 (dk_at dksX7_init_1 6 rfl rfl)
theorem dX7_init_30 : decode cX7_init 30 = .ok (.putfield 22, 3) := dk_181 0 22 (dk_at dksX7_init_1 8 rfl rfl)
theorem dX7_init_33 : decode cX7_init 33 = .ok (.aload_n 0, 1) := dk_42 (dk_at dksX7_init_1 11 rfl rfl)
theorem dX7_init_34 : decode cX7_init 34 = .ok (.iload_n 2, 1) := dk_28 (dk_at dksX7_init_1 12 rfl rfl)
theorem dX7_init_35 : decode cX7_init 35 = .ok (.putfield 25, 3) := dk_181 0 25 (dk_at dksX7_init_1 13 rfl rfl)
theorem dX7_init_38 : decode cX7_init 38 = .ok (.aload_n 0, 1) := dk_42 (dk_at dksX7_init_1 16 rfl rfl)
theorem dX7_init_39 : decode cX7_init 39 = .ok (.iload_n 3, 1) := dk_29 (dk_at dksX7_init_1 17 rfl rfl)
theorem dX7_init_40 : decode cX7_init 40 = .ok (.putfield 29, 3) := dk_181 0 29 (dk_at dksX7_init_1 18 rfl rfl)
theorem dX7_init_43 : decode cX7_init 43 = .ok (.return_, 1) := dk_177 (dk_at dksX7_init_1 21 rfl rfl)
abbrev cX7_isClocked : ByteArray := prog_2_method_6_code
def yX7_isClocked : MethodName := ⟨RX7, "isClocked", "(I)Z"⟩
def dkwX7_isClocked_0 : List UInt8 := [42, 180, 0, 19, 27, 46, 158, 0, 7, 4, 167, 0, 4, 3, 172]
abbrev dktX7_isClocked_0 : List UInt8 := dkwX7_isClocked_0 ++ []
theorem dksX7_isClocked_0 : cX7_isClocked.data.toList.drop 0 = dktX7_isClocked_0 := by decide +kernel
theorem dX7_isClocked_0 : decode cX7_isClocked 0 = .ok (.aload_n 0, 1) := dk_42 (dk_at dksX7_isClocked_0 0 rfl rfl)
theorem dX7_isClocked_1 : decode cX7_isClocked 1 = .ok (.getfield 19, 3) := dk_180 0 19 (dk_at dksX7_isClocked_0 1 rfl rfl)
theorem dX7_isClocked_4 : decode cX7_isClocked 4 = .ok (.iload_n 1, 1) := dk_27 (dk_at dksX7_isClocked_0 4 rfl rfl)
theorem dX7_isClocked_5 : decode cX7_isClocked 5 = .ok (.iaload, 1) := dk_46 (dk_at dksX7_isClocked_0 5 rfl rfl)
theorem dX7_isClocked_6 : decode cX7_isClocked 6 = .ok (.ifCond .le 7, 3) := dk_158 0 7 (dk_at dksX7_isClocked_0 6 rfl rfl)
theorem dX7_isClocked_9 : decode cX7_isClocked 9 = .ok (.iconst 1, 1) := dk_4 (dk_at dksX7_isClocked_0 9 rfl rfl)
theorem dX7_isClocked_10 : decode cX7_isClocked 10 = .ok (.goto 4, 3) := dk_167 0 4 (dk_at dksX7_isClocked_0 10 rfl rfl)
theorem dX7_isClocked_13 : decode cX7_isClocked 13 = .ok (.iconst 0, 1) := dk_3 (dk_at dksX7_isClocked_0 13 rfl rfl)
theorem dX7_isClocked_14 : decode cX7_isClocked 14 = .ok (.ireturn, 1) := dk_172 (dk_at dksX7_isClocked_0 14 rfl rfl)
abbrev cX7_clock : ByteArray := prog_2_method_7_code
def yX7_clock : MethodName := ⟨RX7, "clock", "(II)V"⟩
def dkwX7_clock_1 : List UInt8 := [180, 0, 32, 79, 177]
abbrev dktX7_clock_1 : List UInt8 := dkwX7_clock_1 ++ []
def dkwX7_clock_0 : List UInt8 := [42, 180, 0, 15, 27, 28, 79, 42, 89, 180, 0, 32, 4, 96, 181, 0, 32, 42, 180, 0, 19, 27, 42]
abbrev dktX7_clock_0 : List UInt8 := dkwX7_clock_0 ++ dktX7_clock_1
theorem dksX7_clock_0 : cX7_clock.data.toList.drop 0 = dktX7_clock_0 := by decide +kernel
theorem dksX7_clock_1 : cX7_clock.data.toList.drop 23 = dktX7_clock_1 := dk_seg dksX7_clock_0 23 rfl rfl
theorem dX7_clock_0 : decode cX7_clock 0 = .ok (.aload_n 0, 1) := dk_42 (dk_at dksX7_clock_0 0 rfl rfl)
theorem dX7_clock_1 : decode cX7_clock 1 = .ok (.getfield 15, 3) := dk_180 0 15 (dk_at dksX7_clock_0 1 rfl rfl)
theorem dX7_clock_4 : decode cX7_clock 4 = .ok (.iload_n 1, 1) := dk_27 (dk_at dksX7_clock_0 4 rfl rfl)
theorem dX7_clock_5 : decode cX7_clock 5 = .ok (.iload_n 2, 1) := dk_28 (dk_at dksX7_clock_0 5 rfl rfl)
theorem dX7_clock_6 : decode cX7_clock 6 = .ok (.iastore, 1) := dk_79 (dk_at dksX7_clock_0 6 rfl rfl)
theorem dX7_clock_7 : decode cX7_clock 7 = .ok (.aload_n 0, 1) := dk_42 (dk_at dksX7_clock_0 7 rfl rfl)
theorem dX7_clock_8 : decode cX7_clock 8 = .ok (.dup, 1) := dk_89 (dk_at dksX7_clock_0 8 rfl rfl)
theorem dX7_clock_9 : decode cX7_clock 9 = .ok (.getfield 32, 3) := dk_180 0 32 (dk_at dksX7_clock_0 9 rfl rfl)
theorem dX7_clock_12 : decode cX7_clock 12 = .ok (.iconst 1, 1) := dk_4 (dk_at dksX7_clock_0 12 rfl rfl)
theorem dX7_clock_13 : decode cX7_clock 13 = .ok (.iadd, 1) := dk_96 (dk_at dksX7_clock_0 13 rfl rfl)
theorem dX7_clock_14 : decode cX7_clock 14 = .ok (.putfield 32, 3) := dk_181 0 32 (dk_at dksX7_clock_0 14 rfl rfl)
theorem dX7_clock_17 : decode cX7_clock 17 = .ok (.aload_n 0, 1) := dk_42 (dk_at dksX7_clock_0 17 rfl rfl)
theorem dX7_clock_18 : decode cX7_clock 18 = .ok (.getfield 19, 3) := dk_180 0 19 (dk_at dksX7_clock_0 18 rfl rfl)
theorem dX7_clock_21 : decode cX7_clock 21 = .ok (.iload_n 1, 1) := dk_27 (dk_at dksX7_clock_0 21 rfl rfl)
theorem dX7_clock_22 : decode cX7_clock 22 = .ok (.aload_n 0, 1) := dk_42 (dk_at dksX7_clock_0 22 rfl rfl)
theorem dX7_clock_23 : decode cX7_clock 23 = .ok (.getfield 32, 3) := dk_180 0 32 (dk_at dksX7_clock_1 0 rfl rfl)
theorem dX7_clock_26 : decode cX7_clock 26 = .ok (.iastore, 1) := dk_79 (dk_at dksX7_clock_1 3 rfl rfl)
theorem dX7_clock_27 : decode cX7_clock 27 = .ok (.return_, 1) := dk_177 (dk_at dksX7_clock_1 4 rfl rfl)
abbrev cX7_error : ByteArray := prog_2_method_9_code
def yX7_error : MethodName := ⟨RX7, "error", "(I)J"⟩
def dkwX7_error_3 : List UInt8 := [42, 27, 182, 0, 72, 101, 184, 0, 75, 167, 0, 4, 32, 173]
abbrev dktX7_error_3 : List UInt8 := dkwX7_error_3 ++ []
def dkwX7_error_2 : List UInt8 := [185, 0, 45, 2, 0, 192, 0, 49, 180, 0, 51, 182, 0, 69, 101, 65, 32, 9, 148, 158, 0, 17, 9, 32]
abbrev dktX7_error_2 : List UInt8 := dkwX7_error_2 ++ dktX7_error_3
def dkwX7_error_1 : List UInt8 := [182, 0, 65, 42, 180, 0, 29, 133, 101, 42, 180, 0, 3, 42, 180, 0, 3, 180, 0, 35, 27]
abbrev dktX7_error_1 : List UInt8 := dkwX7_error_1 ++ dktX7_error_2
def dkwX7_error_0 : List UInt8 := [42, 180, 0, 3, 180, 0, 35, 27, 185, 0, 45, 2, 0, 192, 0, 49, 42, 180, 0, 15, 27, 46]
abbrev dktX7_error_0 : List UInt8 := dkwX7_error_0 ++ dktX7_error_1
theorem dksX7_error_0 : cX7_error.data.toList.drop 0 = dktX7_error_0 := by decide +kernel
theorem dksX7_error_1 : cX7_error.data.toList.drop 22 = dktX7_error_1 := dk_seg dksX7_error_0 22 rfl rfl
theorem dksX7_error_2 : cX7_error.data.toList.drop 43 = dktX7_error_2 := dk_seg dksX7_error_1 21 rfl rfl
theorem dksX7_error_3 : cX7_error.data.toList.drop 67 = dktX7_error_3 := dk_seg dksX7_error_2 24 rfl rfl
theorem dX7_error_0 : decode cX7_error 0 = .ok (.aload_n 0, 1) := dk_42 (dk_at dksX7_error_0 0 rfl rfl)
theorem dX7_error_1 : decode cX7_error 1 = .ok (.getfield 3, 3) := dk_180 0 3 (dk_at dksX7_error_0 1 rfl rfl)
theorem dX7_error_4 : decode cX7_error 4 = .ok (.getfield 35, 3) := dk_180 0 35 (dk_at dksX7_error_0 4 rfl rfl)
theorem dX7_error_7 : decode cX7_error 7 = .ok (.iload_n 1, 1) := dk_27 (dk_at dksX7_error_0 7 rfl rfl)
theorem dX7_error_8 : decode cX7_error 8 = .ok (.invokeinterface 45 2, 5) := by decide +kernel
theorem dX7_error_13 : decode cX7_error 13 = .ok (.checkcast 49, 3) := dk_192 0 49 (dk_at dksX7_error_0 13 rfl rfl)
theorem dX7_error_16 : decode cX7_error 16 = .ok (.aload_n 0, 1) := dk_42 (dk_at dksX7_error_0 16 rfl rfl)
theorem dX7_error_17 : decode cX7_error 17 = .ok (.getfield 15, 3) := dk_180 0 15 (dk_at dksX7_error_0 17 rfl rfl)
theorem dX7_error_20 : decode cX7_error 20 = .ok (.iload_n 1, 1) := dk_27 (dk_at dksX7_error_0 20 rfl rfl)
theorem dX7_error_21 : decode cX7_error 21 = .ok (.iaload, 1) := dk_46 (dk_at dksX7_error_0 21 rfl rfl)
theorem dX7_error_22 : decode cX7_error 22 = .ok (.invokevirtual 65, 3) := dk_182 0 65 (dk_at dksX7_error_1 0 rfl rfl)
theorem dX7_error_25 : decode cX7_error 25 = .ok (.aload_n 0, 1) := dk_42 (dk_at dksX7_error_1 3 rfl rfl)
theorem dX7_error_26 : decode cX7_error 26 = .ok (.getfield 29, 3) := dk_180 0 29 (dk_at dksX7_error_1 4 rfl rfl)
theorem dX7_error_29 : decode cX7_error 29 = .ok (.i2l, 1) := dk_133 (dk_at dksX7_error_1 7 rfl rfl)
theorem dX7_error_30 : decode cX7_error 30 = .ok (.lsub, 1) := dk_101 (dk_at dksX7_error_1 8 rfl rfl)
theorem dX7_error_31 : decode cX7_error 31 = .ok (.aload_n 0, 1) := dk_42 (dk_at dksX7_error_1 9 rfl rfl)
theorem dX7_error_32 : decode cX7_error 32 = .ok (.getfield 3, 3) := dk_180 0 3 (dk_at dksX7_error_1 10 rfl rfl)
theorem dX7_error_35 : decode cX7_error 35 = .ok (.aload_n 0, 1) := dk_42 (dk_at dksX7_error_1 13 rfl rfl)
theorem dX7_error_36 : decode cX7_error 36 = .ok (.getfield 3, 3) := dk_180 0 3 (dk_at dksX7_error_1 14 rfl rfl)
theorem dX7_error_39 : decode cX7_error 39 = .ok (.getfield 35, 3) := dk_180 0 35 (dk_at dksX7_error_1 17 rfl rfl)
theorem dX7_error_42 : decode cX7_error 42 = .ok (.iload_n 1, 1) := dk_27 (dk_at dksX7_error_1 20 rfl rfl)
theorem dX7_error_43 : decode cX7_error 43 = .ok (.invokeinterface 45 2, 5) := by decide +kernel
theorem dX7_error_48 : decode cX7_error 48 = .ok (.checkcast 49, 3) := dk_192 0 49 (dk_at dksX7_error_2 5 rfl rfl)
theorem dX7_error_51 : decode cX7_error 51 = .ok (.getfield 51, 3) := dk_180 0 51 (dk_at dksX7_error_2 8 rfl rfl)
theorem dX7_error_54 : decode cX7_error 54 = .ok (.invokevirtual 69, 3) := dk_182 0 69 (dk_at dksX7_error_2 11 rfl rfl)
theorem dX7_error_57 : decode cX7_error 57 = .ok (.lsub, 1) := dk_101 (dk_at dksX7_error_2 14 rfl rfl)
theorem dX7_error_58 : decode cX7_error 58 = .ok (.lstore_n 2, 1) := dk_65 (dk_at dksX7_error_2 15 rfl rfl)
theorem dX7_error_59 : decode cX7_error 59 = .ok (.lload_n 2, 1) := dk_32 (dk_at dksX7_error_2 16 rfl rfl)
theorem dX7_error_60 : decode cX7_error 60 = .ok (.lconst 0, 1) := dk_9 (dk_at dksX7_error_2 17 rfl rfl)
theorem dX7_error_61 : decode cX7_error 61 = .ok (.lcmp, 1) := dk_148 (dk_at dksX7_error_2 18 rfl rfl)
theorem dX7_error_62 : decode cX7_error 62 = .ok (.ifCond .le 17, 3) := dk_158 0 17 (dk_at dksX7_error_2 19 rfl rfl)
theorem dX7_error_65 : decode cX7_error 65 = .ok (.lconst 0, 1) := dk_9 (dk_at dksX7_error_2 22 rfl rfl)
theorem dX7_error_66 : decode cX7_error 66 = .ok (.lload_n 2, 1) := dk_32 (dk_at dksX7_error_2 23 rfl rfl)
theorem dX7_error_67 : decode cX7_error 67 = .ok (.aload_n 0, 1) := dk_42 (dk_at dksX7_error_3 0 rfl rfl)
theorem dX7_error_68 : decode cX7_error 68 = .ok (.iload_n 1, 1) := dk_27 (dk_at dksX7_error_3 1 rfl rfl)
theorem dX7_error_69 : decode cX7_error 69 = .ok (.invokevirtual 72, 3) := dk_182 0 72 (dk_at dksX7_error_3 2 rfl rfl)
theorem dX7_error_72 : decode cX7_error 72 = .ok (.lsub, 1) := dk_101 (dk_at dksX7_error_3 5 rfl rfl)
theorem dX7_error_73 : decode cX7_error 73 = .ok (.invokestatic 75, 3) := dk_184 0 75 (dk_at dksX7_error_3 6 rfl rfl)
theorem dX7_error_76 : decode cX7_error 76 = .ok (.goto 4, 3) := dk_167 0 4 (dk_at dksX7_error_3 9 rfl rfl)
theorem dX7_error_79 : decode cX7_error 79 = .ok (.lload_n 2, 1) := dk_32 (dk_at dksX7_error_3 12 rfl rfl)
theorem dX7_error_80 : decode cX7_error 80 = .ok (.lreturn, 1) := dk_173 (dk_at dksX7_error_3 13 rfl rfl)
abbrev cX7_claimed : ByteArray := prog_2_method_8_code
def yX7_claimed : MethodName := ⟨RX7, "claimed", "(I)J"⟩
def dkwX7_claimed_4 : List UInt8 := [184, 0, 62, 173]
abbrev dktX7_claimed_4 : List UInt8 := dkwX7_claimed_4 ++ []
def dkwX7_claimed_3 : List UInt8 := [46, 17, 2, 88, 184, 0, 54, 133, 167, 0, 4, 9, 97, 65, 132, 4, 1, 167, 255, 173, 32, 20, 0, 60]
abbrev dktX7_claimed_3 : List UInt8 := dkwX7_claimed_3 ++ dktX7_claimed_4
def dkwX7_claimed_2 : List UInt8 := [180, 0, 35, 27, 185, 0, 45, 2, 0, 192, 0, 49, 180, 0, 51, 163, 0, 20, 42, 180, 0, 22, 21, 4]
abbrev dktX7_claimed_2 : List UInt8 := dkwX7_claimed_2 ++ dktX7_claimed_3
def dkwX7_claimed_1 : List UInt8 := [180, 0, 3, 180, 0, 35, 21, 4, 185, 0, 45, 2, 0, 192, 0, 49, 180, 0, 51, 42, 180, 0, 3]
abbrev dktX7_claimed_1 : List UInt8 := dkwX7_claimed_1 ++ dktX7_claimed_2
def dkwX7_claimed_0 : List UInt8 := [9, 65, 3, 54, 4, 21, 4, 42, 180, 0, 3, 180, 0, 35, 185, 0, 39, 1, 0, 162, 0, 72, 32, 42]
abbrev dktX7_claimed_0 : List UInt8 := dkwX7_claimed_0 ++ dktX7_claimed_1
theorem dksX7_claimed_0 : cX7_claimed.data.toList.drop 0 = dktX7_claimed_0 := by decide +kernel
theorem dksX7_claimed_1 : cX7_claimed.data.toList.drop 24 = dktX7_claimed_1 := dk_seg dksX7_claimed_0 24 rfl rfl
theorem dksX7_claimed_2 : cX7_claimed.data.toList.drop 47 = dktX7_claimed_2 := dk_seg dksX7_claimed_1 23 rfl rfl
theorem dksX7_claimed_3 : cX7_claimed.data.toList.drop 71 = dktX7_claimed_3 := dk_seg dksX7_claimed_2 24 rfl rfl
theorem dksX7_claimed_4 : cX7_claimed.data.toList.drop 95 = dktX7_claimed_4 := dk_seg dksX7_claimed_3 24 rfl rfl
theorem dX7_claimed_0 : decode cX7_claimed 0 = .ok (.lconst 0, 1) := dk_9 (dk_at dksX7_claimed_0 0 rfl rfl)
theorem dX7_claimed_1 : decode cX7_claimed 1 = .ok (.lstore_n 2, 1) := dk_65 (dk_at dksX7_claimed_0 1 rfl rfl)
theorem dX7_claimed_2 : decode cX7_claimed 2 = .ok (.iconst 0, 1) := dk_3 (dk_at dksX7_claimed_0 2 rfl rfl)
theorem dX7_claimed_3 : decode cX7_claimed 3 = .ok (.istore 4, 2) := dk_54 4 (dk_at dksX7_claimed_0 3 rfl rfl)
theorem dX7_claimed_5 : decode cX7_claimed 5 = .ok (.iload 4, 2) := dk_21 4 (dk_at dksX7_claimed_0 5 rfl rfl)
theorem dX7_claimed_7 : decode cX7_claimed 7 = .ok (.aload_n 0, 1) := dk_42 (dk_at dksX7_claimed_0 7 rfl rfl)
theorem dX7_claimed_8 : decode cX7_claimed 8 = .ok (.getfield 3, 3) := dk_180 0 3 (dk_at dksX7_claimed_0 8 rfl rfl)
theorem dX7_claimed_11 : decode cX7_claimed 11 = .ok (.getfield 35, 3) := dk_180 0 35 (dk_at dksX7_claimed_0 11 rfl rfl)
theorem dX7_claimed_14 : decode cX7_claimed 14 = .ok (.invokeinterface 39 1, 5) := by decide +kernel
theorem dX7_claimed_19 : decode cX7_claimed 19 = .ok (.if_icmp .ge 72, 3) := dk_162 0 72 (dk_at dksX7_claimed_0 19 rfl rfl)
theorem dX7_claimed_22 : decode cX7_claimed 22 = .ok (.lload_n 2, 1) := dk_32 (dk_at dksX7_claimed_0 22 rfl rfl)
theorem dX7_claimed_23 : decode cX7_claimed 23 = .ok (.aload_n 0, 1) := dk_42 (dk_at dksX7_claimed_0 23 rfl rfl)
theorem dX7_claimed_24 : decode cX7_claimed 24 = .ok (.getfield 3, 3) := dk_180 0 3 (dk_at dksX7_claimed_1 0 rfl rfl)
theorem dX7_claimed_27 : decode cX7_claimed 27 = .ok (.getfield 35, 3) := dk_180 0 35 (dk_at dksX7_claimed_1 3 rfl rfl)
theorem dX7_claimed_30 : decode cX7_claimed 30 = .ok (.iload 4, 2) := dk_21 4 (dk_at dksX7_claimed_1 6 rfl rfl)
theorem dX7_claimed_32 : decode cX7_claimed 32 = .ok (.invokeinterface 45 2, 5) := by decide +kernel
theorem dX7_claimed_37 : decode cX7_claimed 37 = .ok (.checkcast 49, 3) := dk_192 0 49 (dk_at dksX7_claimed_1 13 rfl rfl)
theorem dX7_claimed_40 : decode cX7_claimed 40 = .ok (.getfield 51, 3) := dk_180 0 51 (dk_at dksX7_claimed_1 16 rfl rfl)
theorem dX7_claimed_43 : decode cX7_claimed 43 = .ok (.aload_n 0, 1) := dk_42 (dk_at dksX7_claimed_1 19 rfl rfl)
theorem dX7_claimed_44 : decode cX7_claimed 44 = .ok (.getfield 3, 3) := dk_180 0 3 (dk_at dksX7_claimed_1 20 rfl rfl)
theorem dX7_claimed_47 : decode cX7_claimed 47 = .ok (.getfield 35, 3) := dk_180 0 35 (dk_at dksX7_claimed_2 0 rfl rfl)
theorem dX7_claimed_50 : decode cX7_claimed 50 = .ok (.iload_n 1, 1) := dk_27 (dk_at dksX7_claimed_2 3 rfl rfl)
theorem dX7_claimed_51 : decode cX7_claimed 51 = .ok (.invokeinterface 45 2, 5) := by decide +kernel
theorem dX7_claimed_56 : decode cX7_claimed 56 = .ok (.checkcast 49, 3) := dk_192 0 49 (dk_at dksX7_claimed_2 9 rfl rfl)
theorem dX7_claimed_59 : decode cX7_claimed 59 = .ok (.getfield 51, 3) := dk_180 0 51 (dk_at dksX7_claimed_2 12 rfl rfl)
theorem dX7_claimed_62 : decode cX7_claimed 62 = .ok (.if_icmp .gt 20, 3) := dk_163 0 20 (dk_at dksX7_claimed_2 15 rfl rfl)
theorem dX7_claimed_65 : decode cX7_claimed 65 = .ok (.aload_n 0, 1) := dk_42 (dk_at dksX7_claimed_2 18 rfl rfl)
theorem dX7_claimed_66 : decode cX7_claimed 66 = .ok (.getfield 22, 3) := dk_180 0 22 (dk_at dksX7_claimed_2 19 rfl rfl)
theorem dX7_claimed_69 : decode cX7_claimed 69 = .ok (.iload 4, 2) := dk_21 4 (dk_at dksX7_claimed_2 22 rfl rfl)
theorem dX7_claimed_71 : decode cX7_claimed 71 = .ok (.iaload, 1) := dk_46 (dk_at dksX7_claimed_3 0 rfl rfl)
theorem dX7_claimed_72 : decode cX7_claimed 72 = .ok (.sipush 600, 3) := dk_17 2 88 (dk_at dksX7_claimed_3 1 rfl rfl)
theorem dX7_claimed_75 : decode cX7_claimed 75 = .ok (.invokestatic 54, 3) := dk_184 0 54 (dk_at dksX7_claimed_3 4 rfl rfl)
theorem dX7_claimed_78 : decode cX7_claimed 78 = .ok (.i2l, 1) := dk_133 (dk_at dksX7_claimed_3 7 rfl rfl)
theorem dX7_claimed_79 : decode cX7_claimed 79 = .ok (.goto 4, 3) := dk_167 0 4 (dk_at dksX7_claimed_3 8 rfl rfl)
theorem dX7_claimed_82 : decode cX7_claimed 82 = .ok (.lconst 0, 1) := dk_9 (dk_at dksX7_claimed_3 11 rfl rfl)
theorem dX7_claimed_83 : decode cX7_claimed 83 = .ok (.ladd, 1) := dk_97 (dk_at dksX7_claimed_3 12 rfl rfl)
theorem dX7_claimed_84 : decode cX7_claimed 84 = .ok (.lstore_n 2, 1) := dk_65 (dk_at dksX7_claimed_3 13 rfl rfl)
theorem dX7_claimed_85 : decode cX7_claimed 85 = .ok (.iinc 4 1, 3) := dk_132 4 1 (dk_at dksX7_claimed_3 14 rfl rfl)
theorem dX7_claimed_88 : decode cX7_claimed 88 = .ok (.goto (-83), 3) := dk_167 255 173 (dk_at dksX7_claimed_3 17 rfl rfl)
theorem dX7_claimed_91 : decode cX7_claimed 91 = .ok (.lload_n 2, 1) := dk_32 (dk_at dksX7_claimed_3 20 rfl rfl)
theorem dX7_claimed_92 : decode cX7_claimed 92 = .ok (.ldc2_w 60, 3) := dk_20 0 60 (dk_at dksX7_claimed_3 21 rfl rfl)
theorem dX7_claimed_95 : decode cX7_claimed 95 = .ok (.invokestatic 62, 3) := dk_184 0 62 (dk_at dksX7_claimed_4 0 rfl rfl)
theorem dX7_claimed_98 : decode cX7_claimed 98 = .ok (.lreturn, 1) := dk_173 (dk_at dksX7_claimed_4 3 rfl rfl)
abbrev cX7_points : ByteArray := prog_2_method_12_code
def yX7_points : MethodName := ⟨RX7, "points", "(I)I"⟩
def dkwX7_points_2 : List UInt8 := [167, 0, 12, 42, 42, 27, 182, 0, 97, 182, 0, 100, 172]
abbrev dktX7_points_2 : List UInt8 := dkwX7_points_2 ++ []
def dkwX7_points_1 : List UInt8 := [42, 27, 182, 0, 82, 154, 0, 7, 17, 1, 44, 172, 42, 27, 182, 0, 94, 153, 0, 8, 16, 100]
abbrev dktX7_points_1 : List UInt8 := dkwX7_points_1 ++ dktX7_points_2
def dkwX7_points_0 : List UInt8 := [42, 180, 0, 3, 180, 0, 35, 27, 185, 0, 45, 2, 0, 192, 0, 49, 180, 0, 78, 153, 0, 5, 3, 172]
abbrev dktX7_points_0 : List UInt8 := dkwX7_points_0 ++ dktX7_points_1
theorem dksX7_points_0 : cX7_points.data.toList.drop 0 = dktX7_points_0 := by decide +kernel
theorem dksX7_points_1 : cX7_points.data.toList.drop 24 = dktX7_points_1 := dk_seg dksX7_points_0 24 rfl rfl
theorem dksX7_points_2 : cX7_points.data.toList.drop 46 = dktX7_points_2 := dk_seg dksX7_points_1 22 rfl rfl
theorem dX7_points_0 : decode cX7_points 0 = .ok (.aload_n 0, 1) := dk_42 (dk_at dksX7_points_0 0 rfl rfl)
theorem dX7_points_1 : decode cX7_points 1 = .ok (.getfield 3, 3) := dk_180 0 3 (dk_at dksX7_points_0 1 rfl rfl)
theorem dX7_points_4 : decode cX7_points 4 = .ok (.getfield 35, 3) := dk_180 0 35 (dk_at dksX7_points_0 4 rfl rfl)
theorem dX7_points_7 : decode cX7_points 7 = .ok (.iload_n 1, 1) := dk_27 (dk_at dksX7_points_0 7 rfl rfl)
theorem dX7_points_8 : decode cX7_points 8 = .ok (.invokeinterface 45 2, 5) := by decide +kernel
theorem dX7_points_13 : decode cX7_points 13 = .ok (.checkcast 49, 3) := dk_192 0 49 (dk_at dksX7_points_0 13 rfl rfl)
theorem dX7_points_16 : decode cX7_points 16 = .ok (.getfield 78, 3) := dk_180 0 78 (dk_at dksX7_points_0 16 rfl rfl)
theorem dX7_points_19 : decode cX7_points 19 = .ok (.ifCond .eq 5, 3) := dk_153 0 5 (dk_at dksX7_points_0 19 rfl rfl)
theorem dX7_points_22 : decode cX7_points 22 = .ok (.iconst 0, 1) := dk_3 (dk_at dksX7_points_0 22 rfl rfl)
theorem dX7_points_23 : decode cX7_points 23 = .ok (.ireturn, 1) := dk_172 (dk_at dksX7_points_0 23 rfl rfl)
theorem dX7_points_24 : decode cX7_points 24 = .ok (.aload_n 0, 1) := dk_42 (dk_at dksX7_points_1 0 rfl rfl)
theorem dX7_points_25 : decode cX7_points 25 = .ok (.iload_n 1, 1) := dk_27 (dk_at dksX7_points_1 1 rfl rfl)
theorem dX7_points_26 : decode cX7_points 26 = .ok (.invokevirtual 82, 3) := dk_182 0 82 (dk_at dksX7_points_1 2 rfl rfl)
theorem dX7_points_29 : decode cX7_points 29 = .ok (.ifCond .ne 7, 3) := dk_154 0 7 (dk_at dksX7_points_1 5 rfl rfl)
theorem dX7_points_32 : decode cX7_points 32 = .ok (.sipush 300, 3) := dk_17 1 44 (dk_at dksX7_points_1 8 rfl rfl)
theorem dX7_points_35 : decode cX7_points 35 = .ok (.ireturn, 1) := dk_172 (dk_at dksX7_points_1 11 rfl rfl)
theorem dX7_points_36 : decode cX7_points 36 = .ok (.aload_n 0, 1) := dk_42 (dk_at dksX7_points_1 12 rfl rfl)
theorem dX7_points_37 : decode cX7_points 37 = .ok (.iload_n 1, 1) := dk_27 (dk_at dksX7_points_1 13 rfl rfl)
theorem dX7_points_38 : decode cX7_points 38 = .ok (.invokevirtual 94, 3) := dk_182 0 94 (dk_at dksX7_points_1 14 rfl rfl)
theorem dX7_points_41 : decode cX7_points 41 = .ok (.ifCond .eq 8, 3) := dk_153 0 8 (dk_at dksX7_points_1 17 rfl rfl)
theorem dX7_points_44 : decode cX7_points 44 = .ok (.bipush 100, 2) := dk_16 100 (dk_at dksX7_points_1 20 rfl rfl)
theorem dX7_points_46 : decode cX7_points 46 = .ok (.goto 12, 3) := dk_167 0 12 (dk_at dksX7_points_2 0 rfl rfl)
theorem dX7_points_49 : decode cX7_points 49 = .ok (.aload_n 0, 1) := dk_42 (dk_at dksX7_points_2 3 rfl rfl)
theorem dX7_points_50 : decode cX7_points 50 = .ok (.aload_n 0, 1) := dk_42 (dk_at dksX7_points_2 4 rfl rfl)
theorem dX7_points_51 : decode cX7_points 51 = .ok (.iload_n 1, 1) := dk_27 (dk_at dksX7_points_2 5 rfl rfl)
theorem dX7_points_52 : decode cX7_points 52 = .ok (.invokevirtual 97, 3) := dk_182 0 97 (dk_at dksX7_points_2 6 rfl rfl)
theorem dX7_points_55 : decode cX7_points 55 = .ok (.invokevirtual 100, 3) := dk_182 0 100 (dk_at dksX7_points_2 9 rfl rfl)
theorem dX7_points_58 : decode cX7_points 58 = .ok (.ireturn, 1) := dk_172 (dk_at dksX7_points_2 12 rfl rfl)
abbrev cX7_isOutOfOrder : ByteArray := prog_2_method_10_code
def yX7_isOutOfOrder : MethodName := ⟨RX7, "isOutOfOrder", "(I)Z"⟩
def dkwX7_isOutOfOrder_5 : List UInt8 := [61, 132, 3, 1, 167, 255, 143, 28, 172]
abbrev dktX7_isOutOfOrder_5 : List UInt8 := dkwX7_isOutOfOrder_5 ++ []
def dkwX7_isOutOfOrder_4 : List UInt8 := [153, 0, 22, 42, 180, 0, 19, 29, 46, 42, 180, 0, 19, 27, 46, 162, 0, 7, 4, 167, 0, 4, 3, 128]
abbrev dktX7_isOutOfOrder_4 : List UInt8 := dkwX7_isOutOfOrder_4 ++ dktX7_isOutOfOrder_5
def dkwX7_isOutOfOrder_3 : List UInt8 := [180, 0, 35, 27, 185, 0, 45, 2, 0, 192, 0, 49, 180, 0, 51, 164, 0, 30, 42, 29, 182, 0, 82]
abbrev dktX7_isOutOfOrder_3 : List UInt8 := dkwX7_isOutOfOrder_3 ++ dktX7_isOutOfOrder_4
def dkwX7_isOutOfOrder_2 : List UInt8 := [180, 0, 3, 180, 0, 35, 29, 185, 0, 45, 2, 0, 192, 0, 49, 180, 0, 51, 42, 180, 0, 3]
abbrev dktX7_isOutOfOrder_2 : List UInt8 := dkwX7_isOutOfOrder_2 ++ dktX7_isOutOfOrder_3
def dkwX7_isOutOfOrder_1 : List UInt8 := [180, 0, 3, 180, 0, 35, 29, 185, 0, 45, 2, 0, 192, 0, 49, 180, 0, 78, 154, 0, 71, 42]
abbrev dktX7_isOutOfOrder_1 : List UInt8 := dkwX7_isOutOfOrder_1 ++ dktX7_isOutOfOrder_2
def dkwX7_isOutOfOrder_0 : List UInt8 := [3, 61, 3, 62, 29, 42, 180, 0, 3, 180, 0, 35, 185, 0, 39, 1, 0, 162, 0, 103, 28, 42]
abbrev dktX7_isOutOfOrder_0 : List UInt8 := dkwX7_isOutOfOrder_0 ++ dktX7_isOutOfOrder_1
theorem dksX7_isOutOfOrder_0 : cX7_isOutOfOrder.data.toList.drop 0 = dktX7_isOutOfOrder_0 := by decide +kernel
theorem dksX7_isOutOfOrder_1 : cX7_isOutOfOrder.data.toList.drop 22 = dktX7_isOutOfOrder_1 := dk_seg dksX7_isOutOfOrder_0 22 rfl rfl
theorem dksX7_isOutOfOrder_2 : cX7_isOutOfOrder.data.toList.drop 44 = dktX7_isOutOfOrder_2 := dk_seg dksX7_isOutOfOrder_1 22 rfl rfl
theorem dksX7_isOutOfOrder_3 : cX7_isOutOfOrder.data.toList.drop 66 = dktX7_isOutOfOrder_3 := dk_seg dksX7_isOutOfOrder_2 22 rfl rfl
theorem dksX7_isOutOfOrder_4 : cX7_isOutOfOrder.data.toList.drop 89 = dktX7_isOutOfOrder_4 := dk_seg dksX7_isOutOfOrder_3 23 rfl rfl
theorem dksX7_isOutOfOrder_5 : cX7_isOutOfOrder.data.toList.drop 113 = dktX7_isOutOfOrder_5 := dk_seg dksX7_isOutOfOrder_4 24 rfl rfl
theorem dX7_isOutOfOrder_0 : decode cX7_isOutOfOrder 0 = .ok (.iconst 0, 1) := dk_3 (dk_at dksX7_isOutOfOrder_0 0 rfl rfl)
theorem dX7_isOutOfOrder_1 : decode cX7_isOutOfOrder 1 = .ok (.istore_n 2, 1) := dk_61 (dk_at dksX7_isOutOfOrder_0 1 rfl rfl)
theorem dX7_isOutOfOrder_2 : decode cX7_isOutOfOrder 2 = .ok (.iconst 0, 1) := dk_3 (dk_at dksX7_isOutOfOrder_0 2 rfl rfl)
theorem dX7_isOutOfOrder_3 : decode cX7_isOutOfOrder 3 = .ok (.istore_n 3, 1) := dk_62 (dk_at dksX7_isOutOfOrder_0 3 rfl rfl)
theorem dX7_isOutOfOrder_4 : decode cX7_isOutOfOrder 4 = .ok (.iload_n 3, 1) := dk_29 (dk_at dksX7_isOutOfOrder_0 4 rfl rfl)
theorem dX7_isOutOfOrder_5 : decode cX7_isOutOfOrder 5 = .ok (.aload_n 0, 1) := dk_42 (dk_at dksX7_isOutOfOrder_0 5 rfl rfl)
theorem dX7_isOutOfOrder_6 : decode cX7_isOutOfOrder 6 = .ok (.getfield 3, 3) := dk_180 0 3 (dk_at dksX7_isOutOfOrder_0 6 rfl rfl)
theorem dX7_isOutOfOrder_9 : decode cX7_isOutOfOrder 9 = .ok (.getfield 35, 3) := dk_180 0 35 (dk_at dksX7_isOutOfOrder_0 9 rfl rfl)
theorem dX7_isOutOfOrder_12 : decode cX7_isOutOfOrder 12 = .ok (.invokeinterface 39 1, 5) := by decide +kernel
theorem dX7_isOutOfOrder_17 : decode cX7_isOutOfOrder 17 = .ok (.if_icmp .ge 103, 3) := dk_162 0 103 (dk_at dksX7_isOutOfOrder_0 17 rfl rfl)
theorem dX7_isOutOfOrder_20 : decode cX7_isOutOfOrder 20 = .ok (.iload_n 2, 1) := dk_28 (dk_at dksX7_isOutOfOrder_0 20 rfl rfl)
theorem dX7_isOutOfOrder_21 : decode cX7_isOutOfOrder 21 = .ok (.aload_n 0, 1) := dk_42 (dk_at dksX7_isOutOfOrder_0 21 rfl rfl)
theorem dX7_isOutOfOrder_22 : decode cX7_isOutOfOrder 22 = .ok (.getfield 3, 3) := dk_180 0 3 (dk_at dksX7_isOutOfOrder_1 0 rfl rfl)
theorem dX7_isOutOfOrder_25 : decode cX7_isOutOfOrder 25 = .ok (.getfield 35, 3) := dk_180 0 35 (dk_at dksX7_isOutOfOrder_1 3 rfl rfl)
theorem dX7_isOutOfOrder_28 : decode cX7_isOutOfOrder 28 = .ok (.iload_n 3, 1) := dk_29 (dk_at dksX7_isOutOfOrder_1 6 rfl rfl)
theorem dX7_isOutOfOrder_29 : decode cX7_isOutOfOrder 29 = .ok (.invokeinterface 45 2, 5) := by decide +kernel
theorem dX7_isOutOfOrder_34 : decode cX7_isOutOfOrder 34 = .ok (.checkcast 49, 3) := dk_192 0 49 (dk_at dksX7_isOutOfOrder_1 12 rfl rfl)
theorem dX7_isOutOfOrder_37 : decode cX7_isOutOfOrder 37 = .ok (.getfield 78, 3) := dk_180 0 78 (dk_at dksX7_isOutOfOrder_1 15 rfl rfl)
theorem dX7_isOutOfOrder_40 : decode cX7_isOutOfOrder 40 = .ok (.ifCond .ne 71, 3) := dk_154 0 71 (dk_at dksX7_isOutOfOrder_1 18 rfl rfl)
theorem dX7_isOutOfOrder_43 : decode cX7_isOutOfOrder 43 = .ok (.aload_n 0, 1) := dk_42 (dk_at dksX7_isOutOfOrder_1 21 rfl rfl)
theorem dX7_isOutOfOrder_44 : decode cX7_isOutOfOrder 44 = .ok (.getfield 3, 3) := dk_180 0 3 (dk_at dksX7_isOutOfOrder_2 0 rfl rfl)
theorem dX7_isOutOfOrder_47 : decode cX7_isOutOfOrder 47 = .ok (.getfield 35, 3) := dk_180 0 35 (dk_at dksX7_isOutOfOrder_2 3 rfl rfl)
theorem dX7_isOutOfOrder_50 : decode cX7_isOutOfOrder 50 = .ok (.iload_n 3, 1) := dk_29 (dk_at dksX7_isOutOfOrder_2 6 rfl rfl)
theorem dX7_isOutOfOrder_51 : decode cX7_isOutOfOrder 51 = .ok (.invokeinterface 45 2, 5) := by decide +kernel
theorem dX7_isOutOfOrder_56 : decode cX7_isOutOfOrder 56 = .ok (.checkcast 49, 3) := dk_192 0 49 (dk_at dksX7_isOutOfOrder_2 12 rfl rfl)
theorem dX7_isOutOfOrder_59 : decode cX7_isOutOfOrder 59 = .ok (.getfield 51, 3) := dk_180 0 51 (dk_at dksX7_isOutOfOrder_2 15 rfl rfl)
theorem dX7_isOutOfOrder_62 : decode cX7_isOutOfOrder 62 = .ok (.aload_n 0, 1) := dk_42 (dk_at dksX7_isOutOfOrder_2 18 rfl rfl)
theorem dX7_isOutOfOrder_63 : decode cX7_isOutOfOrder 63 = .ok (.getfield 3, 3) := dk_180 0 3 (dk_at dksX7_isOutOfOrder_2 19 rfl rfl)
theorem dX7_isOutOfOrder_66 : decode cX7_isOutOfOrder 66 = .ok (.getfield 35, 3) := dk_180 0 35 (dk_at dksX7_isOutOfOrder_3 0 rfl rfl)
theorem dX7_isOutOfOrder_69 : decode cX7_isOutOfOrder 69 = .ok (.iload_n 1, 1) := dk_27 (dk_at dksX7_isOutOfOrder_3 3 rfl rfl)
theorem dX7_isOutOfOrder_70 : decode cX7_isOutOfOrder 70 = .ok (.invokeinterface 45 2, 5) := by decide +kernel
theorem dX7_isOutOfOrder_75 : decode cX7_isOutOfOrder 75 = .ok (.checkcast 49, 3) := dk_192 0 49 (dk_at dksX7_isOutOfOrder_3 9 rfl rfl)
theorem dX7_isOutOfOrder_78 : decode cX7_isOutOfOrder 78 = .ok (.getfield 51, 3) := dk_180 0 51 (dk_at dksX7_isOutOfOrder_3 12 rfl rfl)
theorem dX7_isOutOfOrder_81 : decode cX7_isOutOfOrder 81 = .ok (.if_icmp .le 30, 3) := dk_164 0 30 (dk_at dksX7_isOutOfOrder_3 15 rfl rfl)
theorem dX7_isOutOfOrder_84 : decode cX7_isOutOfOrder 84 = .ok (.aload_n 0, 1) := dk_42 (dk_at dksX7_isOutOfOrder_3 18 rfl rfl)
theorem dX7_isOutOfOrder_85 : decode cX7_isOutOfOrder 85 = .ok (.iload_n 3, 1) := dk_29 (dk_at dksX7_isOutOfOrder_3 19 rfl rfl)
theorem dX7_isOutOfOrder_86 : decode cX7_isOutOfOrder 86 = .ok (.invokevirtual 82, 3) := dk_182 0 82 (dk_at dksX7_isOutOfOrder_3 20 rfl rfl)
theorem dX7_isOutOfOrder_89 : decode cX7_isOutOfOrder 89 = .ok (.ifCond .eq 22, 3) := dk_153 0 22 (dk_at dksX7_isOutOfOrder_4 0 rfl rfl)
theorem dX7_isOutOfOrder_92 : decode cX7_isOutOfOrder 92 = .ok (.aload_n 0, 1) := dk_42 (dk_at dksX7_isOutOfOrder_4 3 rfl rfl)
theorem dX7_isOutOfOrder_93 : decode cX7_isOutOfOrder 93 = .ok (.getfield 19, 3) := dk_180 0 19 (dk_at dksX7_isOutOfOrder_4 4 rfl rfl)
theorem dX7_isOutOfOrder_96 : decode cX7_isOutOfOrder 96 = .ok (.iload_n 3, 1) := dk_29 (dk_at dksX7_isOutOfOrder_4 7 rfl rfl)
theorem dX7_isOutOfOrder_97 : decode cX7_isOutOfOrder 97 = .ok (.iaload, 1) := dk_46 (dk_at dksX7_isOutOfOrder_4 8 rfl rfl)
theorem dX7_isOutOfOrder_98 : decode cX7_isOutOfOrder 98 = .ok (.aload_n 0, 1) := dk_42 (dk_at dksX7_isOutOfOrder_4 9 rfl rfl)
theorem dX7_isOutOfOrder_99 : decode cX7_isOutOfOrder 99 = .ok (.getfield 19, 3) := dk_180 0 19 (dk_at dksX7_isOutOfOrder_4 10 rfl rfl)
theorem dX7_isOutOfOrder_102 : decode cX7_isOutOfOrder 102 = .ok (.iload_n 1, 1) := dk_27 (dk_at dksX7_isOutOfOrder_4 13 rfl rfl)
theorem dX7_isOutOfOrder_103 : decode cX7_isOutOfOrder 103 = .ok (.iaload, 1) := dk_46 (dk_at dksX7_isOutOfOrder_4 14 rfl rfl)
theorem dX7_isOutOfOrder_104 : decode cX7_isOutOfOrder 104 = .ok (.if_icmp .ge 7, 3) := dk_162 0 7 (dk_at dksX7_isOutOfOrder_4 15 rfl rfl)
theorem dX7_isOutOfOrder_107 : decode cX7_isOutOfOrder 107 = .ok (.iconst 1, 1) := dk_4 (dk_at dksX7_isOutOfOrder_4 18 rfl rfl)
theorem dX7_isOutOfOrder_108 : decode cX7_isOutOfOrder 108 = .ok (.goto 4, 3) := dk_167 0 4 (dk_at dksX7_isOutOfOrder_4 19 rfl rfl)
theorem dX7_isOutOfOrder_111 : decode cX7_isOutOfOrder 111 = .ok (.iconst 0, 1) := dk_3 (dk_at dksX7_isOutOfOrder_4 22 rfl rfl)
theorem dX7_isOutOfOrder_112 : decode cX7_isOutOfOrder 112 = .ok (.ior, 1) := dk_128 (dk_at dksX7_isOutOfOrder_4 23 rfl rfl)
theorem dX7_isOutOfOrder_113 : decode cX7_isOutOfOrder 113 = .ok (.istore_n 2, 1) := dk_61 (dk_at dksX7_isOutOfOrder_5 0 rfl rfl)
theorem dX7_isOutOfOrder_114 : decode cX7_isOutOfOrder 114 = .ok (.iinc 3 1, 3) := dk_132 3 1 (dk_at dksX7_isOutOfOrder_5 1 rfl rfl)
theorem dX7_isOutOfOrder_117 : decode cX7_isOutOfOrder 117 = .ok (.goto (-113), 3) := dk_167 255 143 (dk_at dksX7_isOutOfOrder_5 4 rfl rfl)
theorem dX7_isOutOfOrder_120 : decode cX7_isOutOfOrder 120 = .ok (.iload_n 2, 1) := dk_28 (dk_at dksX7_isOutOfOrder_5 7 rfl rfl)
theorem dX7_isOutOfOrder_121 : decode cX7_isOutOfOrder 121 = .ok (.ireturn, 1) := dk_172 (dk_at dksX7_isOutOfOrder_5 8 rfl rfl)
abbrev cX7_cost : ByteArray := prog_2_method_11_code
def yX7_cost : MethodName := ⟨RX7, "cost", "(J)I"⟩
def dkwX7_cost_1 : List UInt8 := [167, 0, 12, 31, 20, 0, 90, 97, 20, 0, 92, 109, 184, 0, 62, 136, 172]
abbrev dktX7_cost_1 : List UInt8 := dkwX7_cost_1 ++ []
def dkwX7_cost_0 : List UInt8 := [20, 0, 86, 31, 9, 148, 156, 0, 19, 20, 0, 88, 20, 0, 90, 31, 101, 20, 0, 92, 109, 105]
abbrev dktX7_cost_0 : List UInt8 := dkwX7_cost_0 ++ dktX7_cost_1
theorem dksX7_cost_0 : cX7_cost.data.toList.drop 0 = dktX7_cost_0 := by decide +kernel
theorem dksX7_cost_1 : cX7_cost.data.toList.drop 22 = dktX7_cost_1 := dk_seg dksX7_cost_0 22 rfl rfl
theorem dX7_cost_0 : decode cX7_cost 0 = .ok (.ldc2_w 86, 3) := dk_20 0 86 (dk_at dksX7_cost_0 0 rfl rfl)
theorem dX7_cost_3 : decode cX7_cost 3 = .ok (.lload_n 1, 1) := dk_31 (dk_at dksX7_cost_0 3 rfl rfl)
theorem dX7_cost_4 : decode cX7_cost 4 = .ok (.lconst 0, 1) := dk_9 (dk_at dksX7_cost_0 4 rfl rfl)
theorem dX7_cost_5 : decode cX7_cost 5 = .ok (.lcmp, 1) := dk_148 (dk_at dksX7_cost_0 5 rfl rfl)
theorem dX7_cost_6 : decode cX7_cost 6 = .ok (.ifCond .ge 19, 3) := dk_156 0 19 (dk_at dksX7_cost_0 6 rfl rfl)
theorem dX7_cost_9 : decode cX7_cost 9 = .ok (.ldc2_w 88, 3) := dk_20 0 88 (dk_at dksX7_cost_0 9 rfl rfl)
theorem dX7_cost_12 : decode cX7_cost 12 = .ok (.ldc2_w 90, 3) := dk_20 0 90 (dk_at dksX7_cost_0 12 rfl rfl)
theorem dX7_cost_15 : decode cX7_cost 15 = .ok (.lload_n 1, 1) := dk_31 (dk_at dksX7_cost_0 15 rfl rfl)
theorem dX7_cost_16 : decode cX7_cost 16 = .ok (.lsub, 1) := dk_101 (dk_at dksX7_cost_0 16 rfl rfl)
theorem dX7_cost_17 : decode cX7_cost 17 = .ok (.ldc2_w 92, 3) := dk_20 0 92 (dk_at dksX7_cost_0 17 rfl rfl)
theorem dX7_cost_20 : decode cX7_cost 20 = .ok (.ldiv, 1) := dk_109 (dk_at dksX7_cost_0 20 rfl rfl)
theorem dX7_cost_21 : decode cX7_cost 21 = .ok (.lmul, 1) := dk_105 (dk_at dksX7_cost_0 21 rfl rfl)
theorem dX7_cost_22 : decode cX7_cost 22 = .ok (.goto 12, 3) := dk_167 0 12 (dk_at dksX7_cost_1 0 rfl rfl)
theorem dX7_cost_25 : decode cX7_cost 25 = .ok (.lload_n 1, 1) := dk_31 (dk_at dksX7_cost_1 3 rfl rfl)
theorem dX7_cost_26 : decode cX7_cost 26 = .ok (.ldc2_w 90, 3) := dk_20 0 90 (dk_at dksX7_cost_1 4 rfl rfl)
theorem dX7_cost_29 : decode cX7_cost 29 = .ok (.ladd, 1) := dk_97 (dk_at dksX7_cost_1 7 rfl rfl)
theorem dX7_cost_30 : decode cX7_cost 30 = .ok (.ldc2_w 92, 3) := dk_20 0 92 (dk_at dksX7_cost_1 8 rfl rfl)
theorem dX7_cost_33 : decode cX7_cost 33 = .ok (.ldiv, 1) := dk_109 (dk_at dksX7_cost_1 11 rfl rfl)
theorem dX7_cost_34 : decode cX7_cost 34 = .ok (.invokestatic 62, 3) := dk_184 0 62 (dk_at dksX7_cost_1 12 rfl rfl)
theorem dX7_cost_37 : decode cX7_cost 37 = .ok (.l2i, 1) := dk_136 (dk_at dksX7_cost_1 15 rfl rfl)
theorem dX7_cost_38 : decode cX7_cost 38 = .ok (.ireturn, 1) := dk_172 (dk_at dksX7_cost_1 16 rfl rfl)
abbrev cX7_total : ByteArray := prog_2_method_13_code
def yX7_total : MethodName := ⟨RX7, "total", "()I"⟩
def dkwX7_total_1 : List UInt8 := [182, 0, 104, 96, 60, 132, 2, 1, 167, 255, 229, 27, 172]
abbrev dktX7_total_1 : List UInt8 := dkwX7_total_1 ++ []
def dkwX7_total_0 : List UInt8 := [3, 60, 3, 61, 28, 42, 180, 0, 3, 180, 0, 35, 185, 0, 39, 1, 0, 162, 0, 17, 27, 42, 28]
abbrev dktX7_total_0 : List UInt8 := dkwX7_total_0 ++ dktX7_total_1
theorem dksX7_total_0 : cX7_total.data.toList.drop 0 = dktX7_total_0 := by decide +kernel
theorem dksX7_total_1 : cX7_total.data.toList.drop 23 = dktX7_total_1 := dk_seg dksX7_total_0 23 rfl rfl
theorem dX7_total_0 : decode cX7_total 0 = .ok (.iconst 0, 1) := dk_3 (dk_at dksX7_total_0 0 rfl rfl)
theorem dX7_total_1 : decode cX7_total 1 = .ok (.istore_n 1, 1) := dk_60 (dk_at dksX7_total_0 1 rfl rfl)
theorem dX7_total_2 : decode cX7_total 2 = .ok (.iconst 0, 1) := dk_3 (dk_at dksX7_total_0 2 rfl rfl)
theorem dX7_total_3 : decode cX7_total 3 = .ok (.istore_n 2, 1) := dk_61 (dk_at dksX7_total_0 3 rfl rfl)
theorem dX7_total_4 : decode cX7_total 4 = .ok (.iload_n 2, 1) := dk_28 (dk_at dksX7_total_0 4 rfl rfl)
theorem dX7_total_5 : decode cX7_total 5 = .ok (.aload_n 0, 1) := dk_42 (dk_at dksX7_total_0 5 rfl rfl)
theorem dX7_total_6 : decode cX7_total 6 = .ok (.getfield 3, 3) := dk_180 0 3 (dk_at dksX7_total_0 6 rfl rfl)
theorem dX7_total_9 : decode cX7_total 9 = .ok (.getfield 35, 3) := dk_180 0 35 (dk_at dksX7_total_0 9 rfl rfl)
theorem dX7_total_12 : decode cX7_total 12 = .ok (.invokeinterface 39 1, 5) := by decide +kernel
theorem dX7_total_17 : decode cX7_total 17 = .ok (.if_icmp .ge 17, 3) := dk_162 0 17 (dk_at dksX7_total_0 17 rfl rfl)
theorem dX7_total_20 : decode cX7_total 20 = .ok (.iload_n 1, 1) := dk_27 (dk_at dksX7_total_0 20 rfl rfl)
theorem dX7_total_21 : decode cX7_total 21 = .ok (.aload_n 0, 1) := dk_42 (dk_at dksX7_total_0 21 rfl rfl)
theorem dX7_total_22 : decode cX7_total 22 = .ok (.iload_n 2, 1) := dk_28 (dk_at dksX7_total_0 22 rfl rfl)
theorem dX7_total_23 : decode cX7_total 23 = .ok (.invokevirtual 104, 3) := dk_182 0 104 (dk_at dksX7_total_1 0 rfl rfl)
theorem dX7_total_26 : decode cX7_total 26 = .ok (.iadd, 1) := dk_96 (dk_at dksX7_total_1 3 rfl rfl)
theorem dX7_total_27 : decode cX7_total 27 = .ok (.istore_n 1, 1) := dk_60 (dk_at dksX7_total_1 4 rfl rfl)
theorem dX7_total_28 : decode cX7_total 28 = .ok (.iinc 2 1, 3) := dk_132 2 1 (dk_at dksX7_total_1 5 rfl rfl)
theorem dX7_total_31 : decode cX7_total 31 = .ok (.goto (-27), 3) := dk_167 255 229 (dk_at dksX7_total_1 8 rfl rfl)
theorem dX7_total_34 : decode cX7_total 34 = .ok (.iload_n 1, 1) := dk_27 (dk_at dksX7_total_1 11 rfl rfl)
theorem dX7_total_35 : decode cX7_total 35 = .ok (.ireturn, 1) := dk_172 (dk_at dksX7_total_1 12 rfl rfl)
abbrev cX7_rally : ByteArray := prog_2_method_3_code
def yX7_rally : MethodName := ⟨RX7, "rally", "()LRegularRally;"⟩
theorem dX7_rally_0 : decode cX7_rally 0 = .ok (.aload_n 0, 1) := by decide +kernel
theorem dX7_rally_1 : decode cX7_rally 1 = .ok (.getfield 3, 3) := by decide +kernel
theorem dX7_rally_4 : decode cX7_rally 4 = .ok (.areturn, 1) := by decide +kernel
abbrev cX7_number : ByteArray := prog_2_method_2_code
def yX7_number : MethodName := ⟨RX7, "number", "()I"⟩
theorem dX7_number_0 : decode cX7_number 0 = .ok (.aload_n 0, 1) := by decide +kernel
theorem dX7_number_1 : decode cX7_number 1 = .ok (.getfield 25, 3) := by decide +kernel
theorem dX7_number_4 : decode cX7_number 4 = .ok (.ireturn, 1) := by decide +kernel
abbrev cX7_kind : ByteArray := prog_2_method_4_code
def yX7_kind : MethodName := ⟨RX7, "kind", "()I"⟩
theorem dX7_kind_0 : decode cX7_kind 0 = .ok (.iconst 0, 1) := by decide +kernel
theorem dX7_kind_1 : decode cX7_kind 1 = .ok (.ireturn, 1) := by decide +kernel
theorem q73 : (Jvm.Cond.initialized "RegularRally$Car") ∈ lw_all := lw_g (lw_at lw_m1 26 rfl) rfl
theorem q131 : (Jvm.Cond.fieldLinkNest "RegularRally$Car" (35 : Nat) "RegularRally" "controls" "Ljava/util/List;" "RegularRally") ∈ lw_tbl := lw_at lw_m1 84 rfl
theorem q299 : (Jvm.Cond.selects "RegularRally$Car" ({ cls := "java/lang/Object", name := "getClass", desc := "()Ljava/lang/Class;" } : Jvm.MethodName) ({ cls := "java/lang/Object", name := "getClass", desc := "()Ljava/lang/Class;" } : Jvm.MethodName)) ∈ lw_all := lw_g (lw_at lw_m2 12 rfl) rfl
theorem q540 : (Jvm.Cond.instanceMethod ({ cls := "RegularRally$Car", name := "forget", desc := "()V" } : Jvm.MethodName)) ∈ lw_all := lw_g (lw_at lw_m3 13 rfl) rfl
theorem q541 : (Jvm.Cond.selects "RegularRally$Car" ({ cls := "RegularRally$Car", name := "forget", desc := "()V" } : Jvm.MethodName) ({ cls := "RegularRally$Car", name := "forget", desc := "()V" } : Jvm.MethodName)) ∈ lw_all := lw_g (lw_at lw_m3 14 rfl) rfl
theorem q542 : (Jvm.Cond.sameMethod "RegularRally$Car" "RegularRally$Car" "forget" "()V") ∈ lw_all := lw_g (lw_at lw_m3 15 rfl) rfl
theorem q545 : (Jvm.Cond.code ({ cls := "RegularRally$Car", name := "forget", desc := "()V" } : Jvm.MethodName) prog_2_method_5_code (2 : Nat) (Option.none : Option Jvm.ClassFile.FieldType)) ∈ lw_all := lw_g (lw_at lw_m3 18 rfl) rfl
theorem q593 : (Jvm.Cond.fieldLinkNest "RegularRally$Car" (51 : Nat) "RegularRally$Control" "place" "I" "RegularRally") ∈ lw_tbl := lw_at lw_m3 66 rfl
theorem q595 : (Jvm.Cond.fieldLinkNest "RegularRally$Car" (78 : Nat) "RegularRally$Control" "isStruck" "Z" "RegularRally") ∈ lw_tbl := lw_at lw_m3 68 rfl
theorem q651 : (Jvm.Cond.instantiable "RegularRally$Car" (7 : Nat)) ∈ lw_all := lw_g (lw_at lw_m3 124 rfl) rfl
theorem q653 : (Jvm.Cond.instanceMethod ({ cls := "RegularRally$Car", name := "<init>", desc := "(LRegularRally;II)V" } : Jvm.MethodName)) ∈ lw_all := lw_g (lw_at lw_m3 126 rfl) rfl
theorem q654 : (Jvm.Cond.code ({ cls := "RegularRally$Car", name := "<init>", desc := "(LRegularRally;II)V" } : Jvm.MethodName) prog_2_method_1_code (4 : Nat) (Option.none : Option Jvm.ClassFile.FieldType)) ∈ lw_all := lw_g (lw_at lw_m3 127 rfl) rfl
theorem q655 : (Jvm.Cond.methodLink "RegularRally$Car" (9 : Nat) ({ cls := "java/lang/Object", name := "<init>", desc := "()V" } : Jvm.MethodName)) ∈ lw_all := lw_g (lw_at lw_m3 128 rfl) rfl
theorem q656 : (Jvm.Cond.fieldLink "RegularRally$Car" (25 : Nat) "RegularRally$Car" "number" "I") ∈ lw_all := lw_g (lw_at lw_m3 129 rfl) rfl
theorem q658 : (Jvm.Cond.fieldLink "RegularRally$Car" (29 : Nat) "RegularRally$Car" "start" "I") ∈ lw_all := lw_g (lw_at lw_m3 131 rfl) rfl
theorem q659 : (Jvm.Cond.fieldLink "RegularRally$Car" (15 : Nat) "RegularRally$Car" "times" "[I") ∈ lw_all := lw_g (lw_at lw_m3 132 rfl) rfl
theorem q660 : (Jvm.Cond.fieldLink "RegularRally$Car" (19 : Nat) "RegularRally$Car" "orders" "[I") ∈ lw_all := lw_g (lw_at lw_m3 133 rfl) rfl
theorem q661 : (Jvm.Cond.fieldLink "RegularRally$Car" (22 : Nat) "RegularRally$Car" "claims" "[I") ∈ lw_all := lw_g (lw_at lw_m3 134 rfl) rfl
theorem q663 : (Jvm.Cond.fieldLink "RegularRally$Car" (32 : Nat) "RegularRally$Car" "clocked" "I") ∈ lw_all := lw_g (lw_at lw_m3 136 rfl) rfl
theorem q664 : (Jvm.Cond.fieldLink "RegularRally$Car" (3 : Nat) "RegularRally$Car" "this$0" "LRegularRally;") ∈ lw_all := lw_g (lw_at lw_m3 137 rfl) rfl
theorem q665 : (Jvm.Cond.laysFinal "RegularRally$Car" "RegularRally$Car" "number" "I") ∈ lw_all := lw_g (lw_at lw_m3 138 rfl) rfl
theorem q666 : (Jvm.Cond.soleField "RegularRally$Car" "number") ∈ lw_all := lw_g (lw_at lw_m3 139 rfl) rfl
theorem q667 : (Jvm.Cond.laysFinal "RegularRally$Car" "RegularRally$Car" "start" "I") ∈ lw_all := lw_g (lw_at lw_m3 140 rfl) rfl
theorem q668 : (Jvm.Cond.soleField "RegularRally$Car" "start") ∈ lw_all := lw_g (lw_at lw_m3 141 rfl) rfl
theorem q669 : (Jvm.Cond.laysFinal "RegularRally$Car" "RegularRally$Car" "times" "[I") ∈ lw_all := lw_g (lw_at lw_m3 142 rfl) rfl
theorem q670 : (Jvm.Cond.soleField "RegularRally$Car" "times") ∈ lw_all := lw_g (lw_at lw_m3 143 rfl) rfl
theorem q671 : (Jvm.Cond.laysFinal "RegularRally$Car" "RegularRally$Car" "orders" "[I") ∈ lw_all := lw_g (lw_at lw_m3 144 rfl) rfl
theorem q672 : (Jvm.Cond.soleField "RegularRally$Car" "orders") ∈ lw_all := lw_g (lw_at lw_m3 145 rfl) rfl
theorem q673 : (Jvm.Cond.laysFinal "RegularRally$Car" "RegularRally$Car" "claims" "[I") ∈ lw_all := lw_g (lw_at lw_m3 146 rfl) rfl
theorem q674 : (Jvm.Cond.soleField "RegularRally$Car" "claims") ∈ lw_all := lw_g (lw_at lw_m3 147 rfl) rfl
theorem q675 : (Jvm.Cond.lays "RegularRally$Car" "RegularRally$Car" "clocked" "I") ∈ lw_all := lw_g (lw_at lw_m3 148 rfl) rfl
theorem q676 : (Jvm.Cond.soleField "RegularRally$Car" "clocked") ∈ lw_all := lw_g (lw_at lw_m3 149 rfl) rfl
theorem q677 : (Jvm.Cond.laysFinal "RegularRally$Car" "RegularRally$Car" "this$0" "LRegularRally;") ∈ lw_all := lw_g (lw_at lw_m3 150 rfl) rfl
theorem q678 : (Jvm.Cond.soleField "RegularRally$Car" "this$0") ∈ lw_all := lw_g (lw_at lw_m3 151 rfl) rfl
theorem q679 : (Jvm.Cond.superclass "RegularRally$Car" "java/lang/Object") ∈ lw_all := lw_g (lw_at lw_m3 152 rfl) rfl
theorem q724 : (Jvm.Cond.instanceMethod ({ cls := "RegularRally$Car", name := "isClocked", desc := "(I)Z" } : Jvm.MethodName)) ∈ lw_all := lw_g (lw_at lw_m3 197 rfl) rfl
theorem q725 : (Jvm.Cond.selects "RegularRally$Car" ({ cls := "RegularRally$Car", name := "isClocked", desc := "(I)Z" } : Jvm.MethodName) ({ cls := "RegularRally$Car", name := "isClocked", desc := "(I)Z" } : Jvm.MethodName)) ∈ lw_all := lw_g (lw_at lw_m3 198 rfl) rfl
theorem q726 : (Jvm.Cond.sameMethod "RegularRally$Car" "RegularRally$Car" "isClocked" "(I)Z") ∈ lw_all := lw_g (lw_at lw_m3 199 rfl) rfl
theorem q729 : (Jvm.Cond.code ({ cls := "RegularRally$Car", name := "isClocked", desc := "(I)Z" } : Jvm.MethodName) prog_2_method_6_code (2 : Nat) (Option.some Jvm.ClassFile.FieldType.boolean)) ∈ lw_all := lw_g (lw_at lw_m3 202 rfl) rfl
theorem q731 : (Jvm.Cond.instanceMethod ({ cls := "RegularRally$Car", name := "clock", desc := "(II)V" } : Jvm.MethodName)) ∈ lw_all := lw_g (lw_at lw_m3 204 rfl) rfl
theorem q732 : (Jvm.Cond.selects "RegularRally$Car" ({ cls := "RegularRally$Car", name := "clock", desc := "(II)V" } : Jvm.MethodName) ({ cls := "RegularRally$Car", name := "clock", desc := "(II)V" } : Jvm.MethodName)) ∈ lw_all := lw_g (lw_at lw_m3 205 rfl) rfl
theorem q733 : (Jvm.Cond.sameMethod "RegularRally$Car" "RegularRally$Car" "clock" "(II)V") ∈ lw_all := lw_g (lw_at lw_m3 206 rfl) rfl
theorem q736 : (Jvm.Cond.code ({ cls := "RegularRally$Car", name := "clock", desc := "(II)V" } : Jvm.MethodName) prog_2_method_7_code (3 : Nat) (Option.none : Option Jvm.ClassFile.FieldType)) ∈ lw_all := lw_g (lw_at lw_m3 209 rfl) rfl
theorem q746 : (Jvm.Cond.instanceMethod ({ cls := "RegularRally$Car", name := "error", desc := "(I)J" } : Jvm.MethodName)) ∈ lw_all := lw_g (lw_at lw_m3 219 rfl) rfl
theorem q747 : (Jvm.Cond.selects "RegularRally$Car" ({ cls := "RegularRally$Car", name := "error", desc := "(I)J" } : Jvm.MethodName) ({ cls := "RegularRally$Car", name := "error", desc := "(I)J" } : Jvm.MethodName)) ∈ lw_all := lw_g (lw_at lw_m3 220 rfl) rfl
theorem q748 : (Jvm.Cond.sameMethod "RegularRally$Car" "RegularRally$Car" "error" "(I)J") ∈ lw_all := lw_g (lw_at lw_m3 221 rfl) rfl
theorem q751 : (Jvm.Cond.code ({ cls := "RegularRally$Car", name := "error", desc := "(I)J" } : Jvm.MethodName) prog_2_method_9_code (4 : Nat) (Option.some Jvm.ClassFile.FieldType.long)) ∈ lw_all := lw_g (lw_at lw_m3 224 rfl) rfl
theorem q752 : (Jvm.Cond.interfaceEntry "RegularRally$Car" (45 : Nat)) ∈ lw_tbl := lw_at lw_m3 225 rfl
theorem q753 : (Jvm.Cond.methodLink "RegularRally$Car" (45 : Nat) ({ cls := "java/util/List", name := "get", desc := "(I)Ljava/lang/Object;" } : Jvm.MethodName)) ∈ lw_all := lw_g (lw_at lw_m3 226 rfl) rfl
theorem q754 : (Jvm.Cond.classLink "RegularRally$Car" (49 : Nat) "RegularRally$Control") ∈ lw_all := lw_g (lw_at lw_m3 227 rfl) rfl
theorem q755 : (Jvm.Cond.methodLink "RegularRally$Car" (65 : Nat) ({ cls := "RegularRally$Control", name := "right", desc := "(I)J" } : Jvm.MethodName)) ∈ lw_all := lw_g (lw_at lw_m3 228 rfl) rfl
theorem q756 : (Jvm.Cond.methodLinkNest "RegularRally$Car" (69 : Nat) ({ cls := "RegularRally", name := "dueAt", desc := "(I)J" } : Jvm.MethodName) "RegularRally") ∈ lw_tbl := lw_at lw_m3 229 rfl
theorem q757 : (Jvm.Cond.methodLink "RegularRally$Car" (72 : Nat) ({ cls := "RegularRally$Car", name := "claimed", desc := "(I)J" } : Jvm.MethodName)) ∈ lw_all := lw_g (lw_at lw_m3 230 rfl) rfl
theorem q758 : (Jvm.Cond.privateMethod ({ cls := "RegularRally$Car", name := "claimed", desc := "(I)J" } : Jvm.MethodName)) ∈ lw_tbl := lw_at lw_m3 231 rfl
theorem q759 : (Jvm.Cond.instanceMethod ({ cls := "RegularRally$Car", name := "claimed", desc := "(I)J" } : Jvm.MethodName)) ∈ lw_all := lw_g (lw_at lw_m3 232 rfl) rfl
theorem q760 : (Jvm.Cond.code ({ cls := "RegularRally$Car", name := "claimed", desc := "(I)J" } : Jvm.MethodName) prog_2_method_8_code (5 : Nat) (Option.some Jvm.ClassFile.FieldType.long)) ∈ lw_all := lw_g (lw_at lw_m3 233 rfl) rfl
theorem q761 : (Jvm.Cond.interfaceEntry "RegularRally$Car" (39 : Nat)) ∈ lw_tbl := lw_at lw_m3 234 rfl
theorem q762 : (Jvm.Cond.methodLink "RegularRally$Car" (39 : Nat) ({ cls := "java/util/List", name := "size", desc := "()I" } : Jvm.MethodName)) ∈ lw_all := lw_g (lw_at lw_m3 235 rfl) rfl
theorem q763 : (Jvm.Cond.methodLink "RegularRally$Car" (54 : Nat) ({ cls := "java/lang/Math", name := "min", desc := "(II)I" } : Jvm.MethodName)) ∈ lw_all := lw_g (lw_at lw_m3 236 rfl) rfl
theorem q764 : (Jvm.Cond.constantLong "RegularRally$Car" (60 : Nat) (1500 : Int64)) ∈ lw_all := lw_g (lw_at lw_m3 237 rfl) rfl
theorem q765 : (Jvm.Cond.methodLink "RegularRally$Car" (62 : Nat) ({ cls := "java/lang/Math", name := "min", desc := "(JJ)J" } : Jvm.MethodName)) ∈ lw_all := lw_g (lw_at lw_m3 238 rfl) rfl
theorem q768 : (Jvm.Cond.methodLink "RegularRally$Car" (75 : Nat) ({ cls := "java/lang/Math", name := "max", desc := "(JJ)J" } : Jvm.MethodName)) ∈ lw_all := lw_g (lw_at lw_m4 1 rfl) rfl
theorem q776 : (Jvm.Cond.instanceMethod ({ cls := "RegularRally$Car", name := "points", desc := "(I)I" } : Jvm.MethodName)) ∈ lw_all := lw_g (lw_at lw_m4 9 rfl) rfl
theorem q777 : (Jvm.Cond.selects "RegularRally$Car" ({ cls := "RegularRally$Car", name := "points", desc := "(I)I" } : Jvm.MethodName) ({ cls := "RegularRally$Car", name := "points", desc := "(I)I" } : Jvm.MethodName)) ∈ lw_all := lw_g (lw_at lw_m4 10 rfl) rfl
theorem q778 : (Jvm.Cond.sameMethod "RegularRally$Car" "RegularRally$Car" "points" "(I)I") ∈ lw_all := lw_g (lw_at lw_m4 11 rfl) rfl
theorem q781 : (Jvm.Cond.code ({ cls := "RegularRally$Car", name := "points", desc := "(I)I" } : Jvm.MethodName) prog_2_method_12_code (2 : Nat) (Option.some Jvm.ClassFile.FieldType.int)) ∈ lw_all := lw_g (lw_at lw_m4 14 rfl) rfl
theorem q782 : (Jvm.Cond.methodLink "RegularRally$Car" (82 : Nat) ({ cls := "RegularRally$Car", name := "isClocked", desc := "(I)Z" } : Jvm.MethodName)) ∈ lw_all := lw_g (lw_at lw_m4 15 rfl) rfl
theorem q783 : (Jvm.Cond.methodLink "RegularRally$Car" (94 : Nat) ({ cls := "RegularRally$Car", name := "isOutOfOrder", desc := "(I)Z" } : Jvm.MethodName)) ∈ lw_all := lw_g (lw_at lw_m4 16 rfl) rfl
theorem q784 : (Jvm.Cond.instanceMethod ({ cls := "RegularRally$Car", name := "isOutOfOrder", desc := "(I)Z" } : Jvm.MethodName)) ∈ lw_all := lw_g (lw_at lw_m4 17 rfl) rfl
theorem q785 : (Jvm.Cond.selects "RegularRally$Car" ({ cls := "RegularRally$Car", name := "isOutOfOrder", desc := "(I)Z" } : Jvm.MethodName) ({ cls := "RegularRally$Car", name := "isOutOfOrder", desc := "(I)Z" } : Jvm.MethodName)) ∈ lw_all := lw_g (lw_at lw_m4 18 rfl) rfl
theorem q786 : (Jvm.Cond.sameMethod "RegularRally$Car" "RegularRally$Car" "isOutOfOrder" "(I)Z") ∈ lw_all := lw_g (lw_at lw_m4 19 rfl) rfl
theorem q789 : (Jvm.Cond.code ({ cls := "RegularRally$Car", name := "isOutOfOrder", desc := "(I)Z" } : Jvm.MethodName) prog_2_method_10_code (4 : Nat) (Option.some Jvm.ClassFile.FieldType.boolean)) ∈ lw_all := lw_g (lw_at lw_m4 22 rfl) rfl
theorem q790 : (Jvm.Cond.methodLink "RegularRally$Car" (97 : Nat) ({ cls := "RegularRally$Car", name := "error", desc := "(I)J" } : Jvm.MethodName)) ∈ lw_all := lw_g (lw_at lw_m4 23 rfl) rfl
theorem q791 : (Jvm.Cond.methodLink "RegularRally$Car" (100 : Nat) ({ cls := "RegularRally$Car", name := "cost", desc := "(J)I" } : Jvm.MethodName)) ∈ lw_all := lw_g (lw_at lw_m4 24 rfl) rfl
theorem q792 : (Jvm.Cond.instanceMethod ({ cls := "RegularRally$Car", name := "cost", desc := "(J)I" } : Jvm.MethodName)) ∈ lw_all := lw_g (lw_at lw_m4 25 rfl) rfl
theorem q793 : (Jvm.Cond.selects "RegularRally$Car" ({ cls := "RegularRally$Car", name := "cost", desc := "(J)I" } : Jvm.MethodName) ({ cls := "RegularRally$Car", name := "cost", desc := "(J)I" } : Jvm.MethodName)) ∈ lw_all := lw_g (lw_at lw_m4 26 rfl) rfl
theorem q794 : (Jvm.Cond.sameMethod "RegularRally$Car" "RegularRally$Car" "cost" "(J)I") ∈ lw_all := lw_g (lw_at lw_m4 27 rfl) rfl
theorem q804 : (Jvm.Cond.code ({ cls := "RegularRally$Car", name := "cost", desc := "(J)I" } : Jvm.MethodName) prog_2_method_11_code (3 : Nat) (Option.some Jvm.ClassFile.FieldType.int)) ∈ lw_all := lw_g (lw_at lw_m4 37 rfl) rfl
theorem q805 : (Jvm.Cond.constantLong "RegularRally$Car" (86 : Nat) (300 : Int64)) ∈ lw_all := lw_g (lw_at lw_m4 38 rfl) rfl
theorem q806 : (Jvm.Cond.constantLong "RegularRally$Car" (88 : Nat) (2 : Int64)) ∈ lw_all := lw_g (lw_at lw_m4 39 rfl) rfl
theorem q807 : (Jvm.Cond.constantLong "RegularRally$Car" (90 : Nat) (9 : Int64)) ∈ lw_all := lw_g (lw_at lw_m4 40 rfl) rfl
theorem q808 : (Jvm.Cond.constantLong "RegularRally$Car" (92 : Nat) (10 : Int64)) ∈ lw_all := lw_g (lw_at lw_m4 41 rfl) rfl
theorem q815 : (Jvm.Cond.instanceMethod ({ cls := "RegularRally$Car", name := "total", desc := "()I" } : Jvm.MethodName)) ∈ lw_all := lw_g (lw_at lw_m4 48 rfl) rfl
theorem q816 : (Jvm.Cond.selects "RegularRally$Car" ({ cls := "RegularRally$Car", name := "total", desc := "()I" } : Jvm.MethodName) ({ cls := "RegularRally$Car", name := "total", desc := "()I" } : Jvm.MethodName)) ∈ lw_all := lw_g (lw_at lw_m4 49 rfl) rfl
theorem q817 : (Jvm.Cond.sameMethod "RegularRally$Car" "RegularRally$Car" "total" "()I") ∈ lw_all := lw_g (lw_at lw_m4 50 rfl) rfl
theorem q820 : (Jvm.Cond.code ({ cls := "RegularRally$Car", name := "total", desc := "()I" } : Jvm.MethodName) prog_2_method_13_code (3 : Nat) (Option.some Jvm.ClassFile.FieldType.int)) ∈ lw_all := lw_g (lw_at lw_m4 53 rfl) rfl
theorem q821 : (Jvm.Cond.methodLink "RegularRally$Car" (104 : Nat) ({ cls := "RegularRally$Car", name := "points", desc := "(I)I" } : Jvm.MethodName)) ∈ lw_all := lw_g (lw_at lw_m4 54 rfl) rfl
theorem q1004 : (Jvm.Cond.unhidden "RegularRally$Car" "greet" "()I") ∈ lw_tbl := lw_at lw_m4 237 rfl
theorem q1021 : (Jvm.Cond.castable "RegularRally$Car" "RegularRally$Greeted") ∈ lw_tbl := lw_at lw_m5 14 rfl
theorem q1022 : (Jvm.Cond.selects "RegularRally$Car" ({ cls := "RegularRally$Greeted", name := "rally", desc := "()LRegularRally;" } : Jvm.MethodName) ({ cls := "RegularRally$Car", name := "rally", desc := "()LRegularRally;" } : Jvm.MethodName)) ∈ lw_all := lw_g (lw_at lw_m5 15 rfl) rfl
theorem q1023 : (Jvm.Cond.unhidden "RegularRally$Car" "rally" "()LRegularRally;") ∈ lw_tbl := lw_at lw_m5 16 rfl
theorem q1024 : (Jvm.Cond.instanceMethod ({ cls := "RegularRally$Car", name := "rally", desc := "()LRegularRally;" } : Jvm.MethodName)) ∈ lw_all := lw_g (lw_at lw_m5 17 rfl) rfl
theorem q1025 : (Jvm.Cond.publicMethod ({ cls := "RegularRally$Car", name := "rally", desc := "()LRegularRally;" } : Jvm.MethodName)) ∈ lw_tbl := lw_at lw_m5 18 rfl
theorem q1026 : (Jvm.Cond.code ({ cls := "RegularRally$Car", name := "rally", desc := "()LRegularRally;" } : Jvm.MethodName) prog_2_method_3_code (1 : Nat) (Option.some (Jvm.ClassFile.FieldType.object "RegularRally"))) ∈ lw_all := lw_g (lw_at lw_m5 19 rfl) rfl
theorem q1038 : (Jvm.Cond.selects "RegularRally$Car" ({ cls := "RegularRally$Greeted", name := "number", desc := "()I" } : Jvm.MethodName) ({ cls := "RegularRally$Car", name := "number", desc := "()I" } : Jvm.MethodName)) ∈ lw_all := lw_g (lw_at lw_m5 31 rfl) rfl
theorem q1039 : (Jvm.Cond.unhidden "RegularRally$Car" "number" "()I") ∈ lw_tbl := lw_at lw_m5 32 rfl
theorem q1040 : (Jvm.Cond.instanceMethod ({ cls := "RegularRally$Car", name := "number", desc := "()I" } : Jvm.MethodName)) ∈ lw_all := lw_g (lw_at lw_m5 33 rfl) rfl
theorem q1041 : (Jvm.Cond.publicMethod ({ cls := "RegularRally$Car", name := "number", desc := "()I" } : Jvm.MethodName)) ∈ lw_tbl := lw_at lw_m5 34 rfl
theorem q1042 : (Jvm.Cond.code ({ cls := "RegularRally$Car", name := "number", desc := "()I" } : Jvm.MethodName) prog_2_method_2_code (1 : Nat) (Option.some Jvm.ClassFile.FieldType.int)) ∈ lw_all := lw_g (lw_at lw_m5 35 rfl) rfl
theorem q1051 : (Jvm.Cond.selects "RegularRally$Car" ({ cls := "RegularRally$Greeted", name := "kind", desc := "()I" } : Jvm.MethodName) ({ cls := "RegularRally$Car", name := "kind", desc := "()I" } : Jvm.MethodName)) ∈ lw_all := lw_g (lw_at lw_m5 44 rfl) rfl
theorem q1052 : (Jvm.Cond.unhidden "RegularRally$Car" "kind" "()I") ∈ lw_tbl := lw_at lw_m5 45 rfl
theorem q1053 : (Jvm.Cond.instanceMethod ({ cls := "RegularRally$Car", name := "kind", desc := "()I" } : Jvm.MethodName)) ∈ lw_all := lw_g (lw_at lw_m5 46 rfl) rfl
theorem q1054 : (Jvm.Cond.publicMethod ({ cls := "RegularRally$Car", name := "kind", desc := "()I" } : Jvm.MethodName)) ∈ lw_tbl := lw_at lw_m5 47 rfl
theorem q1055 : (Jvm.Cond.code ({ cls := "RegularRally$Car", name := "kind", desc := "()I" } : Jvm.MethodName) prog_2_method_4_code (1 : Nat) (Option.some Jvm.ClassFile.FieldType.int)) ∈ lw_all := lw_g (lw_at lw_m5 48 rfl) rfl
theorem q1491 : (Jvm.Cond.sameMethod "RegularRally$Car" "RegularRally$Car" "claimed" "(I)J") ∈ lw_all := lw_g (lw_at lw_m7 4 rfl) rfl
theorem q1494 : (Jvm.Cond.sameMethod "RegularRally$Car" "RegularRally$Car" "kind" "()I") ∈ lw_all := lw_g (lw_at lw_m7 7 rfl) rfl
theorem q1495 : (Jvm.Cond.selects "RegularRally$Car" ({ cls := "RegularRally$Car", name := "kind", desc := "()I" } : Jvm.MethodName) ({ cls := "RegularRally$Car", name := "kind", desc := "()I" } : Jvm.MethodName)) ∈ lw_all := lw_g (lw_at lw_m7 8 rfl) rfl
theorem q1516 : (Jvm.Cond.castable "RegularRally$Car" "java/lang/Object") ∈ lw_tbl := lw_at lw_m7 29 rfl
theorem in_X7 : ∀ w ∈ wsX70, w ∈ lw_all := lw_in wsX70 [665, 667, 669, 671, 673, 675, 677] (by decide +kernel) (by decide +kernel)

/-! RegularRally$Old -/
set_option maxRecDepth 100000
def RX8 : String := "RegularRally$Old"
def TX8 : u_T := fun k => match k with
  | 0 => ("RegularRally$Car", "number", "I", true)
  | 1 => ("RegularRally$Car", "start", "I", true)
  | 2 => ("RegularRally$Car", "times", "[I", true)
  | 3 => ("RegularRally$Car", "orders", "[I", true)
  | 4 => ("RegularRally$Car", "claims", "[I", true)
  | 5 => ("RegularRally$Car", "clocked", "I", false)
  | 6 => ("RegularRally$Car", "this$0", "LRegularRally;", true)
  | _ => ("RegularRally$Old", "this$0", "LRegularRally;", true)
def tyX8 : Nat → FieldType := fun k => match k with
  | 0 => .int
  | 1 => .int
  | 2 => .array .int
  | 3 => .array .int
  | 4 => .array .int
  | 5 => .int
  | 6 => .object "RegularRally"
  | _ => .object "RegularRally"
abbrev wsX80 : List Cond := u_ws RX8 TX8 8
-- two fields of one name: no nmX8
theorem tyX8_ok : ∀ k, k < 8 → parseFieldDescriptor (TX8 k).2.2.1 = some (tyX8 k) := by decide +kernel
abbrev cX8_init : ByteArray := prog_7_method_1_code
def yX8_init : MethodName := ⟨RX8, "<init>", "(LRegularRally;II)V"⟩
def dkwX8_init_0 : List UInt8 := [42, 43, 181, 0, 1, 42, 43, 28, 29, 183, 0, 7, 177]
abbrev dktX8_init_0 : List UInt8 := dkwX8_init_0 ++ []
theorem dksX8_init_0 : cX8_init.data.toList.drop 0 = dktX8_init_0 := by decide +kernel
theorem dX8_init_0 : decode cX8_init 0 = .ok (.aload_n 0, 1) := dk_42 (dk_at dksX8_init_0 0 rfl rfl)
theorem dX8_init_1 : decode cX8_init 1 = .ok (.aload_n 1, 1) := dk_43 (dk_at dksX8_init_0 1 rfl rfl)
theorem dX8_init_2 : decode cX8_init 2 = .ok (.putfield 1, 3) := dk_181 0 1 (dk_at dksX8_init_0 2 rfl rfl)
theorem dX8_init_5 : decode cX8_init 5 = .ok (.aload_n 0, 1) := dk_42 (dk_at dksX8_init_0 5 rfl rfl)
theorem dX8_init_6 : decode cX8_init 6 = .ok (.aload_n 1, 1) := dk_43 (dk_at dksX8_init_0 6 rfl rfl)
theorem dX8_init_7 : decode cX8_init 7 = .ok (.iload_n 2, 1) := dk_28 (dk_at dksX8_init_0 7 rfl rfl)
theorem dX8_init_8 : decode cX8_init 8 = .ok (.iload_n 3, 1) := dk_29 (dk_at dksX8_init_0 8 rfl rfl)
theorem dX8_init_9 : decode cX8_init 9 = .ok (.invokespecial 7, 3) := dk_183 0 7 (dk_at dksX8_init_0 9 rfl rfl)
theorem dX8_init_12 : decode cX8_init 12 = .ok (.return_, 1) := dk_177 (dk_at dksX8_init_0 12 rfl rfl)
abbrev cX8_cost : ByteArray := prog_7_method_3_code
def yX8_cost : MethodName := ⟨RX8, "cost", "(J)I"⟩
def dkwX8_cost_0 : List UInt8 := [42, 31, 183, 0, 13, 5, 108, 172]
abbrev dktX8_cost_0 : List UInt8 := dkwX8_cost_0 ++ []
theorem dksX8_cost_0 : cX8_cost.data.toList.drop 0 = dktX8_cost_0 := by decide +kernel
theorem dX8_cost_0 : decode cX8_cost 0 = .ok (.aload_n 0, 1) := dk_42 (dk_at dksX8_cost_0 0 rfl rfl)
theorem dX8_cost_1 : decode cX8_cost 1 = .ok (.lload_n 1, 1) := dk_31 (dk_at dksX8_cost_0 1 rfl rfl)
theorem dX8_cost_2 : decode cX8_cost 2 = .ok (.invokespecial 13, 3) := dk_183 0 13 (dk_at dksX8_cost_0 2 rfl rfl)
theorem dX8_cost_5 : decode cX8_cost 5 = .ok (.iconst 2, 1) := dk_5 (dk_at dksX8_cost_0 5 rfl rfl)
theorem dX8_cost_6 : decode cX8_cost 6 = .ok (.idiv, 1) := dk_108 (dk_at dksX8_cost_0 6 rfl rfl)
theorem dX8_cost_7 : decode cX8_cost 7 = .ok (.ireturn, 1) := dk_172 (dk_at dksX8_cost_0 7 rfl rfl)
abbrev cX8_greet : ByteArray := prog_7_method_4_code
def yX8_greet : MethodName := ⟨RX8, "greet", "()I"⟩
def dkwX8_greet_0 : List UInt8 := [42, 180, 0, 1, 8, 182, 0, 17, 16, 7, 172]
abbrev dktX8_greet_0 : List UInt8 := dkwX8_greet_0 ++ []
theorem dksX8_greet_0 : cX8_greet.data.toList.drop 0 = dktX8_greet_0 := by decide +kernel
theorem dX8_greet_0 : decode cX8_greet 0 = .ok (.aload_n 0, 1) := dk_42 (dk_at dksX8_greet_0 0 rfl rfl)
theorem dX8_greet_1 : decode cX8_greet 1 = .ok (.getfield 1, 3) := dk_180 0 1 (dk_at dksX8_greet_0 1 rfl rfl)
theorem dX8_greet_4 : decode cX8_greet 4 = .ok (.iconst 5, 1) := dk_8 (dk_at dksX8_greet_0 4 rfl rfl)
theorem dX8_greet_5 : decode cX8_greet 5 = .ok (.invokevirtual 17, 3) := dk_182 0 17 (dk_at dksX8_greet_0 5 rfl rfl)
theorem dX8_greet_8 : decode cX8_greet 8 = .ok (.bipush 7, 2) := dk_16 7 (dk_at dksX8_greet_0 8 rfl rfl)
theorem dX8_greet_10 : decode cX8_greet 10 = .ok (.ireturn, 1) := dk_172 (dk_at dksX8_greet_0 10 rfl rfl)
abbrev cX8_kind : ByteArray := prog_7_method_2_code
def yX8_kind : MethodName := ⟨RX8, "kind", "()I"⟩
theorem dX8_kind_0 : decode cX8_kind 0 = .ok (.iconst 1, 1) := by decide +kernel
theorem dX8_kind_1 : decode cX8_kind 1 = .ok (.ireturn, 1) := by decide +kernel
theorem q74 : (Jvm.Cond.initialized "RegularRally$Old") ∈ lw_all := lw_g (lw_at lw_m1 27 rfl) rfl
theorem q303 : (Jvm.Cond.selects "RegularRally$Old" ({ cls := "java/lang/Object", name := "getClass", desc := "()Ljava/lang/Class;" } : Jvm.MethodName) ({ cls := "java/lang/Object", name := "getClass", desc := "()Ljava/lang/Class;" } : Jvm.MethodName)) ∈ lw_all := lw_g (lw_at lw_m2 16 rfl) rfl
theorem q544 : (Jvm.Cond.selects "RegularRally$Old" ({ cls := "RegularRally$Car", name := "forget", desc := "()V" } : Jvm.MethodName) ({ cls := "RegularRally$Car", name := "forget", desc := "()V" } : Jvm.MethodName)) ∈ lw_all := lw_g (lw_at lw_m3 17 rfl) rfl
theorem q681 : (Jvm.Cond.instantiable "RegularRally$Old" (8 : Nat)) ∈ lw_all := lw_g (lw_at lw_m3 154 rfl) rfl
theorem q683 : (Jvm.Cond.instanceMethod ({ cls := "RegularRally$Old", name := "<init>", desc := "(LRegularRally;II)V" } : Jvm.MethodName)) ∈ lw_all := lw_g (lw_at lw_m3 156 rfl) rfl
theorem q684 : (Jvm.Cond.code ({ cls := "RegularRally$Old", name := "<init>", desc := "(LRegularRally;II)V" } : Jvm.MethodName) prog_7_method_1_code (4 : Nat) (Option.none : Option Jvm.ClassFile.FieldType)) ∈ lw_all := lw_g (lw_at lw_m3 157 rfl) rfl
theorem q685 : (Jvm.Cond.methodLink "RegularRally$Old" (7 : Nat) ({ cls := "RegularRally$Car", name := "<init>", desc := "(LRegularRally;II)V" } : Jvm.MethodName)) ∈ lw_all := lw_g (lw_at lw_m3 158 rfl) rfl
theorem q686 : (Jvm.Cond.fieldLink "RegularRally$Old" (1 : Nat) "RegularRally$Old" "this$0" "LRegularRally;") ∈ lw_all := lw_g (lw_at lw_m3 159 rfl) rfl
theorem q687 : (Jvm.Cond.laysFinal "RegularRally$Old" "RegularRally$Old" "this$0" "LRegularRally;") ∈ lw_all := lw_g (lw_at lw_m3 160 rfl) rfl
theorem q688 : (Jvm.Cond.soleField "RegularRally$Old" "this$0") ∈ lw_all := lw_g (lw_at lw_m3 161 rfl) rfl
theorem q689 : (Jvm.Cond.laysFinal "RegularRally$Old" "RegularRally$Car" "number" "I") ∈ lw_all := lw_g (lw_at lw_m3 162 rfl) rfl
theorem q690 : (Jvm.Cond.laysFinal "RegularRally$Old" "RegularRally$Car" "start" "I") ∈ lw_all := lw_g (lw_at lw_m3 163 rfl) rfl
theorem q691 : (Jvm.Cond.laysFinal "RegularRally$Old" "RegularRally$Car" "times" "[I") ∈ lw_all := lw_g (lw_at lw_m3 164 rfl) rfl
theorem q692 : (Jvm.Cond.laysFinal "RegularRally$Old" "RegularRally$Car" "orders" "[I") ∈ lw_all := lw_g (lw_at lw_m3 165 rfl) rfl
theorem q693 : (Jvm.Cond.laysFinal "RegularRally$Old" "RegularRally$Car" "claims" "[I") ∈ lw_all := lw_g (lw_at lw_m3 166 rfl) rfl
theorem q694 : (Jvm.Cond.lays "RegularRally$Old" "RegularRally$Car" "clocked" "I") ∈ lw_all := lw_g (lw_at lw_m3 167 rfl) rfl
theorem q695 : (Jvm.Cond.laysFinal "RegularRally$Old" "RegularRally$Car" "this$0" "LRegularRally;") ∈ lw_all := lw_g (lw_at lw_m3 168 rfl) rfl
theorem q696 : (Jvm.Cond.superclass "RegularRally$Old" "RegularRally$Car") ∈ lw_all := lw_g (lw_at lw_m3 169 rfl) rfl
theorem q728 : (Jvm.Cond.selects "RegularRally$Old" ({ cls := "RegularRally$Car", name := "isClocked", desc := "(I)Z" } : Jvm.MethodName) ({ cls := "RegularRally$Car", name := "isClocked", desc := "(I)Z" } : Jvm.MethodName)) ∈ lw_all := lw_g (lw_at lw_m3 201 rfl) rfl
theorem q735 : (Jvm.Cond.selects "RegularRally$Old" ({ cls := "RegularRally$Car", name := "clock", desc := "(II)V" } : Jvm.MethodName) ({ cls := "RegularRally$Car", name := "clock", desc := "(II)V" } : Jvm.MethodName)) ∈ lw_all := lw_g (lw_at lw_m3 208 rfl) rfl
theorem q750 : (Jvm.Cond.selects "RegularRally$Old" ({ cls := "RegularRally$Car", name := "error", desc := "(I)J" } : Jvm.MethodName) ({ cls := "RegularRally$Car", name := "error", desc := "(I)J" } : Jvm.MethodName)) ∈ lw_all := lw_g (lw_at lw_m3 223 rfl) rfl
theorem q780 : (Jvm.Cond.selects "RegularRally$Old" ({ cls := "RegularRally$Car", name := "points", desc := "(I)I" } : Jvm.MethodName) ({ cls := "RegularRally$Car", name := "points", desc := "(I)I" } : Jvm.MethodName)) ∈ lw_all := lw_g (lw_at lw_m4 13 rfl) rfl
theorem q788 : (Jvm.Cond.selects "RegularRally$Old" ({ cls := "RegularRally$Car", name := "isOutOfOrder", desc := "(I)Z" } : Jvm.MethodName) ({ cls := "RegularRally$Car", name := "isOutOfOrder", desc := "(I)Z" } : Jvm.MethodName)) ∈ lw_all := lw_g (lw_at lw_m4 21 rfl) rfl
theorem q799 : (Jvm.Cond.instanceMethod ({ cls := "RegularRally$Old", name := "cost", desc := "(J)I" } : Jvm.MethodName)) ∈ lw_all := lw_g (lw_at lw_m4 32 rfl) rfl
theorem q800 : (Jvm.Cond.code ({ cls := "RegularRally$Old", name := "cost", desc := "(J)I" } : Jvm.MethodName) prog_7_method_3_code (3 : Nat) (Option.some Jvm.ClassFile.FieldType.int)) ∈ lw_all := lw_g (lw_at lw_m4 33 rfl) rfl
theorem q801 : (Jvm.Cond.methodLink "RegularRally$Old" (13 : Nat) ({ cls := "RegularRally$Car", name := "cost", desc := "(J)I" } : Jvm.MethodName)) ∈ lw_all := lw_g (lw_at lw_m4 34 rfl) rfl
theorem q803 : (Jvm.Cond.selects "RegularRally$Old" ({ cls := "RegularRally$Car", name := "cost", desc := "(J)I" } : Jvm.MethodName) ({ cls := "RegularRally$Old", name := "cost", desc := "(J)I" } : Jvm.MethodName)) ∈ lw_all := lw_g (lw_at lw_m4 36 rfl) rfl
theorem q819 : (Jvm.Cond.selects "RegularRally$Old" ({ cls := "RegularRally$Car", name := "total", desc := "()I" } : Jvm.MethodName) ({ cls := "RegularRally$Car", name := "total", desc := "()I" } : Jvm.MethodName)) ∈ lw_all := lw_g (lw_at lw_m4 52 rfl) rfl
theorem q1010 : (Jvm.Cond.instanceMethod ({ cls := "RegularRally$Old", name := "greet", desc := "()I" } : Jvm.MethodName)) ∈ lw_all := lw_g (lw_at lw_m5 3 rfl) rfl
theorem q1011 : (Jvm.Cond.code ({ cls := "RegularRally$Old", name := "greet", desc := "()I" } : Jvm.MethodName) prog_7_method_4_code (1 : Nat) (Option.some Jvm.ClassFile.FieldType.int)) ∈ lw_all := lw_g (lw_at lw_m5 4 rfl) rfl
theorem q1012 : (Jvm.Cond.methodLinkNest "RegularRally$Old" (17 : Nat) ({ cls := "RegularRally", name := "begins", desc := "(I)V" } : Jvm.MethodName) "RegularRally") ∈ lw_tbl := lw_at lw_m5 5 rfl
theorem q1013 : (Jvm.Cond.selects "RegularRally$Old" ({ cls := "RegularRally$Greeted", name := "greet", desc := "()I" } : Jvm.MethodName) ({ cls := "RegularRally$Old", name := "greet", desc := "()I" } : Jvm.MethodName)) ∈ lw_all := lw_g (lw_at lw_m5 6 rfl) rfl
theorem q1030 : (Jvm.Cond.castable "RegularRally$Old" "RegularRally$Greeted") ∈ lw_tbl := lw_at lw_m5 23 rfl
theorem q1031 : (Jvm.Cond.selects "RegularRally$Old" ({ cls := "RegularRally$Greeted", name := "rally", desc := "()LRegularRally;" } : Jvm.MethodName) ({ cls := "RegularRally$Car", name := "rally", desc := "()LRegularRally;" } : Jvm.MethodName)) ∈ lw_all := lw_g (lw_at lw_m5 24 rfl) rfl
theorem q1032 : (Jvm.Cond.unhidden "RegularRally$Old" "rally" "()LRegularRally;") ∈ lw_tbl := lw_at lw_m5 25 rfl
theorem q1045 : (Jvm.Cond.selects "RegularRally$Old" ({ cls := "RegularRally$Greeted", name := "number", desc := "()I" } : Jvm.MethodName) ({ cls := "RegularRally$Car", name := "number", desc := "()I" } : Jvm.MethodName)) ∈ lw_all := lw_g (lw_at lw_m5 38 rfl) rfl
theorem q1046 : (Jvm.Cond.unhidden "RegularRally$Old" "number" "()I") ∈ lw_tbl := lw_at lw_m5 39 rfl
theorem q1061 : (Jvm.Cond.selects "RegularRally$Old" ({ cls := "RegularRally$Greeted", name := "kind", desc := "()I" } : Jvm.MethodName) ({ cls := "RegularRally$Old", name := "kind", desc := "()I" } : Jvm.MethodName)) ∈ lw_all := lw_g (lw_at lw_m5 54 rfl) rfl
theorem q1062 : (Jvm.Cond.unhidden "RegularRally$Old" "kind" "()I") ∈ lw_tbl := lw_at lw_m5 55 rfl
theorem q1063 : (Jvm.Cond.instanceMethod ({ cls := "RegularRally$Old", name := "kind", desc := "()I" } : Jvm.MethodName)) ∈ lw_all := lw_g (lw_at lw_m5 56 rfl) rfl
theorem q1064 : (Jvm.Cond.publicMethod ({ cls := "RegularRally$Old", name := "kind", desc := "()I" } : Jvm.MethodName)) ∈ lw_tbl := lw_at lw_m5 57 rfl
theorem q1065 : (Jvm.Cond.code ({ cls := "RegularRally$Old", name := "kind", desc := "()I" } : Jvm.MethodName) prog_7_method_2_code (1 : Nat) (Option.some Jvm.ClassFile.FieldType.int)) ∈ lw_all := lw_g (lw_at lw_m5 58 rfl) rfl
theorem q1492 : (Jvm.Cond.sameMethod "RegularRally$Old" "RegularRally$Old" "cost" "(J)I") ∈ lw_all := lw_g (lw_at lw_m7 5 rfl) rfl
theorem q1493 : (Jvm.Cond.sameMethod "RegularRally$Old" "RegularRally$Old" "greet" "()I") ∈ lw_all := lw_g (lw_at lw_m7 6 rfl) rfl
theorem q1497 : (Jvm.Cond.selects "RegularRally$Old" ({ cls := "RegularRally$Car", name := "kind", desc := "()I" } : Jvm.MethodName) ({ cls := "RegularRally$Old", name := "kind", desc := "()I" } : Jvm.MethodName)) ∈ lw_all := lw_g (lw_at lw_m7 10 rfl) rfl
theorem q1502 : (Jvm.Cond.castable "RegularRally$Old" "RegularRally$Car") ∈ lw_tbl := lw_at lw_m7 15 rfl
theorem q1517 : (Jvm.Cond.castable "RegularRally$Old" "java/lang/Object") ∈ lw_tbl := lw_at lw_m7 30 rfl
theorem in_X8 : ∀ w ∈ wsX80, w ∈ lw_all := lw_in wsX80 [689, 690, 691, 692, 693, 694, 695, 687] (by decide +kernel) (by decide +kernel)

/-! RegularRally$Novice -/
set_option maxRecDepth 100000
def RX9 : String := "RegularRally$Novice"
def TX9 : u_T := fun k => match k with
  | 0 => ("RegularRally$Car", "number", "I", true)
  | 1 => ("RegularRally$Car", "start", "I", true)
  | 2 => ("RegularRally$Car", "times", "[I", true)
  | 3 => ("RegularRally$Car", "orders", "[I", true)
  | 4 => ("RegularRally$Car", "claims", "[I", true)
  | 5 => ("RegularRally$Car", "clocked", "I", false)
  | 6 => ("RegularRally$Car", "this$0", "LRegularRally;", true)
  | 7 => ("RegularRally$Old", "this$0", "LRegularRally;", true)
  | _ => ("RegularRally$Novice", "this$0", "LRegularRally;", true)
def tyX9 : Nat → FieldType := fun k => match k with
  | 0 => .int
  | 1 => .int
  | 2 => .array .int
  | 3 => .array .int
  | 4 => .array .int
  | 5 => .int
  | 6 => .object "RegularRally"
  | 7 => .object "RegularRally"
  | _ => .object "RegularRally"
abbrev wsX90 : List Cond := u_ws RX9 TX9 9
-- two fields of one name: no nmX9
theorem tyX9_ok : ∀ k, k < 9 → parseFieldDescriptor (TX9 k).2.2.1 = some (tyX9 k) := by decide +kernel
abbrev cX9_init : ByteArray := prog_6_method_1_code
def yX9_init : MethodName := ⟨RX9, "<init>", "(LRegularRally;II)V"⟩
def dkwX9_init_0 : List UInt8 := [42, 43, 181, 0, 1, 42, 43, 28, 29, 183, 0, 7, 177]
abbrev dktX9_init_0 : List UInt8 := dkwX9_init_0 ++ []
theorem dksX9_init_0 : cX9_init.data.toList.drop 0 = dktX9_init_0 := by decide +kernel
theorem dX9_init_0 : decode cX9_init 0 = .ok (.aload_n 0, 1) := dk_42 (dk_at dksX9_init_0 0 rfl rfl)
theorem dX9_init_1 : decode cX9_init 1 = .ok (.aload_n 1, 1) := dk_43 (dk_at dksX9_init_0 1 rfl rfl)
theorem dX9_init_2 : decode cX9_init 2 = .ok (.putfield 1, 3) := dk_181 0 1 (dk_at dksX9_init_0 2 rfl rfl)
theorem dX9_init_5 : decode cX9_init 5 = .ok (.aload_n 0, 1) := dk_42 (dk_at dksX9_init_0 5 rfl rfl)
theorem dX9_init_6 : decode cX9_init 6 = .ok (.aload_n 1, 1) := dk_43 (dk_at dksX9_init_0 6 rfl rfl)
theorem dX9_init_7 : decode cX9_init 7 = .ok (.iload_n 2, 1) := dk_28 (dk_at dksX9_init_0 7 rfl rfl)
theorem dX9_init_8 : decode cX9_init 8 = .ok (.iload_n 3, 1) := dk_29 (dk_at dksX9_init_0 8 rfl rfl)
theorem dX9_init_9 : decode cX9_init 9 = .ok (.invokespecial 7, 3) := dk_183 0 7 (dk_at dksX9_init_0 9 rfl rfl)
theorem dX9_init_12 : decode cX9_init 12 = .ok (.return_, 1) := dk_177 (dk_at dksX9_init_0 12 rfl rfl)
abbrev cX9_cost : ByteArray := prog_6_method_3_code
def yX9_cost : MethodName := ⟨RX9, "cost", "(J)I"⟩
def dkwX9_cost_0 : List UInt8 := [16, 50, 42, 31, 183, 0, 13, 184, 0, 17, 172]
abbrev dktX9_cost_0 : List UInt8 := dkwX9_cost_0 ++ []
theorem dksX9_cost_0 : cX9_cost.data.toList.drop 0 = dktX9_cost_0 := by decide +kernel
theorem dX9_cost_0 : decode cX9_cost 0 = .ok (.bipush 50, 2) := dk_16 50 (dk_at dksX9_cost_0 0 rfl rfl)
theorem dX9_cost_2 : decode cX9_cost 2 = .ok (.aload_n 0, 1) := dk_42 (dk_at dksX9_cost_0 2 rfl rfl)
theorem dX9_cost_3 : decode cX9_cost 3 = .ok (.lload_n 1, 1) := dk_31 (dk_at dksX9_cost_0 3 rfl rfl)
theorem dX9_cost_4 : decode cX9_cost 4 = .ok (.invokespecial 13, 3) := dk_183 0 13 (dk_at dksX9_cost_0 4 rfl rfl)
theorem dX9_cost_7 : decode cX9_cost 7 = .ok (.invokestatic 17, 3) := dk_184 0 17 (dk_at dksX9_cost_0 7 rfl rfl)
theorem dX9_cost_10 : decode cX9_cost 10 = .ok (.ireturn, 1) := dk_172 (dk_at dksX9_cost_0 10 rfl rfl)
abbrev cX9_greet : ByteArray := prog_6_method_4_code
def yX9_greet : MethodName := ⟨RX9, "greet", "()I"⟩
def dkwX9_greet_0 : List UInt8 := [42, 180, 0, 1, 16, 6, 182, 0, 23, 42, 183, 0, 29, 4, 96, 172]
abbrev dktX9_greet_0 : List UInt8 := dkwX9_greet_0 ++ []
theorem dksX9_greet_0 : cX9_greet.data.toList.drop 0 = dktX9_greet_0 := by decide +kernel
theorem dX9_greet_0 : decode cX9_greet 0 = .ok (.aload_n 0, 1) := dk_42 (dk_at dksX9_greet_0 0 rfl rfl)
theorem dX9_greet_1 : decode cX9_greet 1 = .ok (.getfield 1, 3) := dk_180 0 1 (dk_at dksX9_greet_0 1 rfl rfl)
theorem dX9_greet_4 : decode cX9_greet 4 = .ok (.bipush 6, 2) := dk_16 6 (dk_at dksX9_greet_0 4 rfl rfl)
theorem dX9_greet_6 : decode cX9_greet 6 = .ok (.invokevirtual 23, 3) := dk_182 0 23 (dk_at dksX9_greet_0 6 rfl rfl)
theorem dX9_greet_9 : decode cX9_greet 9 = .ok (.aload_n 0, 1) := dk_42 (dk_at dksX9_greet_0 9 rfl rfl)
theorem dX9_greet_10 : decode cX9_greet 10 = .ok (.invokespecial 29, 3) := dk_183 0 29 (dk_at dksX9_greet_0 10 rfl rfl)
theorem dX9_greet_13 : decode cX9_greet 13 = .ok (.iconst 1, 1) := dk_4 (dk_at dksX9_greet_0 13 rfl rfl)
theorem dX9_greet_14 : decode cX9_greet 14 = .ok (.iadd, 1) := dk_96 (dk_at dksX9_greet_0 14 rfl rfl)
theorem dX9_greet_15 : decode cX9_greet 15 = .ok (.ireturn, 1) := dk_172 (dk_at dksX9_greet_0 15 rfl rfl)
abbrev cX9_kind : ByteArray := prog_6_method_2_code
def yX9_kind : MethodName := ⟨RX9, "kind", "()I"⟩
theorem dX9_kind_0 : decode cX9_kind 0 = .ok (.iconst 2, 1) := by decide +kernel
theorem dX9_kind_1 : decode cX9_kind 1 = .ok (.ireturn, 1) := by decide +kernel
theorem q75 : (Jvm.Cond.initialized "RegularRally$Novice") ∈ lw_all := lw_g (lw_at lw_m1 28 rfl) rfl
theorem q302 : (Jvm.Cond.selects "RegularRally$Novice" ({ cls := "java/lang/Object", name := "getClass", desc := "()Ljava/lang/Class;" } : Jvm.MethodName) ({ cls := "java/lang/Object", name := "getClass", desc := "()Ljava/lang/Class;" } : Jvm.MethodName)) ∈ lw_all := lw_g (lw_at lw_m2 15 rfl) rfl
theorem q543 : (Jvm.Cond.selects "RegularRally$Novice" ({ cls := "RegularRally$Car", name := "forget", desc := "()V" } : Jvm.MethodName) ({ cls := "RegularRally$Car", name := "forget", desc := "()V" } : Jvm.MethodName)) ∈ lw_all := lw_g (lw_at lw_m3 16 rfl) rfl
theorem q698 : (Jvm.Cond.instantiable "RegularRally$Novice" (9 : Nat)) ∈ lw_all := lw_g (lw_at lw_m3 171 rfl) rfl
theorem q700 : (Jvm.Cond.instanceMethod ({ cls := "RegularRally$Novice", name := "<init>", desc := "(LRegularRally;II)V" } : Jvm.MethodName)) ∈ lw_all := lw_g (lw_at lw_m3 173 rfl) rfl
theorem q701 : (Jvm.Cond.code ({ cls := "RegularRally$Novice", name := "<init>", desc := "(LRegularRally;II)V" } : Jvm.MethodName) prog_6_method_1_code (4 : Nat) (Option.none : Option Jvm.ClassFile.FieldType)) ∈ lw_all := lw_g (lw_at lw_m3 174 rfl) rfl
theorem q702 : (Jvm.Cond.methodLink "RegularRally$Novice" (7 : Nat) ({ cls := "RegularRally$Old", name := "<init>", desc := "(LRegularRally;II)V" } : Jvm.MethodName)) ∈ lw_all := lw_g (lw_at lw_m3 175 rfl) rfl
theorem q703 : (Jvm.Cond.fieldLink "RegularRally$Novice" (1 : Nat) "RegularRally$Novice" "this$0" "LRegularRally;") ∈ lw_all := lw_g (lw_at lw_m3 176 rfl) rfl
theorem q704 : (Jvm.Cond.laysFinal "RegularRally$Novice" "RegularRally$Novice" "this$0" "LRegularRally;") ∈ lw_all := lw_g (lw_at lw_m3 177 rfl) rfl
theorem q705 : (Jvm.Cond.soleField "RegularRally$Novice" "this$0") ∈ lw_all := lw_g (lw_at lw_m3 178 rfl) rfl
theorem q706 : (Jvm.Cond.laysFinal "RegularRally$Novice" "RegularRally$Old" "this$0" "LRegularRally;") ∈ lw_all := lw_g (lw_at lw_m3 179 rfl) rfl
theorem q707 : (Jvm.Cond.laysFinal "RegularRally$Novice" "RegularRally$Car" "number" "I") ∈ lw_all := lw_g (lw_at lw_m3 180 rfl) rfl
theorem q708 : (Jvm.Cond.laysFinal "RegularRally$Novice" "RegularRally$Car" "start" "I") ∈ lw_all := lw_g (lw_at lw_m3 181 rfl) rfl
theorem q709 : (Jvm.Cond.laysFinal "RegularRally$Novice" "RegularRally$Car" "times" "[I") ∈ lw_all := lw_g (lw_at lw_m3 182 rfl) rfl
theorem q710 : (Jvm.Cond.laysFinal "RegularRally$Novice" "RegularRally$Car" "orders" "[I") ∈ lw_all := lw_g (lw_at lw_m3 183 rfl) rfl
theorem q711 : (Jvm.Cond.laysFinal "RegularRally$Novice" "RegularRally$Car" "claims" "[I") ∈ lw_all := lw_g (lw_at lw_m3 184 rfl) rfl
theorem q712 : (Jvm.Cond.lays "RegularRally$Novice" "RegularRally$Car" "clocked" "I") ∈ lw_all := lw_g (lw_at lw_m3 185 rfl) rfl
theorem q713 : (Jvm.Cond.laysFinal "RegularRally$Novice" "RegularRally$Car" "this$0" "LRegularRally;") ∈ lw_all := lw_g (lw_at lw_m3 186 rfl) rfl
theorem q714 : (Jvm.Cond.superclass "RegularRally$Novice" "RegularRally$Old") ∈ lw_all := lw_g (lw_at lw_m3 187 rfl) rfl
theorem q727 : (Jvm.Cond.selects "RegularRally$Novice" ({ cls := "RegularRally$Car", name := "isClocked", desc := "(I)Z" } : Jvm.MethodName) ({ cls := "RegularRally$Car", name := "isClocked", desc := "(I)Z" } : Jvm.MethodName)) ∈ lw_all := lw_g (lw_at lw_m3 200 rfl) rfl
theorem q734 : (Jvm.Cond.selects "RegularRally$Novice" ({ cls := "RegularRally$Car", name := "clock", desc := "(II)V" } : Jvm.MethodName) ({ cls := "RegularRally$Car", name := "clock", desc := "(II)V" } : Jvm.MethodName)) ∈ lw_all := lw_g (lw_at lw_m3 207 rfl) rfl
theorem q749 : (Jvm.Cond.selects "RegularRally$Novice" ({ cls := "RegularRally$Car", name := "error", desc := "(I)J" } : Jvm.MethodName) ({ cls := "RegularRally$Car", name := "error", desc := "(I)J" } : Jvm.MethodName)) ∈ lw_all := lw_g (lw_at lw_m3 222 rfl) rfl
theorem q779 : (Jvm.Cond.selects "RegularRally$Novice" ({ cls := "RegularRally$Car", name := "points", desc := "(I)I" } : Jvm.MethodName) ({ cls := "RegularRally$Car", name := "points", desc := "(I)I" } : Jvm.MethodName)) ∈ lw_all := lw_g (lw_at lw_m4 12 rfl) rfl
theorem q787 : (Jvm.Cond.selects "RegularRally$Novice" ({ cls := "RegularRally$Car", name := "isOutOfOrder", desc := "(I)Z" } : Jvm.MethodName) ({ cls := "RegularRally$Car", name := "isOutOfOrder", desc := "(I)Z" } : Jvm.MethodName)) ∈ lw_all := lw_g (lw_at lw_m4 20 rfl) rfl
theorem q795 : (Jvm.Cond.selects "RegularRally$Novice" ({ cls := "RegularRally$Car", name := "cost", desc := "(J)I" } : Jvm.MethodName) ({ cls := "RegularRally$Novice", name := "cost", desc := "(J)I" } : Jvm.MethodName)) ∈ lw_all := lw_g (lw_at lw_m4 28 rfl) rfl
theorem q796 : (Jvm.Cond.instanceMethod ({ cls := "RegularRally$Novice", name := "cost", desc := "(J)I" } : Jvm.MethodName)) ∈ lw_all := lw_g (lw_at lw_m4 29 rfl) rfl
theorem q797 : (Jvm.Cond.code ({ cls := "RegularRally$Novice", name := "cost", desc := "(J)I" } : Jvm.MethodName) prog_6_method_3_code (3 : Nat) (Option.some Jvm.ClassFile.FieldType.int)) ∈ lw_all := lw_g (lw_at lw_m4 30 rfl) rfl
theorem q798 : (Jvm.Cond.methodLink "RegularRally$Novice" (13 : Nat) ({ cls := "RegularRally$Old", name := "cost", desc := "(J)I" } : Jvm.MethodName)) ∈ lw_all := lw_g (lw_at lw_m4 31 rfl) rfl
theorem q802 : (Jvm.Cond.methodLink "RegularRally$Novice" (17 : Nat) ({ cls := "java/lang/Math", name := "min", desc := "(II)I" } : Jvm.MethodName)) ∈ lw_all := lw_g (lw_at lw_m4 35 rfl) rfl
theorem q818 : (Jvm.Cond.selects "RegularRally$Novice" ({ cls := "RegularRally$Car", name := "total", desc := "()I" } : Jvm.MethodName) ({ cls := "RegularRally$Car", name := "total", desc := "()I" } : Jvm.MethodName)) ∈ lw_all := lw_g (lw_at lw_m4 51 rfl) rfl
theorem q1005 : (Jvm.Cond.selects "RegularRally$Novice" ({ cls := "RegularRally$Greeted", name := "greet", desc := "()I" } : Jvm.MethodName) ({ cls := "RegularRally$Novice", name := "greet", desc := "()I" } : Jvm.MethodName)) ∈ lw_all := lw_g (lw_at lw_m4 238 rfl) rfl
theorem q1006 : (Jvm.Cond.instanceMethod ({ cls := "RegularRally$Novice", name := "greet", desc := "()I" } : Jvm.MethodName)) ∈ lw_all := lw_g (lw_at lw_m4 239 rfl) rfl
theorem q1007 : (Jvm.Cond.code ({ cls := "RegularRally$Novice", name := "greet", desc := "()I" } : Jvm.MethodName) prog_6_method_4_code (1 : Nat) (Option.some Jvm.ClassFile.FieldType.int)) ∈ lw_all := lw_g (lw_at lw_m5 0 rfl) rfl
theorem q1008 : (Jvm.Cond.methodLinkNest "RegularRally$Novice" (23 : Nat) ({ cls := "RegularRally", name := "begins", desc := "(I)V" } : Jvm.MethodName) "RegularRally") ∈ lw_tbl := lw_at lw_m5 1 rfl
theorem q1009 : (Jvm.Cond.methodLink "RegularRally$Novice" (29 : Nat) ({ cls := "RegularRally$Old", name := "greet", desc := "()I" } : Jvm.MethodName)) ∈ lw_all := lw_g (lw_at lw_m5 2 rfl) rfl
theorem q1027 : (Jvm.Cond.castable "RegularRally$Novice" "RegularRally$Greeted") ∈ lw_tbl := lw_at lw_m5 20 rfl
theorem q1028 : (Jvm.Cond.selects "RegularRally$Novice" ({ cls := "RegularRally$Greeted", name := "rally", desc := "()LRegularRally;" } : Jvm.MethodName) ({ cls := "RegularRally$Car", name := "rally", desc := "()LRegularRally;" } : Jvm.MethodName)) ∈ lw_all := lw_g (lw_at lw_m5 21 rfl) rfl
theorem q1029 : (Jvm.Cond.unhidden "RegularRally$Novice" "rally" "()LRegularRally;") ∈ lw_tbl := lw_at lw_m5 22 rfl
theorem q1043 : (Jvm.Cond.selects "RegularRally$Novice" ({ cls := "RegularRally$Greeted", name := "number", desc := "()I" } : Jvm.MethodName) ({ cls := "RegularRally$Car", name := "number", desc := "()I" } : Jvm.MethodName)) ∈ lw_all := lw_g (lw_at lw_m5 36 rfl) rfl
theorem q1044 : (Jvm.Cond.unhidden "RegularRally$Novice" "number" "()I") ∈ lw_tbl := lw_at lw_m5 37 rfl
theorem q1056 : (Jvm.Cond.selects "RegularRally$Novice" ({ cls := "RegularRally$Greeted", name := "kind", desc := "()I" } : Jvm.MethodName) ({ cls := "RegularRally$Novice", name := "kind", desc := "()I" } : Jvm.MethodName)) ∈ lw_all := lw_g (lw_at lw_m5 49 rfl) rfl
theorem q1057 : (Jvm.Cond.unhidden "RegularRally$Novice" "kind" "()I") ∈ lw_tbl := lw_at lw_m5 50 rfl
theorem q1058 : (Jvm.Cond.instanceMethod ({ cls := "RegularRally$Novice", name := "kind", desc := "()I" } : Jvm.MethodName)) ∈ lw_all := lw_g (lw_at lw_m5 51 rfl) rfl
theorem q1059 : (Jvm.Cond.publicMethod ({ cls := "RegularRally$Novice", name := "kind", desc := "()I" } : Jvm.MethodName)) ∈ lw_tbl := lw_at lw_m5 52 rfl
theorem q1060 : (Jvm.Cond.code ({ cls := "RegularRally$Novice", name := "kind", desc := "()I" } : Jvm.MethodName) prog_6_method_2_code (1 : Nat) (Option.some Jvm.ClassFile.FieldType.int)) ∈ lw_all := lw_g (lw_at lw_m5 53 rfl) rfl
theorem q1496 : (Jvm.Cond.selects "RegularRally$Novice" ({ cls := "RegularRally$Car", name := "kind", desc := "()I" } : Jvm.MethodName) ({ cls := "RegularRally$Novice", name := "kind", desc := "()I" } : Jvm.MethodName)) ∈ lw_all := lw_g (lw_at lw_m7 9 rfl) rfl
theorem q1501 : (Jvm.Cond.castable "RegularRally$Novice" "RegularRally$Car") ∈ lw_tbl := lw_at lw_m7 14 rfl
theorem q1503 : (Jvm.Cond.castable "RegularRally$Novice" "RegularRally$Old") ∈ lw_tbl := lw_at lw_m7 16 rfl
theorem q1518 : (Jvm.Cond.castable "RegularRally$Novice" "java/lang/Object") ∈ lw_tbl := lw_at lw_m7 31 rfl
theorem in_X9 : ∀ w ∈ wsX90, w ∈ lw_all := lw_in wsX90 [707, 708, 709, 710, 711, 712, 713, 706, 704] (by decide +kernel) (by decide +kernel)
