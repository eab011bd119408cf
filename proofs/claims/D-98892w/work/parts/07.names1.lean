/-! ShaveOfAnother$All -/
set_option maxRecDepth 100000
def RX10 : String := "ShaveOfAnother$All"
def TX10 : u_T := fun k => match k with
  | 0 => ("ShaveOfAnother$All", "and", "Z", true)
  | _ => ("ShaveOfAnother$All", "of", "Ljava/util/ArrayList;", true)
def tyX10 : Nat → FieldType := fun k => match k with
  | 0 => .boolean
  | _ => .object "java/util/ArrayList"
abbrev wsX100 : List Cond := u_ws RX10 TX10 2
theorem nmX10 : ∀ a, a < 2 → ∀ b, b < 2 → a ≠ b → (TX10 a).2.1 ≠ (TX10 b).2.1 := by decide +kernel
theorem tyX10_ok : ∀ k, k < 2 → parseFieldDescriptor (TX10 k).2.2.1 = some (tyX10 k) := by decide +kernel
abbrev cX10_init : ByteArray := prog_3_method_1_code
def yX10_init : MethodName := ⟨RX10, "<init>", "(ZLjava/util/ArrayList;)V"⟩
def dkwX10_init_0 : List UInt8 := [42, 183, 0, 1, 42, 27, 181, 0, 7, 42, 44, 181, 0, 13, 177]
abbrev dktX10_init_0 : List UInt8 := dkwX10_init_0 ++ []
theorem dksX10_init_0 : cX10_init.data.toList.drop 0 = dktX10_init_0 := by decide +kernel
theorem dX10_init_0 : decode cX10_init 0 = .ok (.aload_n 0, 1) := dk_42 (dk_at dksX10_init_0 0 rfl rfl)
theorem dX10_init_1 : decode cX10_init 1 = .ok (.invokespecial 1, 3) := dk_183 0 1 (dk_at dksX10_init_0 1 rfl rfl)
theorem dX10_init_4 : decode cX10_init 4 = .ok (.aload_n 0, 1) := dk_42 (dk_at dksX10_init_0 4 rfl rfl)
theorem dX10_init_5 : decode cX10_init 5 = .ok (.iload_n 1, 1) := dk_27 (dk_at dksX10_init_0 5 rfl rfl)
theorem dX10_init_6 : decode cX10_init 6 = .ok (.putfield 7, 3) := dk_181 0 7 (dk_at dksX10_init_0 6 rfl rfl)
theorem dX10_init_9 : decode cX10_init 9 = .ok (.aload_n 0, 1) := dk_42 (dk_at dksX10_init_0 9 rfl rfl)
theorem dX10_init_10 : decode cX10_init 10 = .ok (.aload_n 2, 1) := dk_44 (dk_at dksX10_init_0 10 rfl rfl)
theorem dX10_init_11 : decode cX10_init 11 = .ok (.putfield 13, 3) := dk_181 0 13 (dk_at dksX10_init_0 11 rfl rfl)
theorem dX10_init_14 : decode cX10_init 14 = .ok (.return_, 1) := dk_177 (dk_at dksX10_init_0 14 rfl rfl)
abbrev cX10_is : ByteArray := prog_3_method_2_code
def yX10_is : MethodName := ⟨RX10, "is", "([I)Z"⟩
def dkwX10_is_3 : List UInt8 := [167, 0, 16, 3, 167, 0, 12, 28, 158, 0, 7, 4, 167, 0, 4, 3, 172]
abbrev dktX10_is_3 : List UInt8 := dkwX10_is_3 ++ []
def dkwX10_is_2 : List UInt8 := [167, 255, 214, 42, 180, 0, 7, 153, 0, 22, 28, 42, 180, 0, 13, 182, 0, 17, 160, 0, 7, 4]
abbrev dktX10_is_2 : List UInt8 := dkwX10_is_2 ++ dktX10_is_3
def dkwX10_is_1 : List UInt8 := [192, 0, 27, 43, 185, 0, 29, 2, 0, 153, 0, 7, 4, 167, 0, 4, 3, 96, 61, 132, 3, 1]
abbrev dktX10_is_1 : List UInt8 := dkwX10_is_1 ++ dktX10_is_2
def dkwX10_is_0 : List UInt8 := [3, 61, 3, 62, 29, 42, 180, 0, 13, 182, 0, 17, 162, 0, 37, 28, 42, 180, 0, 13, 29, 182, 0, 23]
abbrev dktX10_is_0 : List UInt8 := dkwX10_is_0 ++ dktX10_is_1
theorem dksX10_is_0 : cX10_is.data.toList.drop 0 = dktX10_is_0 := by decide +kernel
theorem dksX10_is_1 : cX10_is.data.toList.drop 24 = dktX10_is_1 := dk_seg dksX10_is_0 24 rfl rfl
theorem dksX10_is_2 : cX10_is.data.toList.drop 46 = dktX10_is_2 := dk_seg dksX10_is_1 22 rfl rfl
theorem dksX10_is_3 : cX10_is.data.toList.drop 68 = dktX10_is_3 := dk_seg dksX10_is_2 22 rfl rfl
theorem dX10_is_0 : decode cX10_is 0 = .ok (.iconst 0, 1) := dk_3 (dk_at dksX10_is_0 0 rfl rfl)
theorem dX10_is_1 : decode cX10_is 1 = .ok (.istore_n 2, 1) := dk_61 (dk_at dksX10_is_0 1 rfl rfl)
theorem dX10_is_2 : decode cX10_is 2 = .ok (.iconst 0, 1) := dk_3 (dk_at dksX10_is_0 2 rfl rfl)
theorem dX10_is_3 : decode cX10_is 3 = .ok (.istore_n 3, 1) := dk_62 (dk_at dksX10_is_0 3 rfl rfl)
theorem dX10_is_4 : decode cX10_is 4 = .ok (.iload_n 3, 1) := dk_29 (dk_at dksX10_is_0 4 rfl rfl)
theorem dX10_is_5 : decode cX10_is 5 = .ok (.aload_n 0, 1) := dk_42 (dk_at dksX10_is_0 5 rfl rfl)
theorem dX10_is_6 : decode cX10_is 6 = .ok (.getfield 13, 3) := dk_180 0 13 (dk_at dksX10_is_0 6 rfl rfl)
theorem dX10_is_9 : decode cX10_is 9 = .ok (.invokevirtual 17, 3) := dk_182 0 17 (dk_at dksX10_is_0 9 rfl rfl)
theorem dX10_is_12 : decode cX10_is 12 = .ok (.if_icmp .ge 37, 3) := dk_162 0 37 (dk_at dksX10_is_0 12 rfl rfl)
theorem dX10_is_15 : decode cX10_is 15 = .ok (.iload_n 2, 1) := dk_28 (dk_at dksX10_is_0 15 rfl rfl)
theorem dX10_is_16 : decode cX10_is 16 = .ok (.aload_n 0, 1) := dk_42 (dk_at dksX10_is_0 16 rfl rfl)
theorem dX10_is_17 : decode cX10_is 17 = .ok (.getfield 13, 3) := dk_180 0 13 (dk_at dksX10_is_0 17 rfl rfl)
theorem dX10_is_20 : decode cX10_is 20 = .ok (.iload_n 3, 1) := dk_29 (dk_at dksX10_is_0 20 rfl rfl)
theorem dX10_is_21 : decode cX10_is 21 = .ok (.invokevirtual 23, 3) := dk_182 0 23 (dk_at dksX10_is_0 21 rfl rfl)
theorem dX10_is_24 : decode cX10_is 24 = .ok (.checkcast 27, 3) := dk_192 0 27 (dk_at dksX10_is_1 0 rfl rfl)
theorem dX10_is_27 : decode cX10_is 27 = .ok (.aload_n 1, 1) := dk_43 (dk_at dksX10_is_1 3 rfl rfl)
theorem dX10_is_28 : decode cX10_is 28 = .ok (.invokeinterface 29 2, 5) := by decide +kernel
theorem dX10_is_33 : decode cX10_is 33 = .ok (.ifCond .eq 7, 3) := dk_153 0 7 (dk_at dksX10_is_1 9 rfl rfl)
theorem dX10_is_36 : decode cX10_is 36 = .ok (.iconst 1, 1) := dk_4 (dk_at dksX10_is_1 12 rfl rfl)
theorem dX10_is_37 : decode cX10_is 37 = .ok (.goto 4, 3) := dk_167 0 4 (dk_at dksX10_is_1 13 rfl rfl)
theorem dX10_is_40 : decode cX10_is 40 = .ok (.iconst 0, 1) := dk_3 (dk_at dksX10_is_1 16 rfl rfl)
theorem dX10_is_41 : decode cX10_is 41 = .ok (.iadd, 1) := dk_96 (dk_at dksX10_is_1 17 rfl rfl)
theorem dX10_is_42 : decode cX10_is 42 = .ok (.istore_n 2, 1) := dk_61 (dk_at dksX10_is_1 18 rfl rfl)
theorem dX10_is_43 : decode cX10_is 43 = .ok (.iinc 3 1, 3) := dk_132 3 1 (dk_at dksX10_is_1 19 rfl rfl)
theorem dX10_is_46 : decode cX10_is 46 = .ok (.goto (-42), 3) := dk_167 255 214 (dk_at dksX10_is_2 0 rfl rfl)
theorem dX10_is_49 : decode cX10_is 49 = .ok (.aload_n 0, 1) := dk_42 (dk_at dksX10_is_2 3 rfl rfl)
theorem dX10_is_50 : decode cX10_is 50 = .ok (.getfield 7, 3) := dk_180 0 7 (dk_at dksX10_is_2 4 rfl rfl)
theorem dX10_is_53 : decode cX10_is 53 = .ok (.ifCond .eq 22, 3) := dk_153 0 22 (dk_at dksX10_is_2 7 rfl rfl)
theorem dX10_is_56 : decode cX10_is 56 = .ok (.iload_n 2, 1) := dk_28 (dk_at dksX10_is_2 10 rfl rfl)
theorem dX10_is_57 : decode cX10_is 57 = .ok (.aload_n 0, 1) := dk_42 (dk_at dksX10_is_2 11 rfl rfl)
theorem dX10_is_58 : decode cX10_is 58 = .ok (.getfield 13, 3) := dk_180 0 13 (dk_at dksX10_is_2 12 rfl rfl)
theorem dX10_is_61 : decode cX10_is 61 = .ok (.invokevirtual 17, 3) := dk_182 0 17 (dk_at dksX10_is_2 15 rfl rfl)
theorem dX10_is_64 : decode cX10_is 64 = .ok (.if_icmp .ne 7, 3) := dk_160 0 7 (dk_at dksX10_is_2 18 rfl rfl)
theorem dX10_is_67 : decode cX10_is 67 = .ok (.iconst 1, 1) := dk_4 (dk_at dksX10_is_2 21 rfl rfl)
theorem dX10_is_68 : decode cX10_is 68 = .ok (.goto 16, 3) := dk_167 0 16 (dk_at dksX10_is_3 0 rfl rfl)
theorem dX10_is_71 : decode cX10_is 71 = .ok (.iconst 0, 1) := dk_3 (dk_at dksX10_is_3 3 rfl rfl)
theorem dX10_is_72 : decode cX10_is 72 = .ok (.goto 12, 3) := dk_167 0 12 (dk_at dksX10_is_3 4 rfl rfl)
theorem dX10_is_75 : decode cX10_is 75 = .ok (.iload_n 2, 1) := dk_28 (dk_at dksX10_is_3 7 rfl rfl)
theorem dX10_is_76 : decode cX10_is 76 = .ok (.ifCond .le 7, 3) := dk_158 0 7 (dk_at dksX10_is_3 8 rfl rfl)
theorem dX10_is_79 : decode cX10_is 79 = .ok (.iconst 1, 1) := dk_4 (dk_at dksX10_is_3 11 rfl rfl)
theorem dX10_is_80 : decode cX10_is 80 = .ok (.goto 4, 3) := dk_167 0 4 (dk_at dksX10_is_3 12 rfl rfl)
theorem dX10_is_83 : decode cX10_is 83 = .ok (.iconst 0, 1) := dk_3 (dk_at dksX10_is_3 15 rfl rfl)
theorem dX10_is_84 : decode cX10_is 84 = .ok (.ireturn, 1) := dk_172 (dk_at dksX10_is_3 16 rfl rfl)
theorem q149 : (Jvm.Cond.initialized "ShaveOfAnother$All") ∈ lw_all := lw_g (lw_at lw_m1 26 rfl) rfl
theorem q664 : (Jvm.Cond.selects "ShaveOfAnother$All" ({ cls := "java/lang/Object", name := "getClass", desc := "()Ljava/lang/Class;" } : Jvm.MethodName) ({ cls := "java/lang/Object", name := "getClass", desc := "()Ljava/lang/Class;" } : Jvm.MethodName)) ∈ lw_all := lw_g (lw_at lw_m3 61 rfl) rfl
theorem q709 : (Jvm.Cond.instantiable "ShaveOfAnother$All" (2 : Nat)) ∈ lw_all := lw_g (lw_at lw_m3 106 rfl) rfl
theorem q711 : (Jvm.Cond.instanceMethod ({ cls := "ShaveOfAnother$All", name := "<init>", desc := "(ZLjava/util/ArrayList;)V" } : Jvm.MethodName)) ∈ lw_all := lw_g (lw_at lw_m3 108 rfl) rfl
theorem q712 : (Jvm.Cond.code ({ cls := "ShaveOfAnother$All", name := "<init>", desc := "(ZLjava/util/ArrayList;)V" } : Jvm.MethodName) prog_3_method_1_code (3 : Nat) (Option.none : Option Jvm.ClassFile.FieldType)) ∈ lw_all := lw_g (lw_at lw_m3 109 rfl) rfl
theorem q713 : (Jvm.Cond.methodLink "ShaveOfAnother$All" (1 : Nat) ({ cls := "java/lang/Record", name := "<init>", desc := "()V" } : Jvm.MethodName)) ∈ lw_all := lw_g (lw_at lw_m3 110 rfl) rfl
theorem q714 : (Jvm.Cond.fieldLink "ShaveOfAnother$All" (7 : Nat) "ShaveOfAnother$All" "and" "Z") ∈ lw_all := lw_g (lw_at lw_m3 111 rfl) rfl
theorem q715 : (Jvm.Cond.fieldLink "ShaveOfAnother$All" (13 : Nat) "ShaveOfAnother$All" "of" "Ljava/util/ArrayList;") ∈ lw_all := lw_g (lw_at lw_m3 112 rfl) rfl
theorem q716 : (Jvm.Cond.laysFinal "ShaveOfAnother$All" "ShaveOfAnother$All" "and" "Z") ∈ lw_all := lw_g (lw_at lw_m3 113 rfl) rfl
theorem q717 : (Jvm.Cond.soleField "ShaveOfAnother$All" "and") ∈ lw_all := lw_g (lw_at lw_m3 114 rfl) rfl
theorem q718 : (Jvm.Cond.laysFinal "ShaveOfAnother$All" "ShaveOfAnother$All" "of" "Ljava/util/ArrayList;") ∈ lw_all := lw_g (lw_at lw_m3 115 rfl) rfl
theorem q719 : (Jvm.Cond.soleField "ShaveOfAnother$All" "of") ∈ lw_all := lw_g (lw_at lw_m3 116 rfl) rfl
theorem q720 : (Jvm.Cond.superclass "ShaveOfAnother$All" "java/lang/Record") ∈ lw_all := lw_g (lw_at lw_m3 117 rfl) rfl
theorem q933 : (Jvm.Cond.castable "ShaveOfAnother$All" "ShaveOfAnother$Asked") ∈ lw_tbl := lw_at lw_m4 90 rfl
theorem q934 : (Jvm.Cond.selects "ShaveOfAnother$All" ({ cls := "ShaveOfAnother$Asked", name := "is", desc := "([I)Z" } : Jvm.MethodName) ({ cls := "ShaveOfAnother$All", name := "is", desc := "([I)Z" } : Jvm.MethodName)) ∈ lw_all := lw_g (lw_at lw_m4 91 rfl) rfl
theorem q935 : (Jvm.Cond.unhidden "ShaveOfAnother$All" "is" "([I)Z") ∈ lw_tbl := lw_at lw_m4 92 rfl
theorem q936 : (Jvm.Cond.instanceMethod ({ cls := "ShaveOfAnother$All", name := "is", desc := "([I)Z" } : Jvm.MethodName)) ∈ lw_all := lw_g (lw_at lw_m4 93 rfl) rfl
theorem q937 : (Jvm.Cond.publicMethod ({ cls := "ShaveOfAnother$All", name := "is", desc := "([I)Z" } : Jvm.MethodName)) ∈ lw_tbl := lw_at lw_m4 94 rfl
theorem q938 : (Jvm.Cond.code ({ cls := "ShaveOfAnother$All", name := "is", desc := "([I)Z" } : Jvm.MethodName) prog_3_method_2_code (4 : Nat) (Option.some Jvm.ClassFile.FieldType.boolean)) ∈ lw_all := lw_g (lw_at lw_m4 95 rfl) rfl
theorem q939 : (Jvm.Cond.methodLink "ShaveOfAnother$All" (17 : Nat) ({ cls := "java/util/ArrayList", name := "size", desc := "()I" } : Jvm.MethodName)) ∈ lw_all := lw_g (lw_at lw_m4 96 rfl) rfl
theorem q940 : (Jvm.Cond.methodLink "ShaveOfAnother$All" (23 : Nat) ({ cls := "java/util/ArrayList", name := "get", desc := "(I)Ljava/lang/Object;" } : Jvm.MethodName)) ∈ lw_all := lw_g (lw_at lw_m4 97 rfl) rfl
theorem q941 : (Jvm.Cond.classLink "ShaveOfAnother$All" (27 : Nat) "ShaveOfAnother$Asked") ∈ lw_all := lw_g (lw_at lw_m4 98 rfl) rfl
theorem q942 : (Jvm.Cond.interfaceEntry "ShaveOfAnother$All" (29 : Nat)) ∈ lw_tbl := lw_at lw_m4 99 rfl
theorem q943 : (Jvm.Cond.methodLink "ShaveOfAnother$All" (29 : Nat) ({ cls := "ShaveOfAnother$Asked", name := "is", desc := "([I)Z" } : Jvm.MethodName)) ∈ lw_all := lw_g (lw_at lw_m4 100 rfl) rfl
theorem q2058 : (Jvm.Cond.castable "ShaveOfAnother$All" "java/lang/Object") ∈ lw_tbl := lw_at lw_m9 15 rfl
theorem in_X10 : ∀ w ∈ wsX100, w ∈ lw_all := lw_in wsX100 [716, 718] (by decide +kernel) (by decide +kernel)

/-! ShaveOfAnother$If -/
set_option maxRecDepth 100000
def RX11 : String := "ShaveOfAnother$If"
def TX11 : u_T := fun k => match k with
  | 0 => ("ShaveOfAnother$If", "asked", "LShaveOfAnother$Asked;", true)
  | 1 => ("ShaveOfAnother$If", "yes", "LShaveOfAnother$Sum;", true)
  | _ => ("ShaveOfAnother$If", "no", "LShaveOfAnother$Sum;", true)
def tyX11 : Nat → FieldType := fun k => match k with
  | 0 => .object "ShaveOfAnother$Asked"
  | 1 => .object "ShaveOfAnother$Sum"
  | _ => .object "ShaveOfAnother$Sum"
abbrev wsX110 : List Cond := u_ws RX11 TX11 3
theorem nmX11 : ∀ a, a < 3 → ∀ b, b < 3 → a ≠ b → (TX11 a).2.1 ≠ (TX11 b).2.1 := by decide +kernel
theorem tyX11_ok : ∀ k, k < 3 → parseFieldDescriptor (TX11 k).2.2.1 = some (tyX11 k) := by decide +kernel
abbrev cX11_init : ByteArray := prog_8_method_1_code
def yX11_init : MethodName := ⟨RX11, "<init>", "(LShaveOfAnother$Asked;LShaveOfAnother$Sum;LShaveOfAnother$Sum;)V"⟩
def dkwX11_init_0 : List UInt8 := [42, 183, 0, 1, 42, 43, 181, 0, 7, 42, 44, 181, 0, 13, 42, 45, 181, 0, 17, 177]
abbrev dktX11_init_0 : List UInt8 := dkwX11_init_0 ++ []
theorem dksX11_init_0 : cX11_init.data.toList.drop 0 = dktX11_init_0 := by decide +kernel
theorem dX11_init_0 : decode cX11_init 0 = .ok (.aload_n 0, 1) := dk_42 (dk_at dksX11_init_0 0 rfl rfl)
theorem dX11_init_1 : decode cX11_init 1 = .ok (.invokespecial 1, 3) := dk_183 0 1 (dk_at dksX11_init_0 1 rfl rfl)
theorem dX11_init_4 : decode cX11_init 4 = .ok (.aload_n 0, 1) := dk_42 (dk_at dksX11_init_0 4 rfl rfl)
theorem dX11_init_5 : decode cX11_init 5 = .ok (.aload_n 1, 1) := dk_43 (dk_at dksX11_init_0 5 rfl rfl)
theorem dX11_init_6 : decode cX11_init 6 = .ok (.putfield 7, 3) := dk_181 0 7 (dk_at dksX11_init_0 6 rfl rfl)
theorem dX11_init_9 : decode cX11_init 9 = .ok (.aload_n 0, 1) := dk_42 (dk_at dksX11_init_0 9 rfl rfl)
theorem dX11_init_10 : decode cX11_init 10 = .ok (.aload_n 2, 1) := dk_44 (dk_at dksX11_init_0 10 rfl rfl)
theorem dX11_init_11 : decode cX11_init 11 = .ok (.putfield 13, 3) := dk_181 0 13 (dk_at dksX11_init_0 11 rfl rfl)
theorem dX11_init_14 : decode cX11_init 14 = .ok (.aload_n 0, 1) := dk_42 (dk_at dksX11_init_0 14 rfl rfl)
theorem dX11_init_15 : decode cX11_init 15 = .ok (.aload_n 3, 1) := dk_45 (dk_at dksX11_init_0 15 rfl rfl)
theorem dX11_init_16 : decode cX11_init 16 = .ok (.putfield 17, 3) := dk_181 0 17 (dk_at dksX11_init_0 16 rfl rfl)
theorem dX11_init_19 : decode cX11_init 19 = .ok (.return_, 1) := dk_177 (dk_at dksX11_init_0 19 rfl rfl)
abbrev cX11_of : ByteArray := prog_8_method_2_code
def yX11_of : MethodName := ⟨RX11, "of", "([I)J"⟩
def dkwX11_of_1 : List UInt8 := [167, 0, 13, 42, 180, 0, 17, 43, 185, 0, 26, 2, 0, 173]
abbrev dktX11_of_1 : List UInt8 := dkwX11_of_1 ++ []
def dkwX11_of_0 : List UInt8 := [42, 180, 0, 7, 43, 185, 0, 20, 2, 0, 153, 0, 16, 42, 180, 0, 13, 43, 185, 0, 26, 2, 0]
abbrev dktX11_of_0 : List UInt8 := dkwX11_of_0 ++ dktX11_of_1
theorem dksX11_of_0 : cX11_of.data.toList.drop 0 = dktX11_of_0 := by decide +kernel
theorem dksX11_of_1 : cX11_of.data.toList.drop 23 = dktX11_of_1 := dk_seg dksX11_of_0 23 rfl rfl
theorem dX11_of_0 : decode cX11_of 0 = .ok (.aload_n 0, 1) := dk_42 (dk_at dksX11_of_0 0 rfl rfl)
theorem dX11_of_1 : decode cX11_of 1 = .ok (.getfield 7, 3) := dk_180 0 7 (dk_at dksX11_of_0 1 rfl rfl)
theorem dX11_of_4 : decode cX11_of 4 = .ok (.aload_n 1, 1) := dk_43 (dk_at dksX11_of_0 4 rfl rfl)
theorem dX11_of_5 : decode cX11_of 5 = .ok (.invokeinterface 20 2, 5) := by decide +kernel
theorem dX11_of_10 : decode cX11_of 10 = .ok (.ifCond .eq 16, 3) := dk_153 0 16 (dk_at dksX11_of_0 10 rfl rfl)
theorem dX11_of_13 : decode cX11_of 13 = .ok (.aload_n 0, 1) := dk_42 (dk_at dksX11_of_0 13 rfl rfl)
theorem dX11_of_14 : decode cX11_of 14 = .ok (.getfield 13, 3) := dk_180 0 13 (dk_at dksX11_of_0 14 rfl rfl)
theorem dX11_of_17 : decode cX11_of 17 = .ok (.aload_n 1, 1) := dk_43 (dk_at dksX11_of_0 17 rfl rfl)
theorem dX11_of_18 : decode cX11_of 18 = .ok (.invokeinterface 26 2, 5) := by decide +kernel
theorem dX11_of_23 : decode cX11_of 23 = .ok (.goto 13, 3) := dk_167 0 13 (dk_at dksX11_of_1 0 rfl rfl)
theorem dX11_of_26 : decode cX11_of 26 = .ok (.aload_n 0, 1) := dk_42 (dk_at dksX11_of_1 3 rfl rfl)
theorem dX11_of_27 : decode cX11_of 27 = .ok (.getfield 17, 3) := dk_180 0 17 (dk_at dksX11_of_1 4 rfl rfl)
theorem dX11_of_30 : decode cX11_of 30 = .ok (.aload_n 1, 1) := dk_43 (dk_at dksX11_of_1 7 rfl rfl)
theorem dX11_of_31 : decode cX11_of 31 = .ok (.invokeinterface 26 2, 5) := by decide +kernel
theorem dX11_of_36 : decode cX11_of 36 = .ok (.lreturn, 1) := dk_173 (dk_at dksX11_of_1 13 rfl rfl)
theorem q150 : (Jvm.Cond.initialized "ShaveOfAnother$If") ∈ lw_all := lw_g (lw_at lw_m1 27 rfl) rfl
theorem q668 : (Jvm.Cond.selects "ShaveOfAnother$If" ({ cls := "java/lang/Object", name := "getClass", desc := "()Ljava/lang/Class;" } : Jvm.MethodName) ({ cls := "java/lang/Object", name := "getClass", desc := "()Ljava/lang/Class;" } : Jvm.MethodName)) ∈ lw_all := lw_g (lw_at lw_m3 65 rfl) rfl
theorem q726 : (Jvm.Cond.instantiable "ShaveOfAnother$If" (3 : Nat)) ∈ lw_all := lw_g (lw_at lw_m3 123 rfl) rfl
theorem q728 : (Jvm.Cond.instanceMethod ({ cls := "ShaveOfAnother$If", name := "<init>", desc := "(LShaveOfAnother$Asked;LShaveOfAnother$Sum;LShaveOfAnother$Sum;)V" } : Jvm.MethodName)) ∈ lw_all := lw_g (lw_at lw_m3 125 rfl) rfl
theorem q729 : (Jvm.Cond.code ({ cls := "ShaveOfAnother$If", name := "<init>", desc := "(LShaveOfAnother$Asked;LShaveOfAnother$Sum;LShaveOfAnother$Sum;)V" } : Jvm.MethodName) prog_8_method_1_code (4 : Nat) (Option.none : Option Jvm.ClassFile.FieldType)) ∈ lw_all := lw_g (lw_at lw_m3 126 rfl) rfl
theorem q730 : (Jvm.Cond.methodLink "ShaveOfAnother$If" (1 : Nat) ({ cls := "java/lang/Record", name := "<init>", desc := "()V" } : Jvm.MethodName)) ∈ lw_all := lw_g (lw_at lw_m3 127 rfl) rfl
theorem q731 : (Jvm.Cond.fieldLink "ShaveOfAnother$If" (7 : Nat) "ShaveOfAnother$If" "asked" "LShaveOfAnother$Asked;") ∈ lw_all := lw_g (lw_at lw_m3 128 rfl) rfl
theorem q732 : (Jvm.Cond.fieldLink "ShaveOfAnother$If" (13 : Nat) "ShaveOfAnother$If" "yes" "LShaveOfAnother$Sum;") ∈ lw_all := lw_g (lw_at lw_m3 129 rfl) rfl
theorem q733 : (Jvm.Cond.fieldLink "ShaveOfAnother$If" (17 : Nat) "ShaveOfAnother$If" "no" "LShaveOfAnother$Sum;") ∈ lw_all := lw_g (lw_at lw_m3 130 rfl) rfl
theorem q734 : (Jvm.Cond.laysFinal "ShaveOfAnother$If" "ShaveOfAnother$If" "asked" "LShaveOfAnother$Asked;") ∈ lw_all := lw_g (lw_at lw_m3 131 rfl) rfl
theorem q735 : (Jvm.Cond.soleField "ShaveOfAnother$If" "asked") ∈ lw_all := lw_g (lw_at lw_m3 132 rfl) rfl
theorem q736 : (Jvm.Cond.laysFinal "ShaveOfAnother$If" "ShaveOfAnother$If" "yes" "LShaveOfAnother$Sum;") ∈ lw_all := lw_g (lw_at lw_m3 133 rfl) rfl
theorem q737 : (Jvm.Cond.soleField "ShaveOfAnother$If" "yes") ∈ lw_all := lw_g (lw_at lw_m3 134 rfl) rfl
theorem q738 : (Jvm.Cond.laysFinal "ShaveOfAnother$If" "ShaveOfAnother$If" "no" "LShaveOfAnother$Sum;") ∈ lw_all := lw_g (lw_at lw_m3 135 rfl) rfl
theorem q739 : (Jvm.Cond.soleField "ShaveOfAnother$If" "no") ∈ lw_all := lw_g (lw_at lw_m3 136 rfl) rfl
theorem q740 : (Jvm.Cond.superclass "ShaveOfAnother$If" "java/lang/Record") ∈ lw_all := lw_g (lw_at lw_m3 137 rfl) rfl
theorem q923 : (Jvm.Cond.castable "ShaveOfAnother$If" "ShaveOfAnother$Sum") ∈ lw_tbl := lw_at lw_m4 80 rfl
theorem q924 : (Jvm.Cond.selects "ShaveOfAnother$If" ({ cls := "ShaveOfAnother$Sum", name := "of", desc := "([I)J" } : Jvm.MethodName) ({ cls := "ShaveOfAnother$If", name := "of", desc := "([I)J" } : Jvm.MethodName)) ∈ lw_all := lw_g (lw_at lw_m4 81 rfl) rfl
theorem q925 : (Jvm.Cond.unhidden "ShaveOfAnother$If" "of" "([I)J") ∈ lw_tbl := lw_at lw_m4 82 rfl
theorem q926 : (Jvm.Cond.instanceMethod ({ cls := "ShaveOfAnother$If", name := "of", desc := "([I)J" } : Jvm.MethodName)) ∈ lw_all := lw_g (lw_at lw_m4 83 rfl) rfl
theorem q927 : (Jvm.Cond.publicMethod ({ cls := "ShaveOfAnother$If", name := "of", desc := "([I)J" } : Jvm.MethodName)) ∈ lw_tbl := lw_at lw_m4 84 rfl
theorem q928 : (Jvm.Cond.code ({ cls := "ShaveOfAnother$If", name := "of", desc := "([I)J" } : Jvm.MethodName) prog_8_method_2_code (2 : Nat) (Option.some Jvm.ClassFile.FieldType.long)) ∈ lw_all := lw_g (lw_at lw_m4 85 rfl) rfl
theorem q929 : (Jvm.Cond.interfaceEntry "ShaveOfAnother$If" (20 : Nat)) ∈ lw_tbl := lw_at lw_m4 86 rfl
theorem q930 : (Jvm.Cond.methodLink "ShaveOfAnother$If" (20 : Nat) ({ cls := "ShaveOfAnother$Asked", name := "is", desc := "([I)Z" } : Jvm.MethodName)) ∈ lw_all := lw_g (lw_at lw_m4 87 rfl) rfl
theorem q980 : (Jvm.Cond.interfaceEntry "ShaveOfAnother$If" (26 : Nat)) ∈ lw_tbl := lw_at lw_m4 137 rfl
theorem q981 : (Jvm.Cond.methodLink "ShaveOfAnother$If" (26 : Nat) ({ cls := "ShaveOfAnother$Sum", name := "of", desc := "([I)J" } : Jvm.MethodName)) ∈ lw_all := lw_g (lw_at lw_m4 138 rfl) rfl
theorem q2059 : (Jvm.Cond.castable "ShaveOfAnother$If" "java/lang/Object") ∈ lw_tbl := lw_at lw_m9 16 rfl
theorem in_X11 : ∀ w ∈ wsX110, w ∈ lw_all := lw_in wsX110 [734, 736, 738] (by decide +kernel) (by decide +kernel)

/-! ShaveOfAnother$After -/
set_option maxRecDepth 100000
def RX12 : String := "ShaveOfAnother$After"
def TX12 : u_T := fun k => match k with
  | 0 => ("ShaveOfAnother$After", "chair", "LShaveOfAnother$Sum;", true)
  | _ => ("ShaveOfAnother$After", "by", "LShaveOfAnother$Sum;", true)
def tyX12 : Nat → FieldType := fun k => match k with
  | 0 => .object "ShaveOfAnother$Sum"
  | _ => .object "ShaveOfAnother$Sum"
abbrev wsX120 : List Cond := u_ws RX12 TX12 2
theorem nmX12 : ∀ a, a < 2 → ∀ b, b < 2 → a ≠ b → (TX12 a).2.1 ≠ (TX12 b).2.1 := by decide +kernel
theorem tyX12_ok : ∀ k, k < 2 → parseFieldDescriptor (TX12 k).2.2.1 = some (tyX12 k) := by decide +kernel
abbrev cX12_init : ByteArray := prog_2_method_1_code
def yX12_init : MethodName := ⟨RX12, "<init>", "(LShaveOfAnother$Sum;LShaveOfAnother$Sum;)V"⟩
def dkwX12_init_0 : List UInt8 := [42, 183, 0, 3, 42, 43, 181, 0, 9, 42, 44, 181, 0, 15, 177]
abbrev dktX12_init_0 : List UInt8 := dkwX12_init_0 ++ []
theorem dksX12_init_0 : cX12_init.data.toList.drop 0 = dktX12_init_0 := by decide +kernel
theorem dX12_init_0 : decode cX12_init 0 = .ok (.aload_n 0, 1) := dk_42 (dk_at dksX12_init_0 0 rfl rfl)
theorem dX12_init_1 : decode cX12_init 1 = .ok (.invokespecial 3, 3) := dk_183 0 3 (dk_at dksX12_init_0 1 rfl rfl)
theorem dX12_init_4 : decode cX12_init 4 = .ok (.aload_n 0, 1) := dk_42 (dk_at dksX12_init_0 4 rfl rfl)
theorem dX12_init_5 : decode cX12_init 5 = .ok (.aload_n 1, 1) := dk_43 (dk_at dksX12_init_0 5 rfl rfl)
theorem dX12_init_6 : decode cX12_init 6 = .ok (.putfield 9, 3) := dk_181 0 9 (dk_at dksX12_init_0 6 rfl rfl)
theorem dX12_init_9 : decode cX12_init 9 = .ok (.aload_n 0, 1) := dk_42 (dk_at dksX12_init_0 9 rfl rfl)
theorem dX12_init_10 : decode cX12_init 10 = .ok (.aload_n 2, 1) := dk_44 (dk_at dksX12_init_0 10 rfl rfl)
theorem dX12_init_11 : decode cX12_init 11 = .ok (.putfield 15, 3) := dk_181 0 15 (dk_at dksX12_init_0 11 rfl rfl)
theorem dX12_init_14 : decode cX12_init 14 = .ok (.return_, 1) := dk_177 (dk_at dksX12_init_0 14 rfl rfl)
abbrev cX12_of : ByteArray := prog_2_method_2_code
def yX12_of : MethodName := ⟨RX12, "of", "([I)J"⟩
def dkwX12_of_3 : List UInt8 := [167, 255, 234, 21, 6, 133, 173]
abbrev dktX12_of_3 : List UInt8 := dkwX12_of_3 ++ []
def dkwX12_of_2 : List UInt8 := [55, 7, 22, 7, 9, 148, 158, 0, 21, 43, 16, 7, 21, 6, 96, 46, 54, 6, 22, 7, 10, 101, 55, 7]
abbrev dktX12_of_2 : List UInt8 := dkwX12_of_2 ++ dktX12_of_3
def dkwX12_of_1 : List UInt8 := [9, 148, 155, 0, 11, 32, 20, 0, 24, 148, 155, 0, 5, 9, 173, 32, 136, 54, 6, 22, 4, 184, 0, 26]
abbrev dktX12_of_1 : List UInt8 := dkwX12_of_1 ++ dktX12_of_2
def dkwX12_of_0 : List UInt8 := [42, 180, 0, 9, 43, 185, 0, 18, 2, 0, 65, 42, 180, 0, 15, 43, 185, 0, 18, 2, 0, 55, 4, 32]
abbrev dktX12_of_0 : List UInt8 := dkwX12_of_0 ++ dktX12_of_1
theorem dksX12_of_0 : cX12_of.data.toList.drop 0 = dktX12_of_0 := by decide +kernel
theorem dksX12_of_1 : cX12_of.data.toList.drop 24 = dktX12_of_1 := dk_seg dksX12_of_0 24 rfl rfl
theorem dksX12_of_2 : cX12_of.data.toList.drop 48 = dktX12_of_2 := dk_seg dksX12_of_1 24 rfl rfl
theorem dksX12_of_3 : cX12_of.data.toList.drop 72 = dktX12_of_3 := dk_seg dksX12_of_2 24 rfl rfl
theorem dX12_of_0 : decode cX12_of 0 = .ok (.aload_n 0, 1) := dk_42 (dk_at dksX12_of_0 0 rfl rfl)
theorem dX12_of_1 : decode cX12_of 1 = .ok (.getfield 9, 3) := dk_180 0 9 (dk_at dksX12_of_0 1 rfl rfl)
theorem dX12_of_4 : decode cX12_of 4 = .ok (.aload_n 1, 1) := dk_43 (dk_at dksX12_of_0 4 rfl rfl)
theorem dX12_of_5 : decode cX12_of 5 = .ok (.invokeinterface 18 2, 5) := by decide +kernel
theorem dX12_of_10 : decode cX12_of 10 = .ok (.lstore_n 2, 1) := dk_65 (dk_at dksX12_of_0 10 rfl rfl)
theorem dX12_of_11 : decode cX12_of 11 = .ok (.aload_n 0, 1) := dk_42 (dk_at dksX12_of_0 11 rfl rfl)
theorem dX12_of_12 : decode cX12_of 12 = .ok (.getfield 15, 3) := dk_180 0 15 (dk_at dksX12_of_0 12 rfl rfl)
theorem dX12_of_15 : decode cX12_of 15 = .ok (.aload_n 1, 1) := dk_43 (dk_at dksX12_of_0 15 rfl rfl)
theorem dX12_of_16 : decode cX12_of 16 = .ok (.invokeinterface 18 2, 5) := by decide +kernel
theorem dX12_of_21 : decode cX12_of 21 = .ok (.lstore 4, 2) := dk_55 4 (dk_at dksX12_of_0 21 rfl rfl)
theorem dX12_of_23 : decode cX12_of 23 = .ok (.lload_n 2, 1) := dk_32 (dk_at dksX12_of_0 23 rfl rfl)
theorem dX12_of_24 : decode cX12_of 24 = .ok (.lconst 0, 1) := dk_9 (dk_at dksX12_of_1 0 rfl rfl)
theorem dX12_of_25 : decode cX12_of 25 = .ok (.lcmp, 1) := dk_148 (dk_at dksX12_of_1 1 rfl rfl)
theorem dX12_of_26 : decode cX12_of 26 = .ok (.ifCond .lt 11, 3) := dk_155 0 11 (dk_at dksX12_of_1 2 rfl rfl)
theorem dX12_of_29 : decode cX12_of 29 = .ok (.lload_n 2, 1) := dk_32 (dk_at dksX12_of_1 5 rfl rfl)
theorem dX12_of_30 : decode cX12_of 30 = .ok (.ldc2_w 24, 3) := dk_20 0 24 (dk_at dksX12_of_1 6 rfl rfl)
theorem dX12_of_33 : decode cX12_of 33 = .ok (.lcmp, 1) := dk_148 (dk_at dksX12_of_1 9 rfl rfl)
theorem dX12_of_34 : decode cX12_of 34 = .ok (.ifCond .lt 5, 3) := dk_155 0 5 (dk_at dksX12_of_1 10 rfl rfl)
theorem dX12_of_37 : decode cX12_of 37 = .ok (.lconst 0, 1) := dk_9 (dk_at dksX12_of_1 13 rfl rfl)
theorem dX12_of_38 : decode cX12_of 38 = .ok (.lreturn, 1) := dk_173 (dk_at dksX12_of_1 14 rfl rfl)
theorem dX12_of_39 : decode cX12_of 39 = .ok (.lload_n 2, 1) := dk_32 (dk_at dksX12_of_1 15 rfl rfl)
theorem dX12_of_40 : decode cX12_of 40 = .ok (.l2i, 1) := dk_136 (dk_at dksX12_of_1 16 rfl rfl)
theorem dX12_of_41 : decode cX12_of 41 = .ok (.istore 6, 2) := dk_54 6 (dk_at dksX12_of_1 17 rfl rfl)
theorem dX12_of_43 : decode cX12_of 43 = .ok (.lload 4, 2) := dk_22 4 (dk_at dksX12_of_1 19 rfl rfl)
theorem dX12_of_45 : decode cX12_of 45 = .ok (.invokestatic 26, 3) := dk_184 0 26 (dk_at dksX12_of_1 21 rfl rfl)
theorem dX12_of_48 : decode cX12_of 48 = .ok (.lstore 7, 2) := dk_55 7 (dk_at dksX12_of_2 0 rfl rfl)
theorem dX12_of_50 : decode cX12_of 50 = .ok (.lload 7, 2) := dk_22 7 (dk_at dksX12_of_2 2 rfl rfl)
theorem dX12_of_52 : decode cX12_of 52 = .ok (.lconst 0, 1) := dk_9 (dk_at dksX12_of_2 4 rfl rfl)
theorem dX12_of_53 : decode cX12_of 53 = .ok (.lcmp, 1) := dk_148 (dk_at dksX12_of_2 5 rfl rfl)
theorem dX12_of_54 : decode cX12_of 54 = .ok (.ifCond .le 21, 3) := dk_158 0 21 (dk_at dksX12_of_2 6 rfl rfl)
theorem dX12_of_57 : decode cX12_of 57 = .ok (.aload_n 1, 1) := dk_43 (dk_at dksX12_of_2 9 rfl rfl)
theorem dX12_of_58 : decode cX12_of 58 = .ok (.bipush 7, 2) := dk_16 7 (dk_at dksX12_of_2 10 rfl rfl)
theorem dX12_of_60 : decode cX12_of 60 = .ok (.iload 6, 2) := dk_21 6 (dk_at dksX12_of_2 12 rfl rfl)
theorem dX12_of_62 : decode cX12_of 62 = .ok (.iadd, 1) := dk_96 (dk_at dksX12_of_2 14 rfl rfl)
theorem dX12_of_63 : decode cX12_of 63 = .ok (.iaload, 1) := dk_46 (dk_at dksX12_of_2 15 rfl rfl)
theorem dX12_of_64 : decode cX12_of 64 = .ok (.istore 6, 2) := dk_54 6 (dk_at dksX12_of_2 16 rfl rfl)
theorem dX12_of_66 : decode cX12_of 66 = .ok (.lload 7, 2) := dk_22 7 (dk_at dksX12_of_2 18 rfl rfl)
theorem dX12_of_68 : decode cX12_of 68 = .ok (.lconst 1, 1) := dk_10 (dk_at dksX12_of_2 20 rfl rfl)
theorem dX12_of_69 : decode cX12_of 69 = .ok (.lsub, 1) := dk_101 (dk_at dksX12_of_2 21 rfl rfl)
theorem dX12_of_70 : decode cX12_of 70 = .ok (.lstore 7, 2) := dk_55 7 (dk_at dksX12_of_2 22 rfl rfl)
theorem dX12_of_72 : decode cX12_of 72 = .ok (.goto (-22), 3) := dk_167 255 234 (dk_at dksX12_of_3 0 rfl rfl)
theorem dX12_of_75 : decode cX12_of 75 = .ok (.iload 6, 2) := dk_21 6 (dk_at dksX12_of_3 3 rfl rfl)
theorem dX12_of_77 : decode cX12_of 77 = .ok (.i2l, 1) := dk_133 (dk_at dksX12_of_3 5 rfl rfl)
theorem dX12_of_78 : decode cX12_of 78 = .ok (.lreturn, 1) := dk_173 (dk_at dksX12_of_3 6 rfl rfl)
theorem q151 : (Jvm.Cond.initialized "ShaveOfAnother$After") ∈ lw_all := lw_g (lw_at lw_m1 28 rfl) rfl
theorem q663 : (Jvm.Cond.selects "ShaveOfAnother$After" ({ cls := "java/lang/Object", name := "getClass", desc := "()Ljava/lang/Class;" } : Jvm.MethodName) ({ cls := "java/lang/Object", name := "getClass", desc := "()Ljava/lang/Class;" } : Jvm.MethodName)) ∈ lw_all := lw_g (lw_at lw_m3 60 rfl) rfl
theorem q746 : (Jvm.Cond.instantiable "ShaveOfAnother$After" (2 : Nat)) ∈ lw_all := lw_g (lw_at lw_m3 143 rfl) rfl
theorem q748 : (Jvm.Cond.instanceMethod ({ cls := "ShaveOfAnother$After", name := "<init>", desc := "(LShaveOfAnother$Sum;LShaveOfAnother$Sum;)V" } : Jvm.MethodName)) ∈ lw_all := lw_g (lw_at lw_m3 145 rfl) rfl
theorem q749 : (Jvm.Cond.code ({ cls := "ShaveOfAnother$After", name := "<init>", desc := "(LShaveOfAnother$Sum;LShaveOfAnother$Sum;)V" } : Jvm.MethodName) prog_2_method_1_code (3 : Nat) (Option.none : Option Jvm.ClassFile.FieldType)) ∈ lw_all := lw_g (lw_at lw_m3 146 rfl) rfl
theorem q750 : (Jvm.Cond.methodLink "ShaveOfAnother$After" (3 : Nat) ({ cls := "java/lang/Record", name := "<init>", desc := "()V" } : Jvm.MethodName)) ∈ lw_all := lw_g (lw_at lw_m3 147 rfl) rfl
theorem q751 : (Jvm.Cond.fieldLink "ShaveOfAnother$After" (9 : Nat) "ShaveOfAnother$After" "chair" "LShaveOfAnother$Sum;") ∈ lw_all := lw_g (lw_at lw_m3 148 rfl) rfl
theorem q752 : (Jvm.Cond.fieldLink "ShaveOfAnother$After" (15 : Nat) "ShaveOfAnother$After" "by" "LShaveOfAnother$Sum;") ∈ lw_all := lw_g (lw_at lw_m3 149 rfl) rfl
theorem q753 : (Jvm.Cond.laysFinal "ShaveOfAnother$After" "ShaveOfAnother$After" "chair" "LShaveOfAnother$Sum;") ∈ lw_all := lw_g (lw_at lw_m3 150 rfl) rfl
theorem q754 : (Jvm.Cond.soleField "ShaveOfAnother$After" "chair") ∈ lw_all := lw_g (lw_at lw_m3 151 rfl) rfl
theorem q755 : (Jvm.Cond.laysFinal "ShaveOfAnother$After" "ShaveOfAnother$After" "by" "LShaveOfAnother$Sum;") ∈ lw_all := lw_g (lw_at lw_m3 152 rfl) rfl
theorem q756 : (Jvm.Cond.soleField "ShaveOfAnother$After" "by") ∈ lw_all := lw_g (lw_at lw_m3 153 rfl) rfl
theorem q757 : (Jvm.Cond.superclass "ShaveOfAnother$After" "java/lang/Record") ∈ lw_all := lw_g (lw_at lw_m3 154 rfl) rfl
theorem q907 : (Jvm.Cond.castable "ShaveOfAnother$After" "ShaveOfAnother$Sum") ∈ lw_tbl := lw_at lw_m4 64 rfl
theorem q908 : (Jvm.Cond.selects "ShaveOfAnother$After" ({ cls := "ShaveOfAnother$Sum", name := "of", desc := "([I)J" } : Jvm.MethodName) ({ cls := "ShaveOfAnother$After", name := "of", desc := "([I)J" } : Jvm.MethodName)) ∈ lw_all := lw_g (lw_at lw_m4 65 rfl) rfl
theorem q909 : (Jvm.Cond.unhidden "ShaveOfAnother$After" "of" "([I)J") ∈ lw_tbl := lw_at lw_m4 66 rfl
theorem q910 : (Jvm.Cond.instanceMethod ({ cls := "ShaveOfAnother$After", name := "of", desc := "([I)J" } : Jvm.MethodName)) ∈ lw_all := lw_g (lw_at lw_m4 67 rfl) rfl
theorem q911 : (Jvm.Cond.publicMethod ({ cls := "ShaveOfAnother$After", name := "of", desc := "([I)J" } : Jvm.MethodName)) ∈ lw_tbl := lw_at lw_m4 68 rfl
theorem q912 : (Jvm.Cond.code ({ cls := "ShaveOfAnother$After", name := "of", desc := "([I)J" } : Jvm.MethodName) prog_2_method_2_code (9 : Nat) (Option.some Jvm.ClassFile.FieldType.long)) ∈ lw_all := lw_g (lw_at lw_m4 69 rfl) rfl
theorem q913 : (Jvm.Cond.interfaceEntry "ShaveOfAnother$After" (18 : Nat)) ∈ lw_tbl := lw_at lw_m4 70 rfl
theorem q914 : (Jvm.Cond.methodLink "ShaveOfAnother$After" (18 : Nat) ({ cls := "ShaveOfAnother$Sum", name := "of", desc := "([I)J" } : Jvm.MethodName)) ∈ lw_all := lw_g (lw_at lw_m4 71 rfl) rfl
theorem q1007 : (Jvm.Cond.constantLong "ShaveOfAnother$After" (24 : Nat) (8 : Int64)) ∈ lw_all := lw_g (lw_at lw_m4 164 rfl) rfl
theorem q1008 : (Jvm.Cond.methodLinkNest "ShaveOfAnother$After" (26 : Nat) ({ cls := "ShaveOfAnother", name := "shortOf", desc := "(J)J" } : Jvm.MethodName) "ShaveOfAnother") ∈ lw_tbl := lw_at lw_m4 165 rfl
theorem q2060 : (Jvm.Cond.castable "ShaveOfAnother$After" "java/lang/Object") ∈ lw_tbl := lw_at lw_m9 17 rfl
theorem in_X12 : ∀ w ∈ wsX120, w ∈ lw_all := lw_in wsX120 [753, 755] (by decide +kernel) (by decide +kernel)

/-! ShaveOfAnother$Name -/
set_option maxRecDepth 100000
def RX13 : String := "ShaveOfAnother$Name"
def TX13 : u_T := fun k => match k with
  | _ => ("ShaveOfAnother$Name", "which", "I", true)
def tyX13 : Nat → FieldType := fun k => match k with
  | _ => .int
abbrev wsX130 : List Cond := u_ws RX13 TX13 1
theorem nmX13 : ∀ a, a < 1 → ∀ b, b < 1 → a ≠ b → (TX13 a).2.1 ≠ (TX13 b).2.1 := by decide +kernel
theorem tyX13_ok : ∀ k, k < 1 → parseFieldDescriptor (TX13 k).2.2.1 = some (tyX13 k) := by decide +kernel
abbrev cX13_init : ByteArray := prog_10_method_1_code
def yX13_init : MethodName := ⟨RX13, "<init>", "(I)V"⟩
def dkwX13_init_0 : List UInt8 := [42, 183, 0, 1, 42, 27, 181, 0, 7, 177]
abbrev dktX13_init_0 : List UInt8 := dkwX13_init_0 ++ []
theorem dksX13_init_0 : cX13_init.data.toList.drop 0 = dktX13_init_0 := by decide +kernel
theorem dX13_init_0 : decode cX13_init 0 = .ok (.aload_n 0, 1) := dk_42 (dk_at dksX13_init_0 0 rfl rfl)
theorem dX13_init_1 : decode cX13_init 1 = .ok (.invokespecial 1, 3) := dk_183 0 1 (dk_at dksX13_init_0 1 rfl rfl)
theorem dX13_init_4 : decode cX13_init 4 = .ok (.aload_n 0, 1) := dk_42 (dk_at dksX13_init_0 4 rfl rfl)
theorem dX13_init_5 : decode cX13_init 5 = .ok (.iload_n 1, 1) := dk_27 (dk_at dksX13_init_0 5 rfl rfl)
theorem dX13_init_6 : decode cX13_init 6 = .ok (.putfield 7, 3) := dk_181 0 7 (dk_at dksX13_init_0 6 rfl rfl)
theorem dX13_init_9 : decode cX13_init 9 = .ok (.return_, 1) := dk_177 (dk_at dksX13_init_0 9 rfl rfl)
abbrev cX13_of : ByteArray := prog_10_method_2_code
def yX13_of : MethodName := ⟨RX13, "of", "([I)J"⟩
def dkwX13_of_0 : List UInt8 := [43, 42, 180, 0, 7, 46, 133, 173]
abbrev dktX13_of_0 : List UInt8 := dkwX13_of_0 ++ []
theorem dksX13_of_0 : cX13_of.data.toList.drop 0 = dktX13_of_0 := by decide +kernel
theorem dX13_of_0 : decode cX13_of 0 = .ok (.aload_n 1, 1) := dk_43 (dk_at dksX13_of_0 0 rfl rfl)
theorem dX13_of_1 : decode cX13_of 1 = .ok (.aload_n 0, 1) := dk_42 (dk_at dksX13_of_0 1 rfl rfl)
theorem dX13_of_2 : decode cX13_of 2 = .ok (.getfield 7, 3) := dk_180 0 7 (dk_at dksX13_of_0 2 rfl rfl)
theorem dX13_of_5 : decode cX13_of 5 = .ok (.iaload, 1) := dk_46 (dk_at dksX13_of_0 5 rfl rfl)
theorem dX13_of_6 : decode cX13_of 6 = .ok (.i2l, 1) := dk_133 (dk_at dksX13_of_0 6 rfl rfl)
theorem dX13_of_7 : decode cX13_of 7 = .ok (.lreturn, 1) := dk_173 (dk_at dksX13_of_0 7 rfl rfl)
theorem q152 : (Jvm.Cond.initialized "ShaveOfAnother$Name") ∈ lw_all := lw_g (lw_at lw_m1 29 rfl) rfl
theorem q670 : (Jvm.Cond.selects "ShaveOfAnother$Name" ({ cls := "java/lang/Object", name := "getClass", desc := "()Ljava/lang/Class;" } : Jvm.MethodName) ({ cls := "java/lang/Object", name := "getClass", desc := "()Ljava/lang/Class;" } : Jvm.MethodName)) ∈ lw_all := lw_g (lw_at lw_m3 67 rfl) rfl
theorem q769 : (Jvm.Cond.instantiable "ShaveOfAnother$Name" (1 : Nat)) ∈ lw_all := lw_g (lw_at lw_m3 166 rfl) rfl
theorem q771 : (Jvm.Cond.instanceMethod ({ cls := "ShaveOfAnother$Name", name := "<init>", desc := "(I)V" } : Jvm.MethodName)) ∈ lw_all := lw_g (lw_at lw_m3 168 rfl) rfl
theorem q772 : (Jvm.Cond.code ({ cls := "ShaveOfAnother$Name", name := "<init>", desc := "(I)V" } : Jvm.MethodName) prog_10_method_1_code (2 : Nat) (Option.none : Option Jvm.ClassFile.FieldType)) ∈ lw_all := lw_g (lw_at lw_m3 169 rfl) rfl
theorem q773 : (Jvm.Cond.methodLink "ShaveOfAnother$Name" (1 : Nat) ({ cls := "java/lang/Record", name := "<init>", desc := "()V" } : Jvm.MethodName)) ∈ lw_all := lw_g (lw_at lw_m3 170 rfl) rfl
theorem q774 : (Jvm.Cond.fieldLink "ShaveOfAnother$Name" (7 : Nat) "ShaveOfAnother$Name" "which" "I") ∈ lw_all := lw_g (lw_at lw_m3 171 rfl) rfl
theorem q775 : (Jvm.Cond.laysFinal "ShaveOfAnother$Name" "ShaveOfAnother$Name" "which" "I") ∈ lw_all := lw_g (lw_at lw_m3 172 rfl) rfl
theorem q776 : (Jvm.Cond.soleField "ShaveOfAnother$Name" "which") ∈ lw_all := lw_g (lw_at lw_m3 173 rfl) rfl
theorem q777 : (Jvm.Cond.superclass "ShaveOfAnother$Name" "java/lang/Record") ∈ lw_all := lw_g (lw_at lw_m3 174 rfl) rfl
theorem q960 : (Jvm.Cond.castable "ShaveOfAnother$Name" "ShaveOfAnother$Sum") ∈ lw_tbl := lw_at lw_m4 117 rfl
theorem q961 : (Jvm.Cond.selects "ShaveOfAnother$Name" ({ cls := "ShaveOfAnother$Sum", name := "of", desc := "([I)J" } : Jvm.MethodName) ({ cls := "ShaveOfAnother$Name", name := "of", desc := "([I)J" } : Jvm.MethodName)) ∈ lw_all := lw_g (lw_at lw_m4 118 rfl) rfl
theorem q962 : (Jvm.Cond.unhidden "ShaveOfAnother$Name" "of" "([I)J") ∈ lw_tbl := lw_at lw_m4 119 rfl
theorem q963 : (Jvm.Cond.instanceMethod ({ cls := "ShaveOfAnother$Name", name := "of", desc := "([I)J" } : Jvm.MethodName)) ∈ lw_all := lw_g (lw_at lw_m4 120 rfl) rfl
theorem q964 : (Jvm.Cond.publicMethod ({ cls := "ShaveOfAnother$Name", name := "of", desc := "([I)J" } : Jvm.MethodName)) ∈ lw_tbl := lw_at lw_m4 121 rfl
theorem q965 : (Jvm.Cond.code ({ cls := "ShaveOfAnother$Name", name := "of", desc := "([I)J" } : Jvm.MethodName) prog_10_method_2_code (2 : Nat) (Option.some Jvm.ClassFile.FieldType.long)) ∈ lw_all := lw_g (lw_at lw_m4 122 rfl) rfl
theorem q2061 : (Jvm.Cond.castable "ShaveOfAnother$Name" "java/lang/Object") ∈ lw_tbl := lw_at lw_m9 18 rfl
theorem in_X13 : ∀ w ∈ wsX130, w ∈ lw_all := lw_in wsX130 [775] (by decide +kernel) (by decide +kernel)

/-! ShaveOfAnother$Minus -/
set_option maxRecDepth 100000
def RX14 : String := "ShaveOfAnother$Minus"
def TX14 : u_T := fun k => match k with
  | _ => ("ShaveOfAnother$Minus", "x", "LShaveOfAnother$Sum;", true)
def tyX14 : Nat → FieldType := fun k => match k with
  | _ => .object "ShaveOfAnother$Sum"
abbrev wsX140 : List Cond := u_ws RX14 TX14 1
theorem nmX14 : ∀ a, a < 1 → ∀ b, b < 1 → a ≠ b → (TX14 a).2.1 ≠ (TX14 b).2.1 := by decide +kernel
theorem tyX14_ok : ∀ k, k < 1 → parseFieldDescriptor (TX14 k).2.2.1 = some (tyX14 k) := by decide +kernel
abbrev cX14_init : ByteArray := prog_9_method_1_code
def yX14_init : MethodName := ⟨RX14, "<init>", "(LShaveOfAnother$Sum;)V"⟩
def dkwX14_init_0 : List UInt8 := [42, 183, 0, 1, 42, 43, 181, 0, 7, 177]
abbrev dktX14_init_0 : List UInt8 := dkwX14_init_0 ++ []
theorem dksX14_init_0 : cX14_init.data.toList.drop 0 = dktX14_init_0 := by decide +kernel
theorem dX14_init_0 : decode cX14_init 0 = .ok (.aload_n 0, 1) := dk_42 (dk_at dksX14_init_0 0 rfl rfl)
theorem dX14_init_1 : decode cX14_init 1 = .ok (.invokespecial 1, 3) := dk_183 0 1 (dk_at dksX14_init_0 1 rfl rfl)
theorem dX14_init_4 : decode cX14_init 4 = .ok (.aload_n 0, 1) := dk_42 (dk_at dksX14_init_0 4 rfl rfl)
theorem dX14_init_5 : decode cX14_init 5 = .ok (.aload_n 1, 1) := dk_43 (dk_at dksX14_init_0 5 rfl rfl)
theorem dX14_init_6 : decode cX14_init 6 = .ok (.putfield 7, 3) := dk_181 0 7 (dk_at dksX14_init_0 6 rfl rfl)
theorem dX14_init_9 : decode cX14_init 9 = .ok (.return_, 1) := dk_177 (dk_at dksX14_init_0 9 rfl rfl)
abbrev cX14_of : ByteArray := prog_9_method_2_code
def yX14_of : MethodName := ⟨RX14, "of", "([I)J"⟩
def dkwX14_of_0 : List UInt8 := [42, 180, 0, 7, 43, 185, 0, 13, 2, 0, 117, 173]
abbrev dktX14_of_0 : List UInt8 := dkwX14_of_0 ++ []
theorem dksX14_of_0 : cX14_of.data.toList.drop 0 = dktX14_of_0 := by decide +kernel
theorem dX14_of_0 : decode cX14_of 0 = .ok (.aload_n 0, 1) := dk_42 (dk_at dksX14_of_0 0 rfl rfl)
theorem dX14_of_1 : decode cX14_of 1 = .ok (.getfield 7, 3) := dk_180 0 7 (dk_at dksX14_of_0 1 rfl rfl)
theorem dX14_of_4 : decode cX14_of 4 = .ok (.aload_n 1, 1) := dk_43 (dk_at dksX14_of_0 4 rfl rfl)
theorem dX14_of_5 : decode cX14_of 5 = .ok (.invokeinterface 13 2, 5) := by decide +kernel
theorem dX14_of_10 : decode cX14_of 10 = .ok (.lneg, 1) := dk_117 (dk_at dksX14_of_0 10 rfl rfl)
theorem dX14_of_11 : decode cX14_of 11 = .ok (.lreturn, 1) := dk_173 (dk_at dksX14_of_0 11 rfl rfl)
theorem q153 : (Jvm.Cond.initialized "ShaveOfAnother$Minus") ∈ lw_all := lw_g (lw_at lw_m1 30 rfl) rfl
theorem q669 : (Jvm.Cond.selects "ShaveOfAnother$Minus" ({ cls := "java/lang/Object", name := "getClass", desc := "()Ljava/lang/Class;" } : Jvm.MethodName) ({ cls := "java/lang/Object", name := "getClass", desc := "()Ljava/lang/Class;" } : Jvm.MethodName)) ∈ lw_all := lw_g (lw_at lw_m3 66 rfl) rfl
theorem q779 : (Jvm.Cond.instantiable "ShaveOfAnother$Minus" (1 : Nat)) ∈ lw_all := lw_g (lw_at lw_m3 176 rfl) rfl
theorem q781 : (Jvm.Cond.instanceMethod ({ cls := "ShaveOfAnother$Minus", name := "<init>", desc := "(LShaveOfAnother$Sum;)V" } : Jvm.MethodName)) ∈ lw_all := lw_g (lw_at lw_m3 178 rfl) rfl
theorem q782 : (Jvm.Cond.code ({ cls := "ShaveOfAnother$Minus", name := "<init>", desc := "(LShaveOfAnother$Sum;)V" } : Jvm.MethodName) prog_9_method_1_code (2 : Nat) (Option.none : Option Jvm.ClassFile.FieldType)) ∈ lw_all := lw_g (lw_at lw_m3 179 rfl) rfl
theorem q783 : (Jvm.Cond.methodLink "ShaveOfAnother$Minus" (1 : Nat) ({ cls := "java/lang/Record", name := "<init>", desc := "()V" } : Jvm.MethodName)) ∈ lw_all := lw_g (lw_at lw_m3 180 rfl) rfl
theorem q784 : (Jvm.Cond.fieldLink "ShaveOfAnother$Minus" (7 : Nat) "ShaveOfAnother$Minus" "x" "LShaveOfAnother$Sum;") ∈ lw_all := lw_g (lw_at lw_m3 181 rfl) rfl
theorem q785 : (Jvm.Cond.laysFinal "ShaveOfAnother$Minus" "ShaveOfAnother$Minus" "x" "LShaveOfAnother$Sum;") ∈ lw_all := lw_g (lw_at lw_m3 182 rfl) rfl
theorem q786 : (Jvm.Cond.soleField "ShaveOfAnother$Minus" "x") ∈ lw_all := lw_g (lw_at lw_m3 183 rfl) rfl
theorem q787 : (Jvm.Cond.superclass "ShaveOfAnother$Minus" "java/lang/Record") ∈ lw_all := lw_g (lw_at lw_m3 184 rfl) rfl
theorem q952 : (Jvm.Cond.castable "ShaveOfAnother$Minus" "ShaveOfAnother$Sum") ∈ lw_tbl := lw_at lw_m4 109 rfl
theorem q953 : (Jvm.Cond.selects "ShaveOfAnother$Minus" ({ cls := "ShaveOfAnother$Sum", name := "of", desc := "([I)J" } : Jvm.MethodName) ({ cls := "ShaveOfAnother$Minus", name := "of", desc := "([I)J" } : Jvm.MethodName)) ∈ lw_all := lw_g (lw_at lw_m4 110 rfl) rfl
theorem q954 : (Jvm.Cond.unhidden "ShaveOfAnother$Minus" "of" "([I)J") ∈ lw_tbl := lw_at lw_m4 111 rfl
theorem q955 : (Jvm.Cond.instanceMethod ({ cls := "ShaveOfAnother$Minus", name := "of", desc := "([I)J" } : Jvm.MethodName)) ∈ lw_all := lw_g (lw_at lw_m4 112 rfl) rfl
theorem q956 : (Jvm.Cond.publicMethod ({ cls := "ShaveOfAnother$Minus", name := "of", desc := "([I)J" } : Jvm.MethodName)) ∈ lw_tbl := lw_at lw_m4 113 rfl
theorem q957 : (Jvm.Cond.code ({ cls := "ShaveOfAnother$Minus", name := "of", desc := "([I)J" } : Jvm.MethodName) prog_9_method_2_code (2 : Nat) (Option.some Jvm.ClassFile.FieldType.long)) ∈ lw_all := lw_g (lw_at lw_m4 114 rfl) rfl
theorem q958 : (Jvm.Cond.interfaceEntry "ShaveOfAnother$Minus" (13 : Nat)) ∈ lw_tbl := lw_at lw_m4 115 rfl
theorem q959 : (Jvm.Cond.methodLink "ShaveOfAnother$Minus" (13 : Nat) ({ cls := "ShaveOfAnother$Sum", name := "of", desc := "([I)J" } : Jvm.MethodName)) ∈ lw_all := lw_g (lw_at lw_m4 116 rfl) rfl
theorem q2062 : (Jvm.Cond.castable "ShaveOfAnother$Minus" "java/lang/Object") ∈ lw_tbl := lw_at lw_m9 19 rfl
theorem in_X14 : ∀ w ∈ wsX140, w ∈ lw_all := lw_in wsX140 [785] (by decide +kernel) (by decide +kernel)

/-! ShaveOfAnother$Doing -/
set_option maxRecDepth 100000
def RX15 : String := "ShaveOfAnother$Doing"
def TX15 : u_T := fun k => match k with
  | 0 => ("ShaveOfAnother$Doing", "sort", "I", true)
  | 1 => ("ShaveOfAnother$Doing", "a", "I", true)
  | 2 => ("ShaveOfAnother$Doing", "b", "I", true)
  | _ => ("ShaveOfAnother$Doing", "number", "I", true)
def tyX15 : Nat → FieldType := fun k => match k with
  | 0 => .int
  | 1 => .int
  | 2 => .int
  | _ => .int
abbrev wsX150 : List Cond := u_ws RX15 TX15 4
theorem nmX15 : ∀ a, a < 4 → ∀ b, b < 4 → a ≠ b → (TX15 a).2.1 ≠ (TX15 b).2.1 := by decide +kernel
theorem tyX15_ok : ∀ k, k < 4 → parseFieldDescriptor (TX15 k).2.2.1 = some (tyX15 k) := by decide +kernel
abbrev cX15_init : ByteArray := prog_7_method_1_code
def yX15_init : MethodName := ⟨RX15, "<init>", "(IIII)V"⟩
def dkwX15_init_1 : List UInt8 := [181, 0, 19, 177]
abbrev dktX15_init_1 : List UInt8 := dkwX15_init_1 ++ []
def dkwX15_init_0 : List UInt8 := [42, 183, 0, 1, 42, 27, 181, 0, 7, 42, 28, 181, 0, 13, 42, 29, 181, 0, 16, 42, 21, 4]
abbrev dktX15_init_0 : List UInt8 := dkwX15_init_0 ++ dktX15_init_1
theorem dksX15_init_0 : cX15_init.data.toList.drop 0 = dktX15_init_0 := by decide +kernel
theorem dksX15_init_1 : cX15_init.data.toList.drop 22 = dktX15_init_1 := dk_seg dksX15_init_0 22 rfl rfl
theorem dX15_init_0 : decode cX15_init 0 = .ok (.aload_n 0, 1) := dk_42 (dk_at dksX15_init_0 0 rfl rfl)
theorem dX15_init_1 : decode cX15_init 1 = .ok (.invokespecial 1, 3) := dk_183 0 1 (dk_at dksX15_init_0 1 rfl rfl)
theorem dX15_init_4 : decode cX15_init 4 = .ok (.aload_n 0, 1) := dk_42 (dk_at dksX15_init_0 4 rfl rfl)
theorem dX15_init_5 : decode cX15_init 5 = .ok (.iload_n 1, 1) := dk_27 (dk_at dksX15_init_0 5 rfl rfl)
theorem dX15_init_6 : decode cX15_init 6 = .ok (.putfield 7, 3) := dk_181 0 7 (dk_at dksX15_init_0 6 rfl rfl)
theorem dX15_init_9 : decode cX15_init 9 = .ok (.aload_n 0, 1) := dk_42 (dk_at dksX15_init_0 9 rfl rfl)
theorem dX15_init_10 : decode cX15_init 10 = .ok (.iload_n 2, 1) := dk_28 (dk_at dksX15_init_0 10 rfl rfl)
theorem dX15_init_11 : decode cX15_init 11 = .ok (.putfield 13, 3) := dk_181 0 13 (dk_at dksX15_init_0 11 rfl rfl)
theorem dX15_init_14 : decode cX15_init 14 = .ok (.aload_n 0, 1) := dk_42 (dk_at dksX15_init_0 14 rfl rfl)
theorem dX15_init_15 : decode cX15_init 15 = .ok (.iload_n 3, 1) := dk_29 (dk_at dksX15_init_0 15 rfl rfl)
theorem dX15_init_16 : decode cX15_init 16 = .ok (.putfield 16, 3) := dk_181 0 16 (dk_at dksX15_init_0 16 rfl rfl)
theorem dX15_init_19 : decode cX15_init 19 = .ok (.aload_n 0, 1) := dk_42 (dk_at dksX15_init_0 19 rfl rfl)
theorem dX15_init_20 : decode cX15_init 20 = .ok (.iload 4, 2) := dk_21 4 (dk_at dksX15_init_0 20 rfl rfl)
theorem dX15_init_22 : decode cX15_init 22 = .ok (.putfield 19, 3) := dk_181 0 19 (dk_at dksX15_init_1 0 rfl rfl)
theorem dX15_init_25 : decode cX15_init 25 = .ok (.return_, 1) := dk_177 (dk_at dksX15_init_1 3 rfl rfl)
abbrev cX15_sort : ByteArray := prog_7_method_5_code
def yX15_sort : MethodName := ⟨RX15, "sort", "()I"⟩
theorem dX15_sort_0 : decode cX15_sort 0 = .ok (.aload_n 0, 1) := by decide +kernel
theorem dX15_sort_1 : decode cX15_sort 1 = .ok (.getfield 7, 3) := by decide +kernel
theorem dX15_sort_4 : decode cX15_sort 4 = .ok (.ireturn, 1) := by decide +kernel
abbrev cX15_a : ByteArray := prog_7_method_6_code
def yX15_a : MethodName := ⟨RX15, "a", "()I"⟩
theorem dX15_a_0 : decode cX15_a 0 = .ok (.aload_n 0, 1) := by decide +kernel
theorem dX15_a_1 : decode cX15_a 1 = .ok (.getfield 13, 3) := by decide +kernel
theorem dX15_a_4 : decode cX15_a 4 = .ok (.ireturn, 1) := by decide +kernel
abbrev cX15_b : ByteArray := prog_7_method_7_code
def yX15_b : MethodName := ⟨RX15, "b", "()I"⟩
theorem dX15_b_0 : decode cX15_b 0 = .ok (.aload_n 0, 1) := by decide +kernel
theorem dX15_b_1 : decode cX15_b 1 = .ok (.getfield 16, 3) := by decide +kernel
theorem dX15_b_4 : decode cX15_b 4 = .ok (.ireturn, 1) := by decide +kernel
abbrev cX15_number : ByteArray := prog_7_method_8_code
def yX15_number : MethodName := ⟨RX15, "number", "()I"⟩
theorem dX15_number_0 : decode cX15_number 0 = .ok (.aload_n 0, 1) := by decide +kernel
theorem dX15_number_1 : decode cX15_number 1 = .ok (.getfield 19, 3) := by decide +kernel
theorem dX15_number_4 : decode cX15_number 4 = .ok (.ireturn, 1) := by decide +kernel
theorem q157 : (Jvm.Cond.initialized "ShaveOfAnother$Doing") ∈ lw_all := lw_g (lw_at lw_m1 34 rfl) rfl
theorem q667 : (Jvm.Cond.selects "ShaveOfAnother$Doing" ({ cls := "java/lang/Object", name := "getClass", desc := "()Ljava/lang/Class;" } : Jvm.MethodName) ({ cls := "java/lang/Object", name := "getClass", desc := "()Ljava/lang/Class;" } : Jvm.MethodName)) ∈ lw_all := lw_g (lw_at lw_m3 64 rfl) rfl
theorem q842 : (Jvm.Cond.instantiable "ShaveOfAnother$Doing" (4 : Nat)) ∈ lw_all := lw_g (lw_at lw_m3 239 rfl) rfl
theorem q848 : (Jvm.Cond.instanceMethod ({ cls := "ShaveOfAnother$Doing", name := "<init>", desc := "(IIII)V" } : Jvm.MethodName)) ∈ lw_all := lw_g (lw_at lw_m4 5 rfl) rfl
theorem q849 : (Jvm.Cond.code ({ cls := "ShaveOfAnother$Doing", name := "<init>", desc := "(IIII)V" } : Jvm.MethodName) prog_7_method_1_code (5 : Nat) (Option.none : Option Jvm.ClassFile.FieldType)) ∈ lw_all := lw_g (lw_at lw_m4 6 rfl) rfl
theorem q850 : (Jvm.Cond.methodLink "ShaveOfAnother$Doing" (1 : Nat) ({ cls := "java/lang/Record", name := "<init>", desc := "()V" } : Jvm.MethodName)) ∈ lw_all := lw_g (lw_at lw_m4 7 rfl) rfl
theorem q851 : (Jvm.Cond.fieldLink "ShaveOfAnother$Doing" (7 : Nat) "ShaveOfAnother$Doing" "sort" "I") ∈ lw_all := lw_g (lw_at lw_m4 8 rfl) rfl
theorem q852 : (Jvm.Cond.fieldLink "ShaveOfAnother$Doing" (13 : Nat) "ShaveOfAnother$Doing" "a" "I") ∈ lw_all := lw_g (lw_at lw_m4 9 rfl) rfl
theorem q853 : (Jvm.Cond.fieldLink "ShaveOfAnother$Doing" (16 : Nat) "ShaveOfAnother$Doing" "b" "I") ∈ lw_all := lw_g (lw_at lw_m4 10 rfl) rfl
theorem q854 : (Jvm.Cond.fieldLink "ShaveOfAnother$Doing" (19 : Nat) "ShaveOfAnother$Doing" "number" "I") ∈ lw_all := lw_g (lw_at lw_m4 11 rfl) rfl
theorem q855 : (Jvm.Cond.laysFinal "ShaveOfAnother$Doing" "ShaveOfAnother$Doing" "sort" "I") ∈ lw_all := lw_g (lw_at lw_m4 12 rfl) rfl
theorem q856 : (Jvm.Cond.soleField "ShaveOfAnother$Doing" "sort") ∈ lw_all := lw_g (lw_at lw_m4 13 rfl) rfl
theorem q857 : (Jvm.Cond.laysFinal "ShaveOfAnother$Doing" "ShaveOfAnother$Doing" "a" "I") ∈ lw_all := lw_g (lw_at lw_m4 14 rfl) rfl
theorem q858 : (Jvm.Cond.soleField "ShaveOfAnother$Doing" "a") ∈ lw_all := lw_g (lw_at lw_m4 15 rfl) rfl
theorem q859 : (Jvm.Cond.laysFinal "ShaveOfAnother$Doing" "ShaveOfAnother$Doing" "b" "I") ∈ lw_all := lw_g (lw_at lw_m4 16 rfl) rfl
theorem q860 : (Jvm.Cond.soleField "ShaveOfAnother$Doing" "b") ∈ lw_all := lw_g (lw_at lw_m4 17 rfl) rfl
theorem q861 : (Jvm.Cond.laysFinal "ShaveOfAnother$Doing" "ShaveOfAnother$Doing" "number" "I") ∈ lw_all := lw_g (lw_at lw_m4 18 rfl) rfl
theorem q862 : (Jvm.Cond.soleField "ShaveOfAnother$Doing" "number") ∈ lw_all := lw_g (lw_at lw_m4 19 rfl) rfl
theorem q863 : (Jvm.Cond.superclass "ShaveOfAnother$Doing" "java/lang/Record") ∈ lw_all := lw_g (lw_at lw_m4 20 rfl) rfl
theorem q1060 : (Jvm.Cond.instanceMethod ({ cls := "ShaveOfAnother$Doing", name := "sort", desc := "()I" } : Jvm.MethodName)) ∈ lw_all := lw_g (lw_at lw_m4 217 rfl) rfl
theorem q1061 : (Jvm.Cond.selects "ShaveOfAnother$Doing" ({ cls := "ShaveOfAnother$Doing", name := "sort", desc := "()I" } : Jvm.MethodName) ({ cls := "ShaveOfAnother$Doing", name := "sort", desc := "()I" } : Jvm.MethodName)) ∈ lw_all := lw_g (lw_at lw_m4 218 rfl) rfl
theorem q1062 : (Jvm.Cond.code ({ cls := "ShaveOfAnother$Doing", name := "sort", desc := "()I" } : Jvm.MethodName) prog_7_method_5_code (1 : Nat) (Option.some Jvm.ClassFile.FieldType.int)) ∈ lw_all := lw_g (lw_at lw_m4 219 rfl) rfl
theorem q1064 : (Jvm.Cond.instanceMethod ({ cls := "ShaveOfAnother$Doing", name := "a", desc := "()I" } : Jvm.MethodName)) ∈ lw_all := lw_g (lw_at lw_m4 221 rfl) rfl
theorem q1065 : (Jvm.Cond.selects "ShaveOfAnother$Doing" ({ cls := "ShaveOfAnother$Doing", name := "a", desc := "()I" } : Jvm.MethodName) ({ cls := "ShaveOfAnother$Doing", name := "a", desc := "()I" } : Jvm.MethodName)) ∈ lw_all := lw_g (lw_at lw_m4 222 rfl) rfl
theorem q1066 : (Jvm.Cond.code ({ cls := "ShaveOfAnother$Doing", name := "a", desc := "()I" } : Jvm.MethodName) prog_7_method_6_code (1 : Nat) (Option.some Jvm.ClassFile.FieldType.int)) ∈ lw_all := lw_g (lw_at lw_m4 223 rfl) rfl
theorem q1068 : (Jvm.Cond.instanceMethod ({ cls := "ShaveOfAnother$Doing", name := "b", desc := "()I" } : Jvm.MethodName)) ∈ lw_all := lw_g (lw_at lw_m4 225 rfl) rfl
theorem q1069 : (Jvm.Cond.selects "ShaveOfAnother$Doing" ({ cls := "ShaveOfAnother$Doing", name := "b", desc := "()I" } : Jvm.MethodName) ({ cls := "ShaveOfAnother$Doing", name := "b", desc := "()I" } : Jvm.MethodName)) ∈ lw_all := lw_g (lw_at lw_m4 226 rfl) rfl
theorem q1070 : (Jvm.Cond.code ({ cls := "ShaveOfAnother$Doing", name := "b", desc := "()I" } : Jvm.MethodName) prog_7_method_7_code (1 : Nat) (Option.some Jvm.ClassFile.FieldType.int)) ∈ lw_all := lw_g (lw_at lw_m4 227 rfl) rfl
theorem q1081 : (Jvm.Cond.instanceMethod ({ cls := "ShaveOfAnother$Doing", name := "number", desc := "()I" } : Jvm.MethodName)) ∈ lw_all := lw_g (lw_at lw_m4 238 rfl) rfl
theorem q1082 : (Jvm.Cond.selects "ShaveOfAnother$Doing" ({ cls := "ShaveOfAnother$Doing", name := "number", desc := "()I" } : Jvm.MethodName) ({ cls := "ShaveOfAnother$Doing", name := "number", desc := "()I" } : Jvm.MethodName)) ∈ lw_all := lw_g (lw_at lw_m4 239 rfl) rfl
theorem q1083 : (Jvm.Cond.code ({ cls := "ShaveOfAnother$Doing", name := "number", desc := "()I" } : Jvm.MethodName) prog_7_method_8_code (1 : Nat) (Option.some Jvm.ClassFile.FieldType.int)) ∈ lw_all := lw_g (lw_at lw_m5 0 rfl) rfl
theorem q2064 : (Jvm.Cond.castable "ShaveOfAnother$Doing" "java/lang/Object") ∈ lw_tbl := lw_at lw_m9 21 rfl
theorem in_X15 : ∀ w ∈ wsX150, w ∈ lw_all := lw_in wsX150 [855, 857, 859, 861] (by decide +kernel) (by decide +kernel)

/-! ShaveOfAnother$Tokens -/
set_option maxRecDepth 100000
def RX3 : String := "ShaveOfAnother$Tokens"
def TX3 : u_T := fun k => match k with
  | 0 => ("ShaveOfAnother$Tokens", "text", "[B", true)
  | 1 => ("ShaveOfAnother$Tokens", "size", "I", true)
  | 2 => ("ShaveOfAnother$Tokens", "at", "I", false)
  | 3 => ("ShaveOfAnother$Tokens", "token", "I", false)
  | 4 => ("ShaveOfAnother$Tokens", "sort", "I", false)
  | 5 => ("ShaveOfAnother$Tokens", "number", "I", false)
  | 6 => ("ShaveOfAnother$Tokens", "open", "I", false)
  | _ => ("ShaveOfAnother$Tokens", "kind", "I", false)
def tyX3 : Nat → FieldType := fun k => match k with
  | 0 => .array .byte
  | 1 => .int
  | 2 => .int
  | 3 => .int
  | 4 => .int
  | 5 => .int
  | 6 => .int
  | _ => .int
abbrev wsX30 : List Cond := u_ws RX3 TX3 8
theorem nmX3 : ∀ a, a < 8 → ∀ b, b < 8 → a ≠ b → (TX3 a).2.1 ≠ (TX3 b).2.1 := by decide +kernel
theorem tyX3_ok : ∀ k, k < 8 → parseFieldDescriptor (TX3 k).2.2.1 = some (tyX3 k) := by decide +kernel
abbrev cX3_init : ByteArray := prog_16_method_1_code
def yX3_init : MethodName := ⟨RX3, "<init>", "([BI)V"⟩
def dkwX3_init_0 : List UInt8 := [42, 183, 0, 3, 42, 43, 181, 0, 9, 42, 28, 181, 0, 15, 177]
abbrev dktX3_init_0 : List UInt8 := dkwX3_init_0 ++ []
theorem dksX3_init_0 : cX3_init.data.toList.drop 0 = dktX3_init_0 := by decide +kernel
theorem dX3_init_0 : decode cX3_init 0 = .ok (.aload_n 0, 1) := dk_42 (dk_at dksX3_init_0 0 rfl rfl)
theorem dX3_init_1 : decode cX3_init 1 = .ok (.invokespecial 3, 3) := dk_183 0 3 (dk_at dksX3_init_0 1 rfl rfl)
theorem dX3_init_4 : decode cX3_init 4 = .ok (.aload_n 0, 1) := dk_42 (dk_at dksX3_init_0 4 rfl rfl)
theorem dX3_init_5 : decode cX3_init 5 = .ok (.aload_n 1, 1) := dk_43 (dk_at dksX3_init_0 5 rfl rfl)
theorem dX3_init_6 : decode cX3_init 6 = .ok (.putfield 9, 3) := dk_181 0 9 (dk_at dksX3_init_0 6 rfl rfl)
theorem dX3_init_9 : decode cX3_init 9 = .ok (.aload_n 0, 1) := dk_42 (dk_at dksX3_init_0 9 rfl rfl)
theorem dX3_init_10 : decode cX3_init 10 = .ok (.iload_n 2, 1) := dk_28 (dk_at dksX3_init_0 10 rfl rfl)
theorem dX3_init_11 : decode cX3_init 11 = .ok (.putfield 15, 3) := dk_181 0 15 (dk_at dksX3_init_0 11 rfl rfl)
theorem dX3_init_14 : decode cX3_init 14 = .ok (.return_, 1) := dk_177 (dk_at dksX3_init_0 14 rfl rfl)
abbrev cX3_read : ByteArray := prog_16_method_10_code
def yX3_read : MethodName := ⟨RX3, "read", "()LShaveOfAnother$Text;"⟩
def dkwX3_read_7 : List UInt8 := [96, 181, 0, 90, 167, 255, 98, 43, 176]
abbrev dktX3_read_7 : List UInt8 := dkwX3_read_7 ++ []
def dkwX3_read_6 : List UInt8 := [42, 43, 180, 0, 90, 182, 0, 101, 182, 0, 105, 87, 42, 16, 59, 182, 0, 111, 43, 89, 180, 0, 90, 4]
abbrev dktX3_read_6 : List UInt8 := dkwX3_read_6 ++ dktX3_read_7
def dkwX3_read_5 : List UInt8 := [43, 180, 0, 86, 42, 180, 0, 83, 17, 0, 200, 100, 42, 182, 0, 93, 83, 167, 0, 19, 43, 180, 0, 97]
abbrev dktX3_read_5 : List UInt8 := dkwX3_read_5 ++ dktX3_read_6
def dkwX3_read_4 : List UInt8 := [160, 0, 10, 42, 16, 6, 182, 0, 70, 191, 42, 182, 0, 74, 42, 180, 0, 83, 17, 0, 202, 163, 0, 23]
abbrev dktX3_read_4 : List UInt8 := dkwX3_read_4 ++ dktX3_read_5
def dkwX3_read_3 : List UInt8 := [180, 0, 83, 17, 0, 200, 100, 50, 198, 0, 9, 42, 7, 182, 0, 70, 191, 43, 180, 0, 90, 16, 24]
abbrev dktX3_read_3 : List UInt8 := dkwX3_read_3 ++ dktX3_read_4
def dkwX3_read_2 : List UInt8 := [191, 42, 42, 180, 0, 25, 181, 0, 83, 42, 180, 0, 83, 17, 0, 202, 163, 0, 25, 43, 180, 0, 86, 42]
abbrev dktX3_read_2 : List UInt8 := dkwX3_read_2 ++ dktX3_read_3
def dkwX3_read_1 : List UInt8 := [180, 0, 25, 17, 0, 200, 161, 0, 13, 42, 180, 0, 25, 17, 0, 207, 164, 0, 9, 42, 4, 182, 0, 70]
abbrev dktX3_read_1 : List UInt8 := dkwX3_read_1 ++ dktX3_read_2
def dkwX3_read_0 : List UInt8 := [187, 0, 80, 89, 183, 0, 82, 76, 42, 182, 0, 74, 42, 180, 0, 25, 17, 1, 45, 159, 0, 154, 42]
abbrev dktX3_read_0 : List UInt8 := dkwX3_read_0 ++ dktX3_read_1
theorem dksX3_read_0 : cX3_read.data.toList.drop 0 = dktX3_read_0 := by decide +kernel
theorem dksX3_read_1 : cX3_read.data.toList.drop 23 = dktX3_read_1 := dk_seg dksX3_read_0 23 rfl rfl
theorem dksX3_read_2 : cX3_read.data.toList.drop 47 = dktX3_read_2 := dk_seg dksX3_read_1 24 rfl rfl
theorem dksX3_read_3 : cX3_read.data.toList.drop 71 = dktX3_read_3 := dk_seg dksX3_read_2 24 rfl rfl
theorem dksX3_read_4 : cX3_read.data.toList.drop 94 = dktX3_read_4 := dk_seg dksX3_read_3 23 rfl rfl
theorem dksX3_read_5 : cX3_read.data.toList.drop 118 = dktX3_read_5 := dk_seg dksX3_read_4 24 rfl rfl
theorem dksX3_read_6 : cX3_read.data.toList.drop 142 = dktX3_read_6 := dk_seg dksX3_read_5 24 rfl rfl
theorem dksX3_read_7 : cX3_read.data.toList.drop 166 = dktX3_read_7 := dk_seg dksX3_read_6 24 rfl rfl
theorem dX3_read_0 : decode cX3_read 0 = .ok (.new 80, 3) := dk_187 0 80 (dk_at dksX3_read_0 0 rfl rfl)
theorem dX3_read_3 : decode cX3_read 3 = .ok (.dup, 1) := dk_89 (dk_at dksX3_read_0 3 rfl rfl)
theorem dX3_read_4 : decode cX3_read 4 = .ok (.invokespecial 82, 3) := dk_183 0 82 (dk_at dksX3_read_0 4 rfl rfl)
theorem dX3_read_7 : decode cX3_read 7 = .ok (.astore_n 1, 1) := dk_76 (dk_at dksX3_read_0 7 rfl rfl)
theorem dX3_read_8 : decode cX3_read 8 = .ok (.aload_n 0, 1) := dk_42 (dk_at dksX3_read_0 8 rfl rfl)
theorem dX3_read_9 : decode cX3_read 9 = .ok (.invokevirtual 74, 3) := dk_182 0 74 (dk_at dksX3_read_0 9 rfl rfl)
theorem dX3_read_12 : decode cX3_read 12 = .ok (.aload_n 0, 1) := dk_42 (dk_at dksX3_read_0 12 rfl rfl)
theorem dX3_read_13 : decode cX3_read 13 = .ok (.getfield 25, 3) := dk_180 0 25 (dk_at dksX3_read_0 13 rfl rfl)
theorem dX3_read_16 : decode cX3_read 16 = .ok (.sipush 301, 3) := dk_17 1 45 (dk_at dksX3_read_0 16 rfl rfl)
theorem dX3_read_19 : decode cX3_read 19 = .ok (.if_icmp .eq 154, 3) := dk_159 0 154 (dk_at dksX3_read_0 19 rfl rfl)
theorem dX3_read_22 : decode cX3_read 22 = .ok (.aload_n 0, 1) := dk_42 (dk_at dksX3_read_0 22 rfl rfl)
theorem dX3_read_23 : decode cX3_read 23 = .ok (.getfield 25, 3) := dk_180 0 25 (dk_at dksX3_read_1 0 rfl rfl)
theorem dX3_read_26 : decode cX3_read 26 = .ok (.sipush 200, 3) := dk_17 0 200 (dk_at dksX3_read_1 3 rfl rfl)
theorem dX3_read_29 : decode cX3_read 29 = .ok (.if_icmp .lt 13, 3) := dk_161 0 13 (dk_at dksX3_read_1 6 rfl rfl)
theorem dX3_read_32 : decode cX3_read 32 = .ok (.aload_n 0, 1) := dk_42 (dk_at dksX3_read_1 9 rfl rfl)
theorem dX3_read_33 : decode cX3_read 33 = .ok (.getfield 25, 3) := dk_180 0 25 (dk_at dksX3_read_1 10 rfl rfl)
theorem dX3_read_36 : decode cX3_read 36 = .ok (.sipush 207, 3) := dk_17 0 207 (dk_at dksX3_read_1 13 rfl rfl)
theorem dX3_read_39 : decode cX3_read 39 = .ok (.if_icmp .le 9, 3) := dk_164 0 9 (dk_at dksX3_read_1 16 rfl rfl)
theorem dX3_read_42 : decode cX3_read 42 = .ok (.aload_n 0, 1) := dk_42 (dk_at dksX3_read_1 19 rfl rfl)
theorem dX3_read_43 : decode cX3_read 43 = .ok (.iconst 1, 1) := dk_4 (dk_at dksX3_read_1 20 rfl rfl)
theorem dX3_read_44 : decode cX3_read 44 = .ok (.invokevirtual 70, 3) := dk_182 0 70 (dk_at dksX3_read_1 21 rfl rfl)
theorem dX3_read_47 : decode cX3_read 47 = .ok (.athrow, 1) := dk_191 (dk_at dksX3_read_2 0 rfl rfl)
theorem dX3_read_48 : decode cX3_read 48 = .ok (.aload_n 0, 1) := dk_42 (dk_at dksX3_read_2 1 rfl rfl)
theorem dX3_read_49 : decode cX3_read 49 = .ok (.aload_n 0, 1) := dk_42 (dk_at dksX3_read_2 2 rfl rfl)
theorem dX3_read_50 : decode cX3_read 50 = .ok (.getfield 25, 3) := dk_180 0 25 (dk_at dksX3_read_2 3 rfl rfl)
theorem dX3_read_53 : decode cX3_read 53 = .ok (.putfield 83, 3) := dk_181 0 83 (dk_at dksX3_read_2 6 rfl rfl)
theorem dX3_read_56 : decode cX3_read 56 = .ok (.aload_n 0, 1) := dk_42 (dk_at dksX3_read_2 9 rfl rfl)
theorem dX3_read_57 : decode cX3_read 57 = .ok (.getfield 83, 3) := dk_180 0 83 (dk_at dksX3_read_2 10 rfl rfl)
theorem dX3_read_60 : decode cX3_read 60 = .ok (.sipush 202, 3) := dk_17 0 202 (dk_at dksX3_read_2 13 rfl rfl)
theorem dX3_read_63 : decode cX3_read 63 = .ok (.if_icmp .gt 25, 3) := dk_163 0 25 (dk_at dksX3_read_2 16 rfl rfl)
theorem dX3_read_66 : decode cX3_read 66 = .ok (.aload_n 1, 1) := dk_43 (dk_at dksX3_read_2 19 rfl rfl)
theorem dX3_read_67 : decode cX3_read 67 = .ok (.getfield 86, 3) := dk_180 0 86 (dk_at dksX3_read_2 20 rfl rfl)
theorem dX3_read_70 : decode cX3_read 70 = .ok (.aload_n 0, 1) := dk_42 (dk_at dksX3_read_2 23 rfl rfl)
theorem dX3_read_71 : decode cX3_read 71 = .ok (.getfield 83, 3) := dk_180 0 83 (dk_at dksX3_read_3 0 rfl rfl)
theorem dX3_read_74 : decode cX3_read 74 = .ok (.sipush 200, 3) := dk_17 0 200 (dk_at dksX3_read_3 3 rfl rfl)
theorem dX3_read_77 : decode cX3_read 77 = .ok (.isub, 1) := dk_100 (dk_at dksX3_read_3 6 rfl rfl)
theorem dX3_read_78 : decode cX3_read 78 = .ok (.aaload, 1) := dk_50 (dk_at dksX3_read_3 7 rfl rfl)
theorem dX3_read_79 : decode cX3_read 79 = .ok (.ifnull 9, 3) := dk_198 0 9 (dk_at dksX3_read_3 8 rfl rfl)
theorem dX3_read_82 : decode cX3_read 82 = .ok (.aload_n 0, 1) := dk_42 (dk_at dksX3_read_3 11 rfl rfl)
theorem dX3_read_83 : decode cX3_read 83 = .ok (.iconst 4, 1) := dk_7 (dk_at dksX3_read_3 12 rfl rfl)
theorem dX3_read_84 : decode cX3_read 84 = .ok (.invokevirtual 70, 3) := dk_182 0 70 (dk_at dksX3_read_3 13 rfl rfl)
theorem dX3_read_87 : decode cX3_read 87 = .ok (.athrow, 1) := dk_191 (dk_at dksX3_read_3 16 rfl rfl)
theorem dX3_read_88 : decode cX3_read 88 = .ok (.aload_n 1, 1) := dk_43 (dk_at dksX3_read_3 17 rfl rfl)
theorem dX3_read_89 : decode cX3_read 89 = .ok (.getfield 90, 3) := dk_180 0 90 (dk_at dksX3_read_3 18 rfl rfl)
theorem dX3_read_92 : decode cX3_read 92 = .ok (.bipush 24, 2) := dk_16 24 (dk_at dksX3_read_3 21 rfl rfl)
theorem dX3_read_94 : decode cX3_read 94 = .ok (.if_icmp .ne 10, 3) := dk_160 0 10 (dk_at dksX3_read_4 0 rfl rfl)
theorem dX3_read_97 : decode cX3_read 97 = .ok (.aload_n 0, 1) := dk_42 (dk_at dksX3_read_4 3 rfl rfl)
theorem dX3_read_98 : decode cX3_read 98 = .ok (.bipush 6, 2) := dk_16 6 (dk_at dksX3_read_4 4 rfl rfl)
theorem dX3_read_100 : decode cX3_read 100 = .ok (.invokevirtual 70, 3) := dk_182 0 70 (dk_at dksX3_read_4 6 rfl rfl)
theorem dX3_read_103 : decode cX3_read 103 = .ok (.athrow, 1) := dk_191 (dk_at dksX3_read_4 9 rfl rfl)
theorem dX3_read_104 : decode cX3_read 104 = .ok (.aload_n 0, 1) := dk_42 (dk_at dksX3_read_4 10 rfl rfl)
theorem dX3_read_105 : decode cX3_read 105 = .ok (.invokevirtual 74, 3) := dk_182 0 74 (dk_at dksX3_read_4 11 rfl rfl)
theorem dX3_read_108 : decode cX3_read 108 = .ok (.aload_n 0, 1) := dk_42 (dk_at dksX3_read_4 14 rfl rfl)
theorem dX3_read_109 : decode cX3_read 109 = .ok (.getfield 83, 3) := dk_180 0 83 (dk_at dksX3_read_4 15 rfl rfl)
theorem dX3_read_112 : decode cX3_read 112 = .ok (.sipush 202, 3) := dk_17 0 202 (dk_at dksX3_read_4 18 rfl rfl)
theorem dX3_read_115 : decode cX3_read 115 = .ok (.if_icmp .gt 23, 3) := dk_163 0 23 (dk_at dksX3_read_4 21 rfl rfl)
theorem dX3_read_118 : decode cX3_read 118 = .ok (.aload_n 1, 1) := dk_43 (dk_at dksX3_read_5 0 rfl rfl)
theorem dX3_read_119 : decode cX3_read 119 = .ok (.getfield 86, 3) := dk_180 0 86 (dk_at dksX3_read_5 1 rfl rfl)
theorem dX3_read_122 : decode cX3_read 122 = .ok (.aload_n 0, 1) := dk_42 (dk_at dksX3_read_5 4 rfl rfl)
theorem dX3_read_123 : decode cX3_read 123 = .ok (.getfield 83, 3) := dk_180 0 83 (dk_at dksX3_read_5 5 rfl rfl)
theorem dX3_read_126 : decode cX3_read 126 = .ok (.sipush 200, 3) := dk_17 0 200 (dk_at dksX3_read_5 8 rfl rfl)
theorem dX3_read_129 : decode cX3_read 129 = .ok (.isub, 1) := dk_100 (dk_at dksX3_read_5 11 rfl rfl)
theorem dX3_read_130 : decode cX3_read 130 = .ok (.aload_n 0, 1) := dk_42 (dk_at dksX3_read_5 12 rfl rfl)
theorem dX3_read_131 : decode cX3_read 131 = .ok (.invokevirtual 93, 3) := dk_182 0 93 (dk_at dksX3_read_5 13 rfl rfl)
theorem dX3_read_134 : decode cX3_read 134 = .ok (.aastore, 1) := dk_83 (dk_at dksX3_read_5 16 rfl rfl)
theorem dX3_read_135 : decode cX3_read 135 = .ok (.goto 19, 3) := dk_167 0 19 (dk_at dksX3_read_5 17 rfl rfl)
theorem dX3_read_138 : decode cX3_read 138 = .ok (.aload_n 1, 1) := dk_43 (dk_at dksX3_read_5 20 rfl rfl)
theorem dX3_read_139 : decode cX3_read 139 = .ok (.getfield 97, 3) := dk_180 0 97 (dk_at dksX3_read_5 21 rfl rfl)
theorem dX3_read_142 : decode cX3_read 142 = .ok (.aload_n 0, 1) := dk_42 (dk_at dksX3_read_6 0 rfl rfl)
theorem dX3_read_143 : decode cX3_read 143 = .ok (.aload_n 1, 1) := dk_43 (dk_at dksX3_read_6 1 rfl rfl)
theorem dX3_read_144 : decode cX3_read 144 = .ok (.getfield 90, 3) := dk_180 0 90 (dk_at dksX3_read_6 2 rfl rfl)
theorem dX3_read_147 : decode cX3_read 147 = .ok (.invokevirtual 101, 3) := dk_182 0 101 (dk_at dksX3_read_6 5 rfl rfl)
theorem dX3_read_150 : decode cX3_read 150 = .ok (.invokevirtual 105, 3) := dk_182 0 105 (dk_at dksX3_read_6 8 rfl rfl)
theorem dX3_read_153 : decode cX3_read 153 = .ok (.pop, 1) := dk_87 (dk_at dksX3_read_6 11 rfl rfl)
theorem dX3_read_154 : decode cX3_read 154 = .ok (.aload_n 0, 1) := dk_42 (dk_at dksX3_read_6 12 rfl rfl)
theorem dX3_read_155 : decode cX3_read 155 = .ok (.bipush 59, 2) := dk_16 59 (dk_at dksX3_read_6 13 rfl rfl)
theorem dX3_read_157 : decode cX3_read 157 = .ok (.invokevirtual 111, 3) := dk_182 0 111 (dk_at dksX3_read_6 15 rfl rfl)
theorem dX3_read_160 : decode cX3_read 160 = .ok (.aload_n 1, 1) := dk_43 (dk_at dksX3_read_6 18 rfl rfl)
theorem dX3_read_161 : decode cX3_read 161 = .ok (.dup, 1) := dk_89 (dk_at dksX3_read_6 19 rfl rfl)
theorem dX3_read_162 : decode cX3_read 162 = .ok (.getfield 90, 3) := dk_180 0 90 (dk_at dksX3_read_6 20 rfl rfl)
theorem dX3_read_165 : decode cX3_read 165 = .ok (.iconst 1, 1) := dk_4 (dk_at dksX3_read_6 23 rfl rfl)
theorem dX3_read_166 : decode cX3_read 166 = .ok (.iadd, 1) := dk_96 (dk_at dksX3_read_7 0 rfl rfl)
theorem dX3_read_167 : decode cX3_read 167 = .ok (.putfield 90, 3) := dk_181 0 90 (dk_at dksX3_read_7 1 rfl rfl)
theorem dX3_read_170 : decode cX3_read 170 = .ok (.goto (-158), 3) := dk_167 255 98 (dk_at dksX3_read_7 4 rfl rfl)
theorem dX3_read_173 : decode cX3_read 173 = .ok (.aload_n 1, 1) := dk_43 (dk_at dksX3_read_7 7 rfl rfl)
theorem dX3_read_174 : decode cX3_read 174 = .ok (.areturn, 1) := dk_176 (dk_at dksX3_read_7 8 rfl rfl)
abbrev cX3_next : ByteArray := prog_16_method_4_code
def yX3_next : MethodName := ⟨RX3, "next", "()V"⟩
def dkwX3_next_17 : List UInt8 := [4, 96, 181, 0, 19, 177]
abbrev dktX3_next_17 : List UInt8 := dkwX3_next_17 ++ []
def dkwX3_next_16 : List UInt8 := [42, 27, 16, 60, 160, 0, 9, 17, 1, 47, 167, 0, 6, 17, 1, 48, 181, 0, 25, 42, 89, 180, 0, 19]
abbrev dktX3_next_16 : List UInt8 := dkwX3_next_16 ++ dktX3_next_17
def dkwX3_next_15 : List UInt8 := [180, 0, 19, 42, 180, 0, 15, 162, 0, 46, 42, 180, 0, 9, 42, 180, 0, 19, 51, 16, 61, 160, 0, 32]
abbrev dktX3_next_15 : List UInt8 := dkwX3_next_15 ++ dktX3_next_16
def dkwX3_next_14 : List UInt8 := [42, 27, 181, 0, 25, 132, 2, 1, 167, 255, 229, 27, 16, 60, 159, 0, 9, 27, 16, 62, 160, 0, 57, 42]
abbrev dktX3_next_14 : List UInt8 := dkwX3_next_14 ++ dktX3_next_15
def dkwX3_next_13 : List UInt8 := [181, 0, 25, 3, 61, 28, 18, 53, 182, 0, 55, 162, 0, 24, 18, 53, 28, 182, 0, 61, 27, 160, 0, 8]
abbrev dktX3_next_13 : List UInt8 := dkwX3_next_13 ++ dktX3_next_14
def dkwX3_next_12 : List UInt8 := [42, 180, 0, 9, 42, 180, 0, 19, 51, 60, 42, 89, 180, 0, 19, 4, 96, 181, 0, 19, 42, 17, 1, 46]
abbrev dktX3_next_12 : List UInt8 := dkwX3_next_12 ++ dktX3_next_13
def dkwX3_next_11 : List UInt8 := [51, 96, 16, 48, 100, 184, 0, 47, 181, 0, 43, 42, 89, 180, 0, 19, 4, 96, 181, 0, 19, 167, 255, 191]
abbrev dktX3_next_11 : List UInt8 := dkwX3_next_11 ++ dktX3_next_12
def dkwX3_next_10 : List UInt8 := [184, 0, 40, 153, 0, 170, 42, 18, 46, 16, 10, 42, 180, 0, 43, 104, 42, 180, 0, 9, 42, 180, 0, 19]
abbrev dktX3_next_10 : List UInt8 := dkwX3_next_10 ++ dktX3_next_11
def dkwX3_next_9 : List UInt8 := [181, 0, 43, 42, 180, 0, 19, 42, 180, 0, 15, 162, 0, 185, 42, 180, 0, 9, 42, 180, 0, 19, 51]
abbrev dktX3_next_9 : List UInt8 := dkwX3_next_9 ++ dktX3_next_10
def dkwX3_next_8 : List UInt8 := [42, 180, 0, 9, 42, 180, 0, 19, 51, 184, 0, 40, 153, 0, 83, 42, 17, 1, 44, 181, 0, 25, 42, 3]
abbrev dktX3_next_8 : List UInt8 := dkwX3_next_8 ++ dktX3_next_9
def dkwX3_next_7 : List UInt8 := [182, 0, 36, 153, 0, 12, 42, 17, 0, 200, 27, 96, 181, 0, 25, 132, 1, 1, 167, 255, 224, 167, 0, 223]
abbrev dktX3_next_7 : List UInt8 := dkwX3_next_7 ++ dktX3_next_8
def dkwX3_next_6 : List UInt8 := [17, 1, 46, 181, 0, 25, 3, 60, 27, 178, 0, 32, 190, 162, 0, 30, 42, 178, 0, 32, 27, 50]
abbrev dktX3_next_6 : List UInt8 := dkwX3_next_6 ++ dktX3_next_7
def dkwX3_next_5 : List UInt8 := [180, 0, 19, 51, 184, 0, 28, 153, 0, 16, 42, 89, 180, 0, 19, 4, 96, 181, 0, 19, 167, 255, 220, 42]
abbrev dktX3_next_5 : List UInt8 := dkwX3_next_5 ++ dktX3_next_6
def dkwX3_next_4 : List UInt8 := [184, 0, 28, 153, 0, 89, 42, 180, 0, 19, 42, 180, 0, 15, 162, 0, 31, 42, 180, 0, 9, 42]
abbrev dktX3_next_4 : List UInt8 := dkwX3_next_4 ++ dktX3_next_5
def dkwX3_next_3 : List UInt8 := [160, 0, 13, 42, 17, 1, 45, 181, 0, 25, 167, 1, 68, 42, 180, 0, 9, 42, 180, 0, 19, 51]
abbrev dktX3_next_3 : List UInt8 := dkwX3_next_3 ++ dktX3_next_4
def dkwX3_next_2 : List UInt8 := [181, 0, 19, 167, 255, 207, 42, 42, 180, 0, 19, 181, 0, 22, 42, 180, 0, 19, 42, 180, 0, 15]
abbrev dktX3_next_2 : List UInt8 := dkwX3_next_2 ++ dktX3_next_3
def dkwX3_next_1 : List UInt8 := [159, 0, 17, 42, 180, 0, 9, 42, 180, 0, 19, 51, 16, 10, 160, 0, 16, 42, 89, 180, 0, 19, 4, 96]
abbrev dktX3_next_1 : List UInt8 := dkwX3_next_1 ++ dktX3_next_2
def dkwX3_next_0 : List UInt8 := [42, 180, 0, 19, 42, 180, 0, 15, 162, 0, 44, 42, 180, 0, 9, 42, 180, 0, 19, 51, 16, 32]
abbrev dktX3_next_0 : List UInt8 := dkwX3_next_0 ++ dktX3_next_1
theorem dksX3_next_0 : cX3_next.data.toList.drop 0 = dktX3_next_0 := by decide +kernel
theorem dksX3_next_1 : cX3_next.data.toList.drop 22 = dktX3_next_1 := dk_seg dksX3_next_0 22 rfl rfl
theorem dksX3_next_2 : cX3_next.data.toList.drop 46 = dktX3_next_2 := dk_seg dksX3_next_1 24 rfl rfl
theorem dksX3_next_3 : cX3_next.data.toList.drop 68 = dktX3_next_3 := dk_seg dksX3_next_2 22 rfl rfl
theorem dksX3_next_4 : cX3_next.data.toList.drop 90 = dktX3_next_4 := dk_seg dksX3_next_3 22 rfl rfl
theorem dksX3_next_5 : cX3_next.data.toList.drop 112 = dktX3_next_5 := dk_seg dksX3_next_4 22 rfl rfl
theorem dksX3_next_6 : cX3_next.data.toList.drop 136 = dktX3_next_6 := dk_seg dksX3_next_5 24 rfl rfl
theorem dksX3_next_7 : cX3_next.data.toList.drop 158 = dktX3_next_7 := dk_seg dksX3_next_6 22 rfl rfl
theorem dksX3_next_8 : cX3_next.data.toList.drop 182 = dktX3_next_8 := dk_seg dksX3_next_7 24 rfl rfl
theorem dksX3_next_9 : cX3_next.data.toList.drop 206 = dktX3_next_9 := dk_seg dksX3_next_8 24 rfl rfl
theorem dksX3_next_10 : cX3_next.data.toList.drop 229 = dktX3_next_10 := dk_seg dksX3_next_9 23 rfl rfl
theorem dksX3_next_11 : cX3_next.data.toList.drop 253 = dktX3_next_11 := dk_seg dksX3_next_10 24 rfl rfl
theorem dksX3_next_12 : cX3_next.data.toList.drop 277 = dktX3_next_12 := dk_seg dksX3_next_11 24 rfl rfl
theorem dksX3_next_13 : cX3_next.data.toList.drop 301 = dktX3_next_13 := dk_seg dksX3_next_12 24 rfl rfl
theorem dksX3_next_14 : cX3_next.data.toList.drop 325 = dktX3_next_14 := dk_seg dksX3_next_13 24 rfl rfl
theorem dksX3_next_15 : cX3_next.data.toList.drop 349 = dktX3_next_15 := dk_seg dksX3_next_14 24 rfl rfl
theorem dksX3_next_16 : cX3_next.data.toList.drop 373 = dktX3_next_16 := dk_seg dksX3_next_15 24 rfl rfl
theorem dksX3_next_17 : cX3_next.data.toList.drop 397 = dktX3_next_17 := dk_seg dksX3_next_16 24 rfl rfl
theorem dX3_next_0 : decode cX3_next 0 = .ok (.aload_n 0, 1) := dk_42 (dk_at dksX3_next_0 0 rfl rfl)
theorem dX3_next_1 : decode cX3_next 1 = .ok (.getfield 19, 3) := dk_180 0 19 (dk_at dksX3_next_0 1 rfl rfl)
theorem dX3_next_4 : decode cX3_next 4 = .ok (.aload_n 0, 1) := dk_42 (dk_at dksX3_next_0 4 rfl rfl)
theorem dX3_next_5 : decode cX3_next 5 = .ok (.getfield 15, 3) := dk_180 0 15 (dk_at dksX3_next_0 5 rfl rfl)
theorem dX3_next_8 : decode cX3_next 8 = .ok (.if_icmp .ge 44, 3) := dk_162 0 44 (dk_at dksX3_next_0 8 rfl rfl)
theorem dX3_next_11 : decode cX3_next 11 = .ok (.aload_n 0, 1) := dk_42 (dk_at dksX3_next_0 11 rfl rfl)
theorem dX3_next_12 : decode cX3_next 12 = .ok (.getfield 9, 3) := dk_180 0 9 (dk_at dksX3_next_0 12 rfl rfl)
theorem dX3_next_15 : decode cX3_next 15 = .ok (.aload_n 0, 1) := dk_42 (dk_at dksX3_next_0 15 rfl rfl)
theorem dX3_next_16 : decode cX3_next 16 = .ok (.getfield 19, 3) := dk_180 0 19 (dk_at dksX3_next_0 16 rfl rfl)
theorem dX3_next_19 : decode cX3_next 19 = .ok (.baload, 1) := dk_51 (dk_at dksX3_next_0 19 rfl rfl)
theorem dX3_next_20 : decode cX3_next 20 = .ok (.bipush 32, 2) := dk_16 32 (dk_at dksX3_next_0 20 rfl rfl)
theorem dX3_next_22 : decode cX3_next 22 = .ok (.if_icmp .eq 17, 3) := dk_159 0 17 (dk_at dksX3_next_1 0 rfl rfl)
theorem dX3_next_25 : decode cX3_next 25 = .ok (.aload_n 0, 1) := dk_42 (dk_at dksX3_next_1 3 rfl rfl)
theorem dX3_next_26 : decode cX3_next 26 = .ok (.getfield 9, 3) := dk_180 0 9 (dk_at dksX3_next_1 4 rfl rfl)
theorem dX3_next_29 : decode cX3_next 29 = .ok (.aload_n 0, 1) := dk_42 (dk_at dksX3_next_1 7 rfl rfl)
theorem dX3_next_30 : decode cX3_next 30 = .ok (.getfield 19, 3) := dk_180 0 19 (dk_at dksX3_next_1 8 rfl rfl)
theorem dX3_next_33 : decode cX3_next 33 = .ok (.baload, 1) := dk_51 (dk_at dksX3_next_1 11 rfl rfl)
theorem dX3_next_34 : decode cX3_next 34 = .ok (.bipush 10, 2) := dk_16 10 (dk_at dksX3_next_1 12 rfl rfl)
theorem dX3_next_36 : decode cX3_next 36 = .ok (.if_icmp .ne 16, 3) := dk_160 0 16 (dk_at dksX3_next_1 14 rfl rfl)
theorem dX3_next_39 : decode cX3_next 39 = .ok (.aload_n 0, 1) := dk_42 (dk_at dksX3_next_1 17 rfl rfl)
theorem dX3_next_40 : decode cX3_next 40 = .ok (.dup, 1) := dk_89 (dk_at dksX3_next_1 18 rfl rfl)
theorem dX3_next_41 : decode cX3_next 41 = .ok (.getfield 19, 3) := dk_180 0 19 (dk_at dksX3_next_1 19 rfl rfl)
theorem dX3_next_44 : decode cX3_next 44 = .ok (.iconst 1, 1) := dk_4 (dk_at dksX3_next_1 22 rfl rfl)
theorem dX3_next_45 : decode cX3_next 45 = .ok (.iadd, 1) := dk_96 (dk_at dksX3_next_1 23 rfl rfl)
theorem dX3_next_46 : decode cX3_next 46 = .ok (.putfield 19, 3) := dk_181 0 19 (dk_at dksX3_next_2 0 rfl rfl)
theorem dX3_next_49 : decode cX3_next 49 = .ok (.goto (-49), 3) := dk_167 255 207 (dk_at dksX3_next_2 3 rfl rfl)
theorem dX3_next_52 : decode cX3_next 52 = .ok (.aload_n 0, 1) := dk_42 (dk_at dksX3_next_2 6 rfl rfl)
theorem dX3_next_53 : decode cX3_next 53 = .ok (.aload_n 0, 1) := dk_42 (dk_at dksX3_next_2 7 rfl rfl)
theorem dX3_next_54 : decode cX3_next 54 = .ok (.getfield 19, 3) := dk_180 0 19 (dk_at dksX3_next_2 8 rfl rfl)
theorem dX3_next_57 : decode cX3_next 57 = .ok (.putfield 22, 3) := dk_181 0 22 (dk_at dksX3_next_2 11 rfl rfl)
theorem dX3_next_60 : decode cX3_next 60 = .ok (.aload_n 0, 1) := dk_42 (dk_at dksX3_next_2 14 rfl rfl)
theorem dX3_next_61 : decode cX3_next 61 = .ok (.getfield 19, 3) := dk_180 0 19 (dk_at dksX3_next_2 15 rfl rfl)
theorem dX3_next_64 : decode cX3_next 64 = .ok (.aload_n 0, 1) := dk_42 (dk_at dksX3_next_2 18 rfl rfl)
theorem dX3_next_65 : decode cX3_next 65 = .ok (.getfield 15, 3) := dk_180 0 15 (dk_at dksX3_next_2 19 rfl rfl)
theorem dX3_next_68 : decode cX3_next 68 = .ok (.if_icmp .ne 13, 3) := dk_160 0 13 (dk_at dksX3_next_3 0 rfl rfl)
theorem dX3_next_71 : decode cX3_next 71 = .ok (.aload_n 0, 1) := dk_42 (dk_at dksX3_next_3 3 rfl rfl)
theorem dX3_next_72 : decode cX3_next 72 = .ok (.sipush 301, 3) := dk_17 1 45 (dk_at dksX3_next_3 4 rfl rfl)
theorem dX3_next_75 : decode cX3_next 75 = .ok (.putfield 25, 3) := dk_181 0 25 (dk_at dksX3_next_3 7 rfl rfl)
theorem dX3_next_78 : decode cX3_next 78 = .ok (.goto 324, 3) := dk_167 1 68 (dk_at dksX3_next_3 10 rfl rfl)
theorem dX3_next_81 : decode cX3_next 81 = .ok (.aload_n 0, 1) := dk_42 (dk_at dksX3_next_3 13 rfl rfl)
theorem dX3_next_82 : decode cX3_next 82 = .ok (.getfield 9, 3) := dk_180 0 9 (dk_at dksX3_next_3 14 rfl rfl)
theorem dX3_next_85 : decode cX3_next 85 = .ok (.aload_n 0, 1) := dk_42 (dk_at dksX3_next_3 17 rfl rfl)
theorem dX3_next_86 : decode cX3_next 86 = .ok (.getfield 19, 3) := dk_180 0 19 (dk_at dksX3_next_3 18 rfl rfl)
theorem dX3_next_89 : decode cX3_next 89 = .ok (.baload, 1) := dk_51 (dk_at dksX3_next_3 21 rfl rfl)
theorem dX3_next_90 : decode cX3_next 90 = .ok (.invokestatic 28, 3) := dk_184 0 28 (dk_at dksX3_next_4 0 rfl rfl)
theorem dX3_next_93 : decode cX3_next 93 = .ok (.ifCond .eq 89, 3) := dk_153 0 89 (dk_at dksX3_next_4 3 rfl rfl)
theorem dX3_next_96 : decode cX3_next 96 = .ok (.aload_n 0, 1) := dk_42 (dk_at dksX3_next_4 6 rfl rfl)
theorem dX3_next_97 : decode cX3_next 97 = .ok (.getfield 19, 3) := dk_180 0 19 (dk_at dksX3_next_4 7 rfl rfl)
theorem dX3_next_100 : decode cX3_next 100 = .ok (.aload_n 0, 1) := dk_42 (dk_at dksX3_next_4 10 rfl rfl)
theorem dX3_next_101 : decode cX3_next 101 = .ok (.getfield 15, 3) := dk_180 0 15 (dk_at dksX3_next_4 11 rfl rfl)
theorem dX3_next_104 : decode cX3_next 104 = .ok (.if_icmp .ge 31, 3) := dk_162 0 31 (dk_at dksX3_next_4 14 rfl rfl)
theorem dX3_next_107 : decode cX3_next 107 = .ok (.aload_n 0, 1) := dk_42 (dk_at dksX3_next_4 17 rfl rfl)
theorem dX3_next_108 : decode cX3_next 108 = .ok (.getfield 9, 3) := dk_180 0 9 (dk_at dksX3_next_4 18 rfl rfl)
theorem dX3_next_111 : decode cX3_next 111 = .ok (.aload_n 0, 1) := dk_42 (dk_at dksX3_next_4 21 rfl rfl)
theorem dX3_next_112 : decode cX3_next 112 = .ok (.getfield 19, 3) := dk_180 0 19 (dk_at dksX3_next_5 0 rfl rfl)
theorem dX3_next_115 : decode cX3_next 115 = .ok (.baload, 1) := dk_51 (dk_at dksX3_next_5 3 rfl rfl)
theorem dX3_next_116 : decode cX3_next 116 = .ok (.invokestatic 28, 3) := dk_184 0 28 (dk_at dksX3_next_5 4 rfl rfl)
theorem dX3_next_119 : decode cX3_next 119 = .ok (.ifCond .eq 16, 3) := dk_153 0 16 (dk_at dksX3_next_5 7 rfl rfl)
theorem dX3_next_122 : decode cX3_next 122 = .ok (.aload_n 0, 1) := dk_42 (dk_at dksX3_next_5 10 rfl rfl)
theorem dX3_next_123 : decode cX3_next 123 = .ok (.dup, 1) := dk_89 (dk_at dksX3_next_5 11 rfl rfl)
theorem dX3_next_124 : decode cX3_next 124 = .ok (.getfield 19, 3) := dk_180 0 19 (dk_at dksX3_next_5 12 rfl rfl)
theorem dX3_next_127 : decode cX3_next 127 = .ok (.iconst 1, 1) := dk_4 (dk_at dksX3_next_5 15 rfl rfl)
theorem dX3_next_128 : decode cX3_next 128 = .ok (.iadd, 1) := dk_96 (dk_at dksX3_next_5 16 rfl rfl)
theorem dX3_next_129 : decode cX3_next 129 = .ok (.putfield 19, 3) := dk_181 0 19 (dk_at dksX3_next_5 17 rfl rfl)
theorem dX3_next_132 : decode cX3_next 132 = .ok (.goto (-36), 3) := dk_167 255 220 (dk_at dksX3_next_5 20 rfl rfl)
theorem dX3_next_135 : decode cX3_next 135 = .ok (.aload_n 0, 1) := dk_42 (dk_at dksX3_next_5 23 rfl rfl)
theorem dX3_next_136 : decode cX3_next 136 = .ok (.sipush 302, 3) := dk_17 1 46 (dk_at dksX3_next_6 0 rfl rfl)
theorem dX3_next_139 : decode cX3_next 139 = .ok (.putfield 25, 3) := dk_181 0 25 (dk_at dksX3_next_6 3 rfl rfl)
theorem dX3_next_142 : decode cX3_next 142 = .ok (.iconst 0, 1) := dk_3 (dk_at dksX3_next_6 6 rfl rfl)
theorem dX3_next_143 : decode cX3_next 143 = .ok (.istore_n 1, 1) := dk_60 (dk_at dksX3_next_6 7 rfl rfl)
theorem dX3_next_144 : decode cX3_next 144 = .ok (.iload_n 1, 1) := dk_27 (dk_at dksX3_next_6 8 rfl rfl)
theorem dX3_next_145 : decode cX3_next 145 = .ok (.getstatic 32, 3) := dk_178 0 32 (dk_at dksX3_next_6 9 rfl rfl)
theorem dX3_next_148 : decode cX3_next 148 = .ok (.arraylength, 1) := dk_190 (dk_at dksX3_next_6 12 rfl rfl)
theorem dX3_next_149 : decode cX3_next 149 = .ok (.if_icmp .ge 30, 3) := dk_162 0 30 (dk_at dksX3_next_6 13 rfl rfl)
theorem dX3_next_152 : decode cX3_next 152 = .ok (.aload_n 0, 1) := dk_42 (dk_at dksX3_next_6 16 rfl rfl)
theorem dX3_next_153 : decode cX3_next 153 = .ok (.getstatic 32, 3) := dk_178 0 32 (dk_at dksX3_next_6 17 rfl rfl)
theorem dX3_next_156 : decode cX3_next 156 = .ok (.iload_n 1, 1) := dk_27 (dk_at dksX3_next_6 20 rfl rfl)
theorem dX3_next_157 : decode cX3_next 157 = .ok (.aaload, 1) := dk_50 (dk_at dksX3_next_6 21 rfl rfl)
theorem dX3_next_158 : decode cX3_next 158 = .ok (.invokevirtual 36, 3) := dk_182 0 36 (dk_at dksX3_next_7 0 rfl rfl)
theorem dX3_next_161 : decode cX3_next 161 = .ok (.ifCond .eq 12, 3) := dk_153 0 12 (dk_at dksX3_next_7 3 rfl rfl)
theorem dX3_next_164 : decode cX3_next 164 = .ok (.aload_n 0, 1) := dk_42 (dk_at dksX3_next_7 6 rfl rfl)
theorem dX3_next_165 : decode cX3_next 165 = .ok (.sipush 200, 3) := dk_17 0 200 (dk_at dksX3_next_7 7 rfl rfl)
theorem dX3_next_168 : decode cX3_next 168 = .ok (.iload_n 1, 1) := dk_27 (dk_at dksX3_next_7 10 rfl rfl)
theorem dX3_next_169 : decode cX3_next 169 = .ok (.iadd, 1) := dk_96 (dk_at dksX3_next_7 11 rfl rfl)
theorem dX3_next_170 : decode cX3_next 170 = .ok (.putfield 25, 3) := dk_181 0 25 (dk_at dksX3_next_7 12 rfl rfl)
theorem dX3_next_173 : decode cX3_next 173 = .ok (.iinc 1 1, 3) := dk_132 1 1 (dk_at dksX3_next_7 15 rfl rfl)
theorem dX3_next_176 : decode cX3_next 176 = .ok (.goto (-32), 3) := dk_167 255 224 (dk_at dksX3_next_7 18 rfl rfl)
theorem dX3_next_179 : decode cX3_next 179 = .ok (.goto 223, 3) := dk_167 0 223 (dk_at dksX3_next_7 21 rfl rfl)
theorem dX3_next_182 : decode cX3_next 182 = .ok (.aload_n 0, 1) := dk_42 (dk_at dksX3_next_8 0 rfl rfl)
theorem dX3_next_183 : decode cX3_next 183 = .ok (.getfield 9, 3) := dk_180 0 9 (dk_at dksX3_next_8 1 rfl rfl)
theorem dX3_next_186 : decode cX3_next 186 = .ok (.aload_n 0, 1) := dk_42 (dk_at dksX3_next_8 4 rfl rfl)
theorem dX3_next_187 : decode cX3_next 187 = .ok (.getfield 19, 3) := dk_180 0 19 (dk_at dksX3_next_8 5 rfl rfl)
theorem dX3_next_190 : decode cX3_next 190 = .ok (.baload, 1) := dk_51 (dk_at dksX3_next_8 8 rfl rfl)
theorem dX3_next_191 : decode cX3_next 191 = .ok (.invokestatic 40, 3) := dk_184 0 40 (dk_at dksX3_next_8 9 rfl rfl)
theorem dX3_next_194 : decode cX3_next 194 = .ok (.ifCond .eq 83, 3) := dk_153 0 83 (dk_at dksX3_next_8 12 rfl rfl)
theorem dX3_next_197 : decode cX3_next 197 = .ok (.aload_n 0, 1) := dk_42 (dk_at dksX3_next_8 15 rfl rfl)
theorem dX3_next_198 : decode cX3_next 198 = .ok (.sipush 300, 3) := dk_17 1 44 (dk_at dksX3_next_8 16 rfl rfl)
theorem dX3_next_201 : decode cX3_next 201 = .ok (.putfield 25, 3) := dk_181 0 25 (dk_at dksX3_next_8 19 rfl rfl)
theorem dX3_next_204 : decode cX3_next 204 = .ok (.aload_n 0, 1) := dk_42 (dk_at dksX3_next_8 22 rfl rfl)
theorem dX3_next_205 : decode cX3_next 205 = .ok (.iconst 0, 1) := dk_3 (dk_at dksX3_next_8 23 rfl rfl)
theorem dX3_next_206 : decode cX3_next 206 = .ok (.putfield 43, 3) := dk_181 0 43 (dk_at dksX3_next_9 0 rfl rfl)
theorem dX3_next_209 : decode cX3_next 209 = .ok (.aload_n 0, 1) := dk_42 (dk_at dksX3_next_9 3 rfl rfl)
theorem dX3_next_210 : decode cX3_next 210 = .ok (.getfield 19, 3) := dk_180 0 19 (dk_at dksX3_next_9 4 rfl rfl)
theorem dX3_next_213 : decode cX3_next 213 = .ok (.aload_n 0, 1) := dk_42 (dk_at dksX3_next_9 7 rfl rfl)
theorem dX3_next_214 : decode cX3_next 214 = .ok (.getfield 15, 3) := dk_180 0 15 (dk_at dksX3_next_9 8 rfl rfl)
theorem dX3_next_217 : decode cX3_next 217 = .ok (.if_icmp .ge 185, 3) := dk_162 0 185 (dk_at dksX3_next_9 11 rfl rfl)
theorem dX3_next_220 : decode cX3_next 220 = .ok (.aload_n 0, 1) := dk_42 (dk_at dksX3_next_9 14 rfl rfl)
theorem dX3_next_221 : decode cX3_next 221 = .ok (.getfield 9, 3) := dk_180 0 9 (dk_at dksX3_next_9 15 rfl rfl)
theorem dX3_next_224 : decode cX3_next 224 = .ok (.aload_n 0, 1) := dk_42 (dk_at dksX3_next_9 18 rfl rfl)
theorem dX3_next_225 : decode cX3_next 225 = .ok (.getfield 19, 3) := dk_180 0 19 (dk_at dksX3_next_9 19 rfl rfl)
theorem dX3_next_228 : decode cX3_next 228 = .ok (.baload, 1) := dk_51 (dk_at dksX3_next_9 22 rfl rfl)
theorem dX3_next_229 : decode cX3_next 229 = .ok (.invokestatic 40, 3) := dk_184 0 40 (dk_at dksX3_next_10 0 rfl rfl)
theorem dX3_next_232 : decode cX3_next 232 = .ok (.ifCond .eq 170, 3) := dk_153 0 170 (dk_at dksX3_next_10 3 rfl rfl)
theorem dX3_next_235 : decode cX3_next 235 = .ok (.aload_n 0, 1) := dk_42 (dk_at dksX3_next_10 6 rfl rfl)
theorem dX3_next_236 : decode cX3_next 236 = .ok (.ldc 46, 2) := dk_18 46 (dk_at dksX3_next_10 7 rfl rfl)
theorem dX3_next_238 : decode cX3_next 238 = .ok (.bipush 10, 2) := dk_16 10 (dk_at dksX3_next_10 9 rfl rfl)
theorem dX3_next_240 : decode cX3_next 240 = .ok (.aload_n 0, 1) := dk_42 (dk_at dksX3_next_10 11 rfl rfl)
theorem dX3_next_241 : decode cX3_next 241 = .ok (.getfield 43, 3) := dk_180 0 43 (dk_at dksX3_next_10 12 rfl rfl)
theorem dX3_next_244 : decode cX3_next 244 = .ok (.imul, 1) := dk_104 (dk_at dksX3_next_10 15 rfl rfl)
theorem dX3_next_245 : decode cX3_next 245 = .ok (.aload_n 0, 1) := dk_42 (dk_at dksX3_next_10 16 rfl rfl)
theorem dX3_next_246 : decode cX3_next 246 = .ok (.getfield 9, 3) := dk_180 0 9 (dk_at dksX3_next_10 17 rfl rfl)
theorem dX3_next_249 : decode cX3_next 249 = .ok (.aload_n 0, 1) := dk_42 (dk_at dksX3_next_10 20 rfl rfl)
theorem dX3_next_250 : decode cX3_next 250 = .ok (.getfield 19, 3) := dk_180 0 19 (dk_at dksX3_next_10 21 rfl rfl)
theorem dX3_next_253 : decode cX3_next 253 = .ok (.baload, 1) := dk_51 (dk_at dksX3_next_11 0 rfl rfl)
theorem dX3_next_254 : decode cX3_next 254 = .ok (.iadd, 1) := dk_96 (dk_at dksX3_next_11 1 rfl rfl)
theorem dX3_next_255 : decode cX3_next 255 = .ok (.bipush 48, 2) := dk_16 48 (dk_at dksX3_next_11 2 rfl rfl)
theorem dX3_next_257 : decode cX3_next 257 = .ok (.isub, 1) := dk_100 (dk_at dksX3_next_11 4 rfl rfl)
theorem dX3_next_258 : decode cX3_next 258 = .ok (.invokestatic 47, 3) := dk_184 0 47 (dk_at dksX3_next_11 5 rfl rfl)
theorem dX3_next_261 : decode cX3_next 261 = .ok (.putfield 43, 3) := dk_181 0 43 (dk_at dksX3_next_11 8 rfl rfl)
theorem dX3_next_264 : decode cX3_next 264 = .ok (.aload_n 0, 1) := dk_42 (dk_at dksX3_next_11 11 rfl rfl)
theorem dX3_next_265 : decode cX3_next 265 = .ok (.dup, 1) := dk_89 (dk_at dksX3_next_11 12 rfl rfl)
theorem dX3_next_266 : decode cX3_next 266 = .ok (.getfield 19, 3) := dk_180 0 19 (dk_at dksX3_next_11 13 rfl rfl)
theorem dX3_next_269 : decode cX3_next 269 = .ok (.iconst 1, 1) := dk_4 (dk_at dksX3_next_11 16 rfl rfl)
theorem dX3_next_270 : decode cX3_next 270 = .ok (.iadd, 1) := dk_96 (dk_at dksX3_next_11 17 rfl rfl)
theorem dX3_next_271 : decode cX3_next 271 = .ok (.putfield 19, 3) := dk_181 0 19 (dk_at dksX3_next_11 18 rfl rfl)
theorem dX3_next_274 : decode cX3_next 274 = .ok (.goto (-65), 3) := dk_167 255 191 (dk_at dksX3_next_11 21 rfl rfl)
theorem dX3_next_277 : decode cX3_next 277 = .ok (.aload_n 0, 1) := dk_42 (dk_at dksX3_next_12 0 rfl rfl)
theorem dX3_next_278 : decode cX3_next 278 = .ok (.getfield 9, 3) := dk_180 0 9 (dk_at dksX3_next_12 1 rfl rfl)
theorem dX3_next_281 : decode cX3_next 281 = .ok (.aload_n 0, 1) := dk_42 (dk_at dksX3_next_12 4 rfl rfl)
theorem dX3_next_282 : decode cX3_next 282 = .ok (.getfield 19, 3) := dk_180 0 19 (dk_at dksX3_next_12 5 rfl rfl)
theorem dX3_next_285 : decode cX3_next 285 = .ok (.baload, 1) := dk_51 (dk_at dksX3_next_12 8 rfl rfl)
theorem dX3_next_286 : decode cX3_next 286 = .ok (.istore_n 1, 1) := dk_60 (dk_at dksX3_next_12 9 rfl rfl)
theorem dX3_next_287 : decode cX3_next 287 = .ok (.aload_n 0, 1) := dk_42 (dk_at dksX3_next_12 10 rfl rfl)
theorem dX3_next_288 : decode cX3_next 288 = .ok (.dup, 1) := dk_89 (dk_at dksX3_next_12 11 rfl rfl)
theorem dX3_next_289 : decode cX3_next 289 = .ok (.getfield 19, 3) := dk_180 0 19 (dk_at dksX3_next_12 12 rfl rfl)
theorem dX3_next_292 : decode cX3_next 292 = .ok (.iconst 1, 1) := dk_4 (dk_at dksX3_next_12 15 rfl rfl)
theorem dX3_next_293 : decode cX3_next 293 = .ok (.iadd, 1) := dk_96 (dk_at dksX3_next_12 16 rfl rfl)
theorem dX3_next_294 : decode cX3_next 294 = .ok (.putfield 19, 3) := dk_181 0 19 (dk_at dksX3_next_12 17 rfl rfl)
theorem dX3_next_297 : decode cX3_next 297 = .ok (.aload_n 0, 1) := dk_42 (dk_at dksX3_next_12 20 rfl rfl)
theorem dX3_next_298 : decode cX3_next 298 = .ok (.sipush 302, 3) := dk_17 1 46 (dk_at dksX3_next_12 21 rfl rfl)
theorem dX3_next_301 : decode cX3_next 301 = .ok (.putfield 25, 3) := dk_181 0 25 (dk_at dksX3_next_13 0 rfl rfl)
theorem dX3_next_304 : decode cX3_next 304 = .ok (.iconst 0, 1) := dk_3 (dk_at dksX3_next_13 3 rfl rfl)
theorem dX3_next_305 : decode cX3_next 305 = .ok (.istore_n 2, 1) := dk_61 (dk_at dksX3_next_13 4 rfl rfl)
theorem dX3_next_306 : decode cX3_next 306 = .ok (.iload_n 2, 1) := dk_28 (dk_at dksX3_next_13 5 rfl rfl)
theorem dX3_next_307 : decode cX3_next 307 = .ok (.ldc 53, 2) := dk_18 53 (dk_at dksX3_next_13 6 rfl rfl)
theorem dX3_next_309 : decode cX3_next 309 = .ok (.invokevirtual 55, 3) := dk_182 0 55 (dk_at dksX3_next_13 8 rfl rfl)
theorem dX3_next_312 : decode cX3_next 312 = .ok (.if_icmp .ge 24, 3) := dk_162 0 24 (dk_at dksX3_next_13 11 rfl rfl)
theorem dX3_next_315 : decode cX3_next 315 = .ok (.ldc 53, 2) := dk_18 53 (dk_at dksX3_next_13 14 rfl rfl)
theorem dX3_next_317 : decode cX3_next 317 = .ok (.iload_n 2, 1) := dk_28 (dk_at dksX3_next_13 16 rfl rfl)
theorem dX3_next_318 : decode cX3_next 318 = .ok (.invokevirtual 61, 3) := dk_182 0 61 (dk_at dksX3_next_13 17 rfl rfl)
theorem dX3_next_321 : decode cX3_next 321 = .ok (.iload_n 1, 1) := dk_27 (dk_at dksX3_next_13 20 rfl rfl)
theorem dX3_next_322 : decode cX3_next 322 = .ok (.if_icmp .ne 8, 3) := dk_160 0 8 (dk_at dksX3_next_13 21 rfl rfl)
theorem dX3_next_325 : decode cX3_next 325 = .ok (.aload_n 0, 1) := dk_42 (dk_at dksX3_next_14 0 rfl rfl)
theorem dX3_next_326 : decode cX3_next 326 = .ok (.iload_n 1, 1) := dk_27 (dk_at dksX3_next_14 1 rfl rfl)
theorem dX3_next_327 : decode cX3_next 327 = .ok (.putfield 25, 3) := dk_181 0 25 (dk_at dksX3_next_14 2 rfl rfl)
theorem dX3_next_330 : decode cX3_next 330 = .ok (.iinc 2 1, 3) := dk_132 2 1 (dk_at dksX3_next_14 5 rfl rfl)
theorem dX3_next_333 : decode cX3_next 333 = .ok (.goto (-27), 3) := dk_167 255 229 (dk_at dksX3_next_14 8 rfl rfl)
theorem dX3_next_336 : decode cX3_next 336 = .ok (.iload_n 1, 1) := dk_27 (dk_at dksX3_next_14 11 rfl rfl)
theorem dX3_next_337 : decode cX3_next 337 = .ok (.bipush 60, 2) := dk_16 60 (dk_at dksX3_next_14 12 rfl rfl)
theorem dX3_next_339 : decode cX3_next 339 = .ok (.if_icmp .eq 9, 3) := dk_159 0 9 (dk_at dksX3_next_14 14 rfl rfl)
theorem dX3_next_342 : decode cX3_next 342 = .ok (.iload_n 1, 1) := dk_27 (dk_at dksX3_next_14 17 rfl rfl)
theorem dX3_next_343 : decode cX3_next 343 = .ok (.bipush 62, 2) := dk_16 62 (dk_at dksX3_next_14 18 rfl rfl)
theorem dX3_next_345 : decode cX3_next 345 = .ok (.if_icmp .ne 57, 3) := dk_160 0 57 (dk_at dksX3_next_14 20 rfl rfl)
theorem dX3_next_348 : decode cX3_next 348 = .ok (.aload_n 0, 1) := dk_42 (dk_at dksX3_next_14 23 rfl rfl)
theorem dX3_next_349 : decode cX3_next 349 = .ok (.getfield 19, 3) := dk_180 0 19 (dk_at dksX3_next_15 0 rfl rfl)
theorem dX3_next_352 : decode cX3_next 352 = .ok (.aload_n 0, 1) := dk_42 (dk_at dksX3_next_15 3 rfl rfl)
theorem dX3_next_353 : decode cX3_next 353 = .ok (.getfield 15, 3) := dk_180 0 15 (dk_at dksX3_next_15 4 rfl rfl)
theorem dX3_next_356 : decode cX3_next 356 = .ok (.if_icmp .ge 46, 3) := dk_162 0 46 (dk_at dksX3_next_15 7 rfl rfl)
theorem dX3_next_359 : decode cX3_next 359 = .ok (.aload_n 0, 1) := dk_42 (dk_at dksX3_next_15 10 rfl rfl)
theorem dX3_next_360 : decode cX3_next 360 = .ok (.getfield 9, 3) := dk_180 0 9 (dk_at dksX3_next_15 11 rfl rfl)
theorem dX3_next_363 : decode cX3_next 363 = .ok (.aload_n 0, 1) := dk_42 (dk_at dksX3_next_15 14 rfl rfl)
theorem dX3_next_364 : decode cX3_next 364 = .ok (.getfield 19, 3) := dk_180 0 19 (dk_at dksX3_next_15 15 rfl rfl)
theorem dX3_next_367 : decode cX3_next 367 = .ok (.baload, 1) := dk_51 (dk_at dksX3_next_15 18 rfl rfl)
theorem dX3_next_368 : decode cX3_next 368 = .ok (.bipush 61, 2) := dk_16 61 (dk_at dksX3_next_15 19 rfl rfl)
theorem dX3_next_370 : decode cX3_next 370 = .ok (.if_icmp .ne 32, 3) := dk_160 0 32 (dk_at dksX3_next_15 21 rfl rfl)
theorem dX3_next_373 : decode cX3_next 373 = .ok (.aload_n 0, 1) := dk_42 (dk_at dksX3_next_16 0 rfl rfl)
theorem dX3_next_374 : decode cX3_next 374 = .ok (.iload_n 1, 1) := dk_27 (dk_at dksX3_next_16 1 rfl rfl)
theorem dX3_next_375 : decode cX3_next 375 = .ok (.bipush 60, 2) := dk_16 60 (dk_at dksX3_next_16 2 rfl rfl)
theorem dX3_next_377 : decode cX3_next 377 = .ok (.if_icmp .ne 9, 3) := dk_160 0 9 (dk_at dksX3_next_16 4 rfl rfl)
theorem dX3_next_380 : decode cX3_next 380 = .ok (.sipush 303, 3) := dk_17 1 47 (dk_at dksX3_next_16 7 rfl rfl)
theorem dX3_next_383 : decode cX3_next 383 = .ok (.goto 6, 3) := dk_167 0 6 (dk_at dksX3_next_16 10 rfl rfl)
theorem dX3_next_386 : decode cX3_next 386 = .ok (.sipush 304, 3) := dk_17 1 48 (dk_at dksX3_next_16 13 rfl rfl)
theorem dX3_next_389 : decode cX3_next 389 = .ok (.putfield 25, 3) := dk_181 0 25 (dk_at dksX3_next_16 16 rfl rfl)
theorem dX3_next_392 : decode cX3_next 392 = .ok (.aload_n 0, 1) := dk_42 (dk_at dksX3_next_16 19 rfl rfl)
theorem dX3_next_393 : decode cX3_next 393 = .ok (.dup, 1) := dk_89 (dk_at dksX3_next_16 20 rfl rfl)
theorem dX3_next_394 : decode cX3_next 394 = .ok (.getfield 19, 3) := dk_180 0 19 (dk_at dksX3_next_16 21 rfl rfl)
theorem dX3_next_397 : decode cX3_next 397 = .ok (.iconst 1, 1) := dk_4 (dk_at dksX3_next_17 0 rfl rfl)
theorem dX3_next_398 : decode cX3_next 398 = .ok (.iadd, 1) := dk_96 (dk_at dksX3_next_17 1 rfl rfl)
theorem dX3_next_399 : decode cX3_next 399 = .ok (.putfield 19, 3) := dk_181 0 19 (dk_at dksX3_next_17 2 rfl rfl)
theorem dX3_next_402 : decode cX3_next 402 = .ok (.return_, 1) := dk_177 (dk_at dksX3_next_17 5 rfl rfl)
abbrev cX3_isLetter : ByteArray := prog_16_method_2_code
def yX3_isLetter : MethodName := ⟨RX3, "isLetter", "(I)Z"⟩
def dkwX3_isLetter_1 : List UInt8 := [4, 167, 0, 4, 3, 172]
abbrev dktX3_isLetter_1 : List UInt8 := dkwX3_isLetter_1 ++ []
def dkwX3_isLetter_0 : List UInt8 := [26, 16, 97, 161, 0, 9, 26, 16, 122, 164, 0, 15, 26, 16, 65, 161, 0, 13, 26, 16, 90, 163, 0, 7]
abbrev dktX3_isLetter_0 : List UInt8 := dkwX3_isLetter_0 ++ dktX3_isLetter_1
theorem dksX3_isLetter_0 : cX3_isLetter.data.toList.drop 0 = dktX3_isLetter_0 := by decide +kernel
theorem dksX3_isLetter_1 : cX3_isLetter.data.toList.drop 24 = dktX3_isLetter_1 := dk_seg dksX3_isLetter_0 24 rfl rfl
theorem dX3_isLetter_0 : decode cX3_isLetter 0 = .ok (.iload_n 0, 1) := dk_26 (dk_at dksX3_isLetter_0 0 rfl rfl)
theorem dX3_isLetter_1 : decode cX3_isLetter 1 = .ok (.bipush 97, 2) := dk_16 97 (dk_at dksX3_isLetter_0 1 rfl rfl)
theorem dX3_isLetter_3 : decode cX3_isLetter 3 = .ok (.if_icmp .lt 9, 3) := dk_161 0 9 (dk_at dksX3_isLetter_0 3 rfl rfl)
theorem dX3_isLetter_6 : decode cX3_isLetter 6 = .ok (.iload_n 0, 1) := dk_26 (dk_at dksX3_isLetter_0 6 rfl rfl)
theorem dX3_isLetter_7 : decode cX3_isLetter 7 = .ok (.bipush 122, 2) := dk_16 122 (dk_at dksX3_isLetter_0 7 rfl rfl)
theorem dX3_isLetter_9 : decode cX3_isLetter 9 = .ok (.if_icmp .le 15, 3) := dk_164 0 15 (dk_at dksX3_isLetter_0 9 rfl rfl)
theorem dX3_isLetter_12 : decode cX3_isLetter 12 = .ok (.iload_n 0, 1) := dk_26 (dk_at dksX3_isLetter_0 12 rfl rfl)
theorem dX3_isLetter_13 : decode cX3_isLetter 13 = .ok (.bipush 65, 2) := dk_16 65 (dk_at dksX3_isLetter_0 13 rfl rfl)
theorem dX3_isLetter_15 : decode cX3_isLetter 15 = .ok (.if_icmp .lt 13, 3) := dk_161 0 13 (dk_at dksX3_isLetter_0 15 rfl rfl)
theorem dX3_isLetter_18 : decode cX3_isLetter 18 = .ok (.iload_n 0, 1) := dk_26 (dk_at dksX3_isLetter_0 18 rfl rfl)
theorem dX3_isLetter_19 : decode cX3_isLetter 19 = .ok (.bipush 90, 2) := dk_16 90 (dk_at dksX3_isLetter_0 19 rfl rfl)
theorem dX3_isLetter_21 : decode cX3_isLetter 21 = .ok (.if_icmp .gt 7, 3) := dk_163 0 7 (dk_at dksX3_isLetter_0 21 rfl rfl)
theorem dX3_isLetter_24 : decode cX3_isLetter 24 = .ok (.iconst 1, 1) := dk_4 (dk_at dksX3_isLetter_1 0 rfl rfl)
theorem dX3_isLetter_25 : decode cX3_isLetter 25 = .ok (.goto 4, 3) := dk_167 0 4 (dk_at dksX3_isLetter_1 1 rfl rfl)
theorem dX3_isLetter_28 : decode cX3_isLetter 28 = .ok (.iconst 0, 1) := dk_3 (dk_at dksX3_isLetter_1 4 rfl rfl)
theorem dX3_isLetter_29 : decode cX3_isLetter 29 = .ok (.ireturn, 1) := dk_172 (dk_at dksX3_isLetter_1 5 rfl rfl)
abbrev cX3_isWord : ByteArray := prog_16_method_5_code
def yX3_isWord : MethodName := ⟨RX3, "isWord", "(Ljava/lang/String;)Z"⟩
def dkwX3_isWord_2 : List UInt8 := [159, 0, 5, 3, 172, 132, 2, 1, 167, 255, 224, 4, 172]
abbrev dktX3_isWord_2 : List UInt8 := dkwX3_isWord_2 ++ []
def dkwX3_isWord_1 : List UInt8 := [182, 0, 55, 162, 0, 30, 42, 180, 0, 9, 42, 180, 0, 22, 28, 96, 51, 43, 28, 182, 0, 61]
abbrev dktX3_isWord_1 : List UInt8 := dkwX3_isWord_1 ++ dktX3_isWord_2
def dkwX3_isWord_0 : List UInt8 := [42, 180, 0, 19, 42, 180, 0, 22, 100, 43, 182, 0, 55, 159, 0, 5, 3, 172, 3, 61, 28, 43]
abbrev dktX3_isWord_0 : List UInt8 := dkwX3_isWord_0 ++ dktX3_isWord_1
theorem dksX3_isWord_0 : cX3_isWord.data.toList.drop 0 = dktX3_isWord_0 := by decide +kernel
theorem dksX3_isWord_1 : cX3_isWord.data.toList.drop 22 = dktX3_isWord_1 := dk_seg dksX3_isWord_0 22 rfl rfl
theorem dksX3_isWord_2 : cX3_isWord.data.toList.drop 44 = dktX3_isWord_2 := dk_seg dksX3_isWord_1 22 rfl rfl
theorem dX3_isWord_0 : decode cX3_isWord 0 = .ok (.aload_n 0, 1) := dk_42 (dk_at dksX3_isWord_0 0 rfl rfl)
theorem dX3_isWord_1 : decode cX3_isWord 1 = .ok (.getfield 19, 3) := dk_180 0 19 (dk_at dksX3_isWord_0 1 rfl rfl)
theorem dX3_isWord_4 : decode cX3_isWord 4 = .ok (.aload_n 0, 1) := dk_42 (dk_at dksX3_isWord_0 4 rfl rfl)
theorem dX3_isWord_5 : decode cX3_isWord 5 = .ok (.getfield 22, 3) := dk_180 0 22 (dk_at dksX3_isWord_0 5 rfl rfl)
theorem dX3_isWord_8 : decode cX3_isWord 8 = .ok (.isub, 1) := dk_100 (dk_at dksX3_isWord_0 8 rfl rfl)
theorem dX3_isWord_9 : decode cX3_isWord 9 = .ok (.aload_n 1, 1) := dk_43 (dk_at dksX3_isWord_0 9 rfl rfl)
theorem dX3_isWord_10 : decode cX3_isWord 10 = .ok (.invokevirtual 55, 3) := dk_182 0 55 (dk_at dksX3_isWord_0 10 rfl rfl)
theorem dX3_isWord_13 : decode cX3_isWord 13 = .ok (.if_icmp .eq 5, 3) := dk_159 0 5 (dk_at dksX3_isWord_0 13 rfl rfl)
theorem dX3_isWord_16 : decode cX3_isWord 16 = .ok (.iconst 0, 1) := dk_3 (dk_at dksX3_isWord_0 16 rfl rfl)
theorem dX3_isWord_17 : decode cX3_isWord 17 = .ok (.ireturn, 1) := dk_172 (dk_at dksX3_isWord_0 17 rfl rfl)
theorem dX3_isWord_18 : decode cX3_isWord 18 = .ok (.iconst 0, 1) := dk_3 (dk_at dksX3_isWord_0 18 rfl rfl)
theorem dX3_isWord_19 : decode cX3_isWord 19 = .ok (.istore_n 2, 1) := dk_61 (dk_at dksX3_isWord_0 19 rfl rfl)
theorem dX3_isWord_20 : decode cX3_isWord 20 = .ok (.iload_n 2, 1) := dk_28 (dk_at dksX3_isWord_0 20 rfl rfl)
theorem dX3_isWord_21 : decode cX3_isWord 21 = .ok (.aload_n 1, 1) := dk_43 (dk_at dksX3_isWord_0 21 rfl rfl)
theorem dX3_isWord_22 : decode cX3_isWord 22 = .ok (.invokevirtual 55, 3) := dk_182 0 55 (dk_at dksX3_isWord_1 0 rfl rfl)
theorem dX3_isWord_25 : decode cX3_isWord 25 = .ok (.if_icmp .ge 30, 3) := dk_162 0 30 (dk_at dksX3_isWord_1 3 rfl rfl)
theorem dX3_isWord_28 : decode cX3_isWord 28 = .ok (.aload_n 0, 1) := dk_42 (dk_at dksX3_isWord_1 6 rfl rfl)
theorem dX3_isWord_29 : decode cX3_isWord 29 = .ok (.getfield 9, 3) := dk_180 0 9 (dk_at dksX3_isWord_1 7 rfl rfl)
theorem dX3_isWord_32 : decode cX3_isWord 32 = .ok (.aload_n 0, 1) := dk_42 (dk_at dksX3_isWord_1 10 rfl rfl)
theorem dX3_isWord_33 : decode cX3_isWord 33 = .ok (.getfield 22, 3) := dk_180 0 22 (dk_at dksX3_isWord_1 11 rfl rfl)
theorem dX3_isWord_36 : decode cX3_isWord 36 = .ok (.iload_n 2, 1) := dk_28 (dk_at dksX3_isWord_1 14 rfl rfl)
theorem dX3_isWord_37 : decode cX3_isWord 37 = .ok (.iadd, 1) := dk_96 (dk_at dksX3_isWord_1 15 rfl rfl)
theorem dX3_isWord_38 : decode cX3_isWord 38 = .ok (.baload, 1) := dk_51 (dk_at dksX3_isWord_1 16 rfl rfl)
theorem dX3_isWord_39 : decode cX3_isWord 39 = .ok (.aload_n 1, 1) := dk_43 (dk_at dksX3_isWord_1 17 rfl rfl)
theorem dX3_isWord_40 : decode cX3_isWord 40 = .ok (.iload_n 2, 1) := dk_28 (dk_at dksX3_isWord_1 18 rfl rfl)
theorem dX3_isWord_41 : decode cX3_isWord 41 = .ok (.invokevirtual 61, 3) := dk_182 0 61 (dk_at dksX3_isWord_1 19 rfl rfl)
theorem dX3_isWord_44 : decode cX3_isWord 44 = .ok (.if_icmp .eq 5, 3) := dk_159 0 5 (dk_at dksX3_isWord_2 0 rfl rfl)
theorem dX3_isWord_47 : decode cX3_isWord 47 = .ok (.iconst 0, 1) := dk_3 (dk_at dksX3_isWord_2 3 rfl rfl)
theorem dX3_isWord_48 : decode cX3_isWord 48 = .ok (.ireturn, 1) := dk_172 (dk_at dksX3_isWord_2 4 rfl rfl)
theorem dX3_isWord_49 : decode cX3_isWord 49 = .ok (.iinc 2 1, 3) := dk_132 2 1 (dk_at dksX3_isWord_2 5 rfl rfl)
theorem dX3_isWord_52 : decode cX3_isWord 52 = .ok (.goto (-32), 3) := dk_167 255 224 (dk_at dksX3_isWord_2 8 rfl rfl)
theorem dX3_isWord_55 : decode cX3_isWord 55 = .ok (.iconst 1, 1) := dk_4 (dk_at dksX3_isWord_2 11 rfl rfl)
theorem dX3_isWord_56 : decode cX3_isWord 56 = .ok (.ireturn, 1) := dk_172 (dk_at dksX3_isWord_2 12 rfl rfl)
abbrev cX3_isDigit : ByteArray := prog_16_method_3_code
def yX3_isDigit : MethodName := ⟨RX3, "isDigit", "(I)Z"⟩
def dkwX3_isDigit_0 : List UInt8 := [26, 16, 48, 161, 0, 13, 26, 16, 57, 163, 0, 7, 4, 167, 0, 4, 3, 172]
abbrev dktX3_isDigit_0 : List UInt8 := dkwX3_isDigit_0 ++ []
theorem dksX3_isDigit_0 : cX3_isDigit.data.toList.drop 0 = dktX3_isDigit_0 := by decide +kernel
theorem dX3_isDigit_0 : decode cX3_isDigit 0 = .ok (.iload_n 0, 1) := dk_26 (dk_at dksX3_isDigit_0 0 rfl rfl)
theorem dX3_isDigit_1 : decode cX3_isDigit 1 = .ok (.bipush 48, 2) := dk_16 48 (dk_at dksX3_isDigit_0 1 rfl rfl)
theorem dX3_isDigit_3 : decode cX3_isDigit 3 = .ok (.if_icmp .lt 13, 3) := dk_161 0 13 (dk_at dksX3_isDigit_0 3 rfl rfl)
theorem dX3_isDigit_6 : decode cX3_isDigit 6 = .ok (.iload_n 0, 1) := dk_26 (dk_at dksX3_isDigit_0 6 rfl rfl)
theorem dX3_isDigit_7 : decode cX3_isDigit 7 = .ok (.bipush 57, 2) := dk_16 57 (dk_at dksX3_isDigit_0 7 rfl rfl)
theorem dX3_isDigit_9 : decode cX3_isDigit 9 = .ok (.if_icmp .gt 7, 3) := dk_163 0 7 (dk_at dksX3_isDigit_0 9 rfl rfl)
theorem dX3_isDigit_12 : decode cX3_isDigit 12 = .ok (.iconst 1, 1) := dk_4 (dk_at dksX3_isDigit_0 12 rfl rfl)
theorem dX3_isDigit_13 : decode cX3_isDigit 13 = .ok (.goto 4, 3) := dk_167 0 4 (dk_at dksX3_isDigit_0 13 rfl rfl)
theorem dX3_isDigit_16 : decode cX3_isDigit 16 = .ok (.iconst 0, 1) := dk_3 (dk_at dksX3_isDigit_0 16 rfl rfl)
theorem dX3_isDigit_17 : decode cX3_isDigit 17 = .ok (.ireturn, 1) := dk_172 (dk_at dksX3_isDigit_0 17 rfl rfl)
abbrev cX3_wrong : ByteArray := prog_16_method_6_code
def yX3_wrong : MethodName := ⟨RX3, "wrong", "(I)LShaveOfAnother$Wrong;"⟩
def dkwX3_wrong_0 : List UInt8 := [187, 0, 65, 89, 27, 42, 180, 0, 22, 183, 0, 67, 176]
abbrev dktX3_wrong_0 : List UInt8 := dkwX3_wrong_0 ++ []
theorem dksX3_wrong_0 : cX3_wrong.data.toList.drop 0 = dktX3_wrong_0 := by decide +kernel
theorem dX3_wrong_0 : decode cX3_wrong 0 = .ok (.new 65, 3) := dk_187 0 65 (dk_at dksX3_wrong_0 0 rfl rfl)
theorem dX3_wrong_3 : decode cX3_wrong 3 = .ok (.dup, 1) := dk_89 (dk_at dksX3_wrong_0 3 rfl rfl)
theorem dX3_wrong_4 : decode cX3_wrong 4 = .ok (.iload_n 1, 1) := dk_27 (dk_at dksX3_wrong_0 4 rfl rfl)
theorem dX3_wrong_5 : decode cX3_wrong 5 = .ok (.aload_n 0, 1) := dk_42 (dk_at dksX3_wrong_0 5 rfl rfl)
theorem dX3_wrong_6 : decode cX3_wrong 6 = .ok (.getfield 22, 3) := dk_180 0 22 (dk_at dksX3_wrong_0 6 rfl rfl)
theorem dX3_wrong_9 : decode cX3_wrong 9 = .ok (.invokespecial 67, 3) := dk_183 0 67 (dk_at dksX3_wrong_0 9 rfl rfl)
theorem dX3_wrong_12 : decode cX3_wrong 12 = .ok (.areturn, 1) := dk_176 (dk_at dksX3_wrong_0 12 rfl rfl)
abbrev cX3_sum : ByteArray := prog_16_method_16_code
def yX3_sum : MethodName := ⟨RX3, "sum", "()LShaveOfAnother$Sum;"⟩
def dkwX3_sum_2 : List UInt8 := [182, 0, 167, 167, 255, 220, 43, 182, 0, 170, 176]
abbrev dktX3_sum_2 : List UInt8 := dkwX3_sum_2 ++ []
def dkwX3_sum_1 : List UInt8 := [180, 0, 25, 16, 45, 160, 0, 24, 42, 180, 0, 25, 61, 42, 182, 0, 74, 43, 28, 42, 182, 0, 161]
abbrev dktX3_sum_1 : List UInt8 := dkwX3_sum_1 ++ dktX3_sum_2
def dkwX3_sum_0 : List UInt8 := [187, 0, 159, 89, 42, 182, 0, 161, 183, 0, 164, 76, 42, 180, 0, 25, 16, 43, 159, 0, 12, 42]
abbrev dktX3_sum_0 : List UInt8 := dkwX3_sum_0 ++ dktX3_sum_1
theorem dksX3_sum_0 : cX3_sum.data.toList.drop 0 = dktX3_sum_0 := by decide +kernel
theorem dksX3_sum_1 : cX3_sum.data.toList.drop 22 = dktX3_sum_1 := dk_seg dksX3_sum_0 22 rfl rfl
theorem dksX3_sum_2 : cX3_sum.data.toList.drop 45 = dktX3_sum_2 := dk_seg dksX3_sum_1 23 rfl rfl
theorem dX3_sum_0 : decode cX3_sum 0 = .ok (.new 159, 3) := dk_187 0 159 (dk_at dksX3_sum_0 0 rfl rfl)
theorem dX3_sum_3 : decode cX3_sum 3 = .ok (.dup, 1) := dk_89 (dk_at dksX3_sum_0 3 rfl rfl)
theorem dX3_sum_4 : decode cX3_sum 4 = .ok (.aload_n 0, 1) := dk_42 (dk_at dksX3_sum_0 4 rfl rfl)
theorem dX3_sum_5 : decode cX3_sum 5 = .ok (.invokevirtual 161, 3) := dk_182 0 161 (dk_at dksX3_sum_0 5 rfl rfl)
theorem dX3_sum_8 : decode cX3_sum 8 = .ok (.invokespecial 164, 3) := dk_183 0 164 (dk_at dksX3_sum_0 8 rfl rfl)
theorem dX3_sum_11 : decode cX3_sum 11 = .ok (.astore_n 1, 1) := dk_76 (dk_at dksX3_sum_0 11 rfl rfl)
theorem dX3_sum_12 : decode cX3_sum 12 = .ok (.aload_n 0, 1) := dk_42 (dk_at dksX3_sum_0 12 rfl rfl)
theorem dX3_sum_13 : decode cX3_sum 13 = .ok (.getfield 25, 3) := dk_180 0 25 (dk_at dksX3_sum_0 13 rfl rfl)
theorem dX3_sum_16 : decode cX3_sum 16 = .ok (.bipush 43, 2) := dk_16 43 (dk_at dksX3_sum_0 16 rfl rfl)
theorem dX3_sum_18 : decode cX3_sum 18 = .ok (.if_icmp .eq 12, 3) := dk_159 0 12 (dk_at dksX3_sum_0 18 rfl rfl)
theorem dX3_sum_21 : decode cX3_sum 21 = .ok (.aload_n 0, 1) := dk_42 (dk_at dksX3_sum_0 21 rfl rfl)
theorem dX3_sum_22 : decode cX3_sum 22 = .ok (.getfield 25, 3) := dk_180 0 25 (dk_at dksX3_sum_1 0 rfl rfl)
theorem dX3_sum_25 : decode cX3_sum 25 = .ok (.bipush 45, 2) := dk_16 45 (dk_at dksX3_sum_1 3 rfl rfl)
theorem dX3_sum_27 : decode cX3_sum 27 = .ok (.if_icmp .ne 24, 3) := dk_160 0 24 (dk_at dksX3_sum_1 5 rfl rfl)
theorem dX3_sum_30 : decode cX3_sum 30 = .ok (.aload_n 0, 1) := dk_42 (dk_at dksX3_sum_1 8 rfl rfl)
theorem dX3_sum_31 : decode cX3_sum 31 = .ok (.getfield 25, 3) := dk_180 0 25 (dk_at dksX3_sum_1 9 rfl rfl)
theorem dX3_sum_34 : decode cX3_sum 34 = .ok (.istore_n 2, 1) := dk_61 (dk_at dksX3_sum_1 12 rfl rfl)
theorem dX3_sum_35 : decode cX3_sum 35 = .ok (.aload_n 0, 1) := dk_42 (dk_at dksX3_sum_1 13 rfl rfl)
theorem dX3_sum_36 : decode cX3_sum 36 = .ok (.invokevirtual 74, 3) := dk_182 0 74 (dk_at dksX3_sum_1 14 rfl rfl)
theorem dX3_sum_39 : decode cX3_sum 39 = .ok (.aload_n 1, 1) := dk_43 (dk_at dksX3_sum_1 17 rfl rfl)
theorem dX3_sum_40 : decode cX3_sum 40 = .ok (.iload_n 2, 1) := dk_28 (dk_at dksX3_sum_1 18 rfl rfl)
theorem dX3_sum_41 : decode cX3_sum 41 = .ok (.aload_n 0, 1) := dk_42 (dk_at dksX3_sum_1 19 rfl rfl)
theorem dX3_sum_42 : decode cX3_sum 42 = .ok (.invokevirtual 161, 3) := dk_182 0 161 (dk_at dksX3_sum_1 20 rfl rfl)
theorem dX3_sum_45 : decode cX3_sum 45 = .ok (.invokevirtual 167, 3) := dk_182 0 167 (dk_at dksX3_sum_2 0 rfl rfl)
theorem dX3_sum_48 : decode cX3_sum 48 = .ok (.goto (-36), 3) := dk_167 255 220 (dk_at dksX3_sum_2 3 rfl rfl)
theorem dX3_sum_51 : decode cX3_sum 51 = .ok (.aload_n 1, 1) := dk_43 (dk_at dksX3_sum_2 6 rfl rfl)
theorem dX3_sum_52 : decode cX3_sum 52 = .ok (.invokevirtual 170, 3) := dk_182 0 170 (dk_at dksX3_sum_2 7 rfl rfl)
theorem dX3_sum_55 : decode cX3_sum 55 = .ok (.areturn, 1) := dk_176 (dk_at dksX3_sum_2 10 rfl rfl)
abbrev cX3_product : ByteArray := prog_16_method_17_code
def yX3_product : MethodName := ⟨RX3, "product", "()LShaveOfAnother$Sum;"⟩
def dkwX3_product_2 : List UInt8 := [182, 0, 167, 167, 255, 220, 43, 182, 0, 170, 176]
abbrev dktX3_product_2 : List UInt8 := dkwX3_product_2 ++ []
def dkwX3_product_1 : List UInt8 := [180, 0, 25, 16, 47, 160, 0, 24, 42, 180, 0, 25, 61, 42, 182, 0, 74, 43, 28, 42, 182, 0, 173]
abbrev dktX3_product_1 : List UInt8 := dkwX3_product_1 ++ dktX3_product_2
def dkwX3_product_0 : List UInt8 := [187, 0, 159, 89, 42, 182, 0, 173, 183, 0, 164, 76, 42, 180, 0, 25, 16, 42, 159, 0, 12, 42]
abbrev dktX3_product_0 : List UInt8 := dkwX3_product_0 ++ dktX3_product_1
theorem dksX3_product_0 : cX3_product.data.toList.drop 0 = dktX3_product_0 := by decide +kernel
theorem dksX3_product_1 : cX3_product.data.toList.drop 22 = dktX3_product_1 := dk_seg dksX3_product_0 22 rfl rfl
theorem dksX3_product_2 : cX3_product.data.toList.drop 45 = dktX3_product_2 := dk_seg dksX3_product_1 23 rfl rfl
theorem dX3_product_0 : decode cX3_product 0 = .ok (.new 159, 3) := dk_187 0 159 (dk_at dksX3_product_0 0 rfl rfl)
theorem dX3_product_3 : decode cX3_product 3 = .ok (.dup, 1) := dk_89 (dk_at dksX3_product_0 3 rfl rfl)
theorem dX3_product_4 : decode cX3_product 4 = .ok (.aload_n 0, 1) := dk_42 (dk_at dksX3_product_0 4 rfl rfl)
theorem dX3_product_5 : decode cX3_product 5 = .ok (.invokevirtual 173, 3) := dk_182 0 173 (dk_at dksX3_product_0 5 rfl rfl)
theorem dX3_product_8 : decode cX3_product 8 = .ok (.invokespecial 164, 3) := dk_183 0 164 (dk_at dksX3_product_0 8 rfl rfl)
theorem dX3_product_11 : decode cX3_product 11 = .ok (.astore_n 1, 1) := dk_76 (dk_at dksX3_product_0 11 rfl rfl)
theorem dX3_product_12 : decode cX3_product 12 = .ok (.aload_n 0, 1) := dk_42 (dk_at dksX3_product_0 12 rfl rfl)
theorem dX3_product_13 : decode cX3_product 13 = .ok (.getfield 25, 3) := dk_180 0 25 (dk_at dksX3_product_0 13 rfl rfl)
theorem dX3_product_16 : decode cX3_product 16 = .ok (.bipush 42, 2) := dk_16 42 (dk_at dksX3_product_0 16 rfl rfl)
theorem dX3_product_18 : decode cX3_product 18 = .ok (.if_icmp .eq 12, 3) := dk_159 0 12 (dk_at dksX3_product_0 18 rfl rfl)
theorem dX3_product_21 : decode cX3_product 21 = .ok (.aload_n 0, 1) := dk_42 (dk_at dksX3_product_0 21 rfl rfl)
theorem dX3_product_22 : decode cX3_product 22 = .ok (.getfield 25, 3) := dk_180 0 25 (dk_at dksX3_product_1 0 rfl rfl)
theorem dX3_product_25 : decode cX3_product 25 = .ok (.bipush 47, 2) := dk_16 47 (dk_at dksX3_product_1 3 rfl rfl)
theorem dX3_product_27 : decode cX3_product 27 = .ok (.if_icmp .ne 24, 3) := dk_160 0 24 (dk_at dksX3_product_1 5 rfl rfl)
theorem dX3_product_30 : decode cX3_product 30 = .ok (.aload_n 0, 1) := dk_42 (dk_at dksX3_product_1 8 rfl rfl)
theorem dX3_product_31 : decode cX3_product 31 = .ok (.getfield 25, 3) := dk_180 0 25 (dk_at dksX3_product_1 9 rfl rfl)
theorem dX3_product_34 : decode cX3_product 34 = .ok (.istore_n 2, 1) := dk_61 (dk_at dksX3_product_1 12 rfl rfl)
theorem dX3_product_35 : decode cX3_product 35 = .ok (.aload_n 0, 1) := dk_42 (dk_at dksX3_product_1 13 rfl rfl)
theorem dX3_product_36 : decode cX3_product 36 = .ok (.invokevirtual 74, 3) := dk_182 0 74 (dk_at dksX3_product_1 14 rfl rfl)
theorem dX3_product_39 : decode cX3_product 39 = .ok (.aload_n 1, 1) := dk_43 (dk_at dksX3_product_1 17 rfl rfl)
theorem dX3_product_40 : decode cX3_product 40 = .ok (.iload_n 2, 1) := dk_28 (dk_at dksX3_product_1 18 rfl rfl)
theorem dX3_product_41 : decode cX3_product 41 = .ok (.aload_n 0, 1) := dk_42 (dk_at dksX3_product_1 19 rfl rfl)
theorem dX3_product_42 : decode cX3_product 42 = .ok (.invokevirtual 173, 3) := dk_182 0 173 (dk_at dksX3_product_1 20 rfl rfl)
theorem dX3_product_45 : decode cX3_product 45 = .ok (.invokevirtual 167, 3) := dk_182 0 167 (dk_at dksX3_product_2 0 rfl rfl)
theorem dX3_product_48 : decode cX3_product 48 = .ok (.goto (-36), 3) := dk_167 255 220 (dk_at dksX3_product_2 3 rfl rfl)
theorem dX3_product_51 : decode cX3_product 51 = .ok (.aload_n 1, 1) := dk_43 (dk_at dksX3_product_2 6 rfl rfl)
theorem dX3_product_52 : decode cX3_product 52 = .ok (.invokevirtual 170, 3) := dk_182 0 170 (dk_at dksX3_product_2 7 rfl rfl)
theorem dX3_product_55 : decode cX3_product 55 = .ok (.areturn, 1) := dk_176 (dk_at dksX3_product_2 10 rfl rfl)
abbrev cX3_power : ByteArray := prog_16_method_18_code
def yX3_power : MethodName := ⟨RX3, "power", "()LShaveOfAnother$Sum;"⟩
def dkwX3_power_2 : List UInt8 := [167, 255, 233, 44, 182, 0, 170, 176]
abbrev dktX3_power_2 : List UInt8 := dkwX3_power_2 ++ []
def dkwX3_power_1 : List UInt8 := [77, 42, 180, 0, 25, 16, 94, 160, 0, 20, 42, 182, 0, 74, 44, 16, 94, 42, 182, 0, 176, 182, 0, 167]
abbrev dktX3_power_1 : List UInt8 := dkwX3_power_1 ++ dktX3_power_2
def dkwX3_power_0 : List UInt8 := [42, 182, 0, 176, 76, 42, 180, 0, 25, 16, 94, 159, 0, 5, 43, 176, 187, 0, 159, 89, 43, 183, 0, 164]
abbrev dktX3_power_0 : List UInt8 := dkwX3_power_0 ++ dktX3_power_1
theorem dksX3_power_0 : cX3_power.data.toList.drop 0 = dktX3_power_0 := by decide +kernel
theorem dksX3_power_1 : cX3_power.data.toList.drop 24 = dktX3_power_1 := dk_seg dksX3_power_0 24 rfl rfl
theorem dksX3_power_2 : cX3_power.data.toList.drop 48 = dktX3_power_2 := dk_seg dksX3_power_1 24 rfl rfl
theorem dX3_power_0 : decode cX3_power 0 = .ok (.aload_n 0, 1) := dk_42 (dk_at dksX3_power_0 0 rfl rfl)
theorem dX3_power_1 : decode cX3_power 1 = .ok (.invokevirtual 176, 3) := dk_182 0 176 (dk_at dksX3_power_0 1 rfl rfl)
theorem dX3_power_4 : decode cX3_power 4 = .ok (.astore_n 1, 1) := dk_76 (dk_at dksX3_power_0 4 rfl rfl)
theorem dX3_power_5 : decode cX3_power 5 = .ok (.aload_n 0, 1) := dk_42 (dk_at dksX3_power_0 5 rfl rfl)
theorem dX3_power_6 : decode cX3_power 6 = .ok (.getfield 25, 3) := dk_180 0 25 (dk_at dksX3_power_0 6 rfl rfl)
theorem dX3_power_9 : decode cX3_power 9 = .ok (.bipush 94, 2) := dk_16 94 (dk_at dksX3_power_0 9 rfl rfl)
theorem dX3_power_11 : decode cX3_power 11 = .ok (.if_icmp .eq 5, 3) := dk_159 0 5 (dk_at dksX3_power_0 11 rfl rfl)
theorem dX3_power_14 : decode cX3_power 14 = .ok (.aload_n 1, 1) := dk_43 (dk_at dksX3_power_0 14 rfl rfl)
theorem dX3_power_15 : decode cX3_power 15 = .ok (.areturn, 1) := dk_176 (dk_at dksX3_power_0 15 rfl rfl)
theorem dX3_power_16 : decode cX3_power 16 = .ok (.new 159, 3) := dk_187 0 159 (dk_at dksX3_power_0 16 rfl rfl)
theorem dX3_power_19 : decode cX3_power 19 = .ok (.dup, 1) := dk_89 (dk_at dksX3_power_0 19 rfl rfl)
theorem dX3_power_20 : decode cX3_power 20 = .ok (.aload_n 1, 1) := dk_43 (dk_at dksX3_power_0 20 rfl rfl)
theorem dX3_power_21 : decode cX3_power 21 = .ok (.invokespecial 164, 3) := dk_183 0 164 (dk_at dksX3_power_0 21 rfl rfl)
theorem dX3_power_24 : decode cX3_power 24 = .ok (.astore_n 2, 1) := dk_77 (dk_at dksX3_power_1 0 rfl rfl)
theorem dX3_power_25 : decode cX3_power 25 = .ok (.aload_n 0, 1) := dk_42 (dk_at dksX3_power_1 1 rfl rfl)
theorem dX3_power_26 : decode cX3_power 26 = .ok (.getfield 25, 3) := dk_180 0 25 (dk_at dksX3_power_1 2 rfl rfl)
theorem dX3_power_29 : decode cX3_power 29 = .ok (.bipush 94, 2) := dk_16 94 (dk_at dksX3_power_1 5 rfl rfl)
theorem dX3_power_31 : decode cX3_power 31 = .ok (.if_icmp .ne 20, 3) := dk_160 0 20 (dk_at dksX3_power_1 7 rfl rfl)
theorem dX3_power_34 : decode cX3_power 34 = .ok (.aload_n 0, 1) := dk_42 (dk_at dksX3_power_1 10 rfl rfl)
theorem dX3_power_35 : decode cX3_power 35 = .ok (.invokevirtual 74, 3) := dk_182 0 74 (dk_at dksX3_power_1 11 rfl rfl)
theorem dX3_power_38 : decode cX3_power 38 = .ok (.aload_n 2, 1) := dk_44 (dk_at dksX3_power_1 14 rfl rfl)
theorem dX3_power_39 : decode cX3_power 39 = .ok (.bipush 94, 2) := dk_16 94 (dk_at dksX3_power_1 15 rfl rfl)
theorem dX3_power_41 : decode cX3_power 41 = .ok (.aload_n 0, 1) := dk_42 (dk_at dksX3_power_1 17 rfl rfl)
theorem dX3_power_42 : decode cX3_power 42 = .ok (.invokevirtual 176, 3) := dk_182 0 176 (dk_at dksX3_power_1 18 rfl rfl)
theorem dX3_power_45 : decode cX3_power 45 = .ok (.invokevirtual 167, 3) := dk_182 0 167 (dk_at dksX3_power_1 21 rfl rfl)
theorem dX3_power_48 : decode cX3_power 48 = .ok (.goto (-23), 3) := dk_167 255 233 (dk_at dksX3_power_2 0 rfl rfl)
theorem dX3_power_51 : decode cX3_power 51 = .ok (.aload_n 2, 1) := dk_44 (dk_at dksX3_power_2 3 rfl rfl)
theorem dX3_power_52 : decode cX3_power 52 = .ok (.invokevirtual 170, 3) := dk_182 0 170 (dk_at dksX3_power_2 4 rfl rfl)
theorem dX3_power_55 : decode cX3_power 55 = .ok (.areturn, 1) := dk_176 (dk_at dksX3_power_2 7 rfl rfl)
abbrev cX3_one : ByteArray := prog_16_method_23_code
def yX3_one : MethodName := ⟨RX3, "one", "()LShaveOfAnother$Sum;"⟩
def dkwX3_one_7 : List UInt8 := [181, 0, 77, 44, 176]
abbrev dktX3_one_7 : List UInt8 := dkwX3_one_7 ++ []
def dkwX3_one_6 : List UInt8 := [182, 0, 176, 183, 0, 217, 77, 167, 0, 9, 42, 4, 182, 0, 70, 191, 42, 89, 180, 0, 77, 4, 100]
abbrev dktX3_one_6 : List UInt8 := dkwX3_one_6 ++ dktX3_one_7
def dkwX3_one_5 : List UInt8 := [182, 0, 111, 167, 0, 37, 42, 180, 0, 25, 16, 45, 160, 0, 22, 42, 182, 0, 146, 187, 0, 215, 89, 42]
abbrev dktX3_one_5 : List UInt8 := dkwX3_one_5 ++ dktX3_one_6
def dkwX3_one_4 : List UInt8 := [176, 42, 180, 0, 25, 16, 40, 160, 0, 21, 42, 182, 0, 146, 42, 182, 0, 93, 77, 42, 16, 41]
abbrev dktX3_one_4 : List UInt8 := dkwX3_one_4 ++ dktX3_one_5
def dkwX3_one_3 : List UInt8 := [182, 0, 209, 154, 0, 9, 42, 8, 182, 0, 70, 191, 42, 182, 0, 74, 187, 0, 212, 89, 27, 183, 0, 214]
abbrev dktX3_one_3 : List UInt8 := dkwX3_one_3 ++ dktX3_one_4
def dkwX3_one_2 : List UInt8 := [17, 0, 210, 160, 0, 8, 42, 182, 0, 203, 176, 42, 182, 0, 206, 60, 27, 2, 159, 0, 30, 42, 27]
abbrev dktX3_one_2 : List UInt8 := dkwX3_one_2 ++ dktX3_one_3
def dkwX3_one_1 : List UInt8 := [183, 0, 198, 176, 42, 180, 0, 25, 17, 0, 212, 160, 0, 8, 42, 182, 0, 200, 176, 42, 180, 0, 25]
abbrev dktX3_one_1 : List UInt8 := dkwX3_one_1 ++ dktX3_one_2
def dkwX3_one_0 : List UInt8 := [42, 180, 0, 25, 17, 1, 44, 160, 0, 19, 187, 0, 196, 89, 42, 3, 17, 39, 15, 182, 0, 115]
abbrev dktX3_one_0 : List UInt8 := dkwX3_one_0 ++ dktX3_one_1
theorem dksX3_one_0 : cX3_one.data.toList.drop 0 = dktX3_one_0 := by decide +kernel
theorem dksX3_one_1 : cX3_one.data.toList.drop 22 = dktX3_one_1 := dk_seg dksX3_one_0 22 rfl rfl
theorem dksX3_one_2 : cX3_one.data.toList.drop 45 = dktX3_one_2 := dk_seg dksX3_one_1 23 rfl rfl
theorem dksX3_one_3 : cX3_one.data.toList.drop 68 = dktX3_one_3 := dk_seg dksX3_one_2 23 rfl rfl
theorem dksX3_one_4 : cX3_one.data.toList.drop 92 = dktX3_one_4 := dk_seg dksX3_one_3 24 rfl rfl
theorem dksX3_one_5 : cX3_one.data.toList.drop 114 = dktX3_one_5 := dk_seg dksX3_one_4 22 rfl rfl
theorem dksX3_one_6 : cX3_one.data.toList.drop 138 = dktX3_one_6 := dk_seg dksX3_one_5 24 rfl rfl
theorem dksX3_one_7 : cX3_one.data.toList.drop 161 = dktX3_one_7 := dk_seg dksX3_one_6 23 rfl rfl
theorem dX3_one_0 : decode cX3_one 0 = .ok (.aload_n 0, 1) := dk_42 (dk_at dksX3_one_0 0 rfl rfl)
theorem dX3_one_1 : decode cX3_one 1 = .ok (.getfield 25, 3) := dk_180 0 25 (dk_at dksX3_one_0 1 rfl rfl)
theorem dX3_one_4 : decode cX3_one 4 = .ok (.sipush 300, 3) := dk_17 1 44 (dk_at dksX3_one_0 4 rfl rfl)
theorem dX3_one_7 : decode cX3_one 7 = .ok (.if_icmp .ne 19, 3) := dk_160 0 19 (dk_at dksX3_one_0 7 rfl rfl)
theorem dX3_one_10 : decode cX3_one 10 = .ok (.new 196, 3) := dk_187 0 196 (dk_at dksX3_one_0 10 rfl rfl)
theorem dX3_one_13 : decode cX3_one 13 = .ok (.dup, 1) := dk_89 (dk_at dksX3_one_0 13 rfl rfl)
theorem dX3_one_14 : decode cX3_one 14 = .ok (.aload_n 0, 1) := dk_42 (dk_at dksX3_one_0 14 rfl rfl)
theorem dX3_one_15 : decode cX3_one 15 = .ok (.iconst 0, 1) := dk_3 (dk_at dksX3_one_0 15 rfl rfl)
theorem dX3_one_16 : decode cX3_one 16 = .ok (.sipush 9999, 3) := dk_17 39 15 (dk_at dksX3_one_0 16 rfl rfl)
theorem dX3_one_19 : decode cX3_one 19 = .ok (.invokevirtual 115, 3) := dk_182 0 115 (dk_at dksX3_one_0 19 rfl rfl)
theorem dX3_one_22 : decode cX3_one 22 = .ok (.invokespecial 198, 3) := dk_183 0 198 (dk_at dksX3_one_1 0 rfl rfl)
theorem dX3_one_25 : decode cX3_one 25 = .ok (.areturn, 1) := dk_176 (dk_at dksX3_one_1 3 rfl rfl)
theorem dX3_one_26 : decode cX3_one 26 = .ok (.aload_n 0, 1) := dk_42 (dk_at dksX3_one_1 4 rfl rfl)
theorem dX3_one_27 : decode cX3_one 27 = .ok (.getfield 25, 3) := dk_180 0 25 (dk_at dksX3_one_1 5 rfl rfl)
theorem dX3_one_30 : decode cX3_one 30 = .ok (.sipush 212, 3) := dk_17 0 212 (dk_at dksX3_one_1 8 rfl rfl)
theorem dX3_one_33 : decode cX3_one 33 = .ok (.if_icmp .ne 8, 3) := dk_160 0 8 (dk_at dksX3_one_1 11 rfl rfl)
theorem dX3_one_36 : decode cX3_one 36 = .ok (.aload_n 0, 1) := dk_42 (dk_at dksX3_one_1 14 rfl rfl)
theorem dX3_one_37 : decode cX3_one 37 = .ok (.invokevirtual 200, 3) := dk_182 0 200 (dk_at dksX3_one_1 15 rfl rfl)
theorem dX3_one_40 : decode cX3_one 40 = .ok (.areturn, 1) := dk_176 (dk_at dksX3_one_1 18 rfl rfl)
theorem dX3_one_41 : decode cX3_one 41 = .ok (.aload_n 0, 1) := dk_42 (dk_at dksX3_one_1 19 rfl rfl)
theorem dX3_one_42 : decode cX3_one 42 = .ok (.getfield 25, 3) := dk_180 0 25 (dk_at dksX3_one_1 20 rfl rfl)
theorem dX3_one_45 : decode cX3_one 45 = .ok (.sipush 210, 3) := dk_17 0 210 (dk_at dksX3_one_2 0 rfl rfl)
theorem dX3_one_48 : decode cX3_one 48 = .ok (.if_icmp .ne 8, 3) := dk_160 0 8 (dk_at dksX3_one_2 3 rfl rfl)
theorem dX3_one_51 : decode cX3_one 51 = .ok (.aload_n 0, 1) := dk_42 (dk_at dksX3_one_2 6 rfl rfl)
theorem dX3_one_52 : decode cX3_one 52 = .ok (.invokevirtual 203, 3) := dk_182 0 203 (dk_at dksX3_one_2 7 rfl rfl)
theorem dX3_one_55 : decode cX3_one 55 = .ok (.areturn, 1) := dk_176 (dk_at dksX3_one_2 10 rfl rfl)
theorem dX3_one_56 : decode cX3_one 56 = .ok (.aload_n 0, 1) := dk_42 (dk_at dksX3_one_2 11 rfl rfl)
theorem dX3_one_57 : decode cX3_one 57 = .ok (.invokevirtual 206, 3) := dk_182 0 206 (dk_at dksX3_one_2 12 rfl rfl)
theorem dX3_one_60 : decode cX3_one 60 = .ok (.istore_n 1, 1) := dk_60 (dk_at dksX3_one_2 15 rfl rfl)
theorem dX3_one_61 : decode cX3_one 61 = .ok (.iload_n 1, 1) := dk_27 (dk_at dksX3_one_2 16 rfl rfl)
theorem dX3_one_62 : decode cX3_one 62 = .ok (.iconst (-1), 1) := dk_2 (dk_at dksX3_one_2 17 rfl rfl)
theorem dX3_one_63 : decode cX3_one 63 = .ok (.if_icmp .eq 30, 3) := dk_159 0 30 (dk_at dksX3_one_2 18 rfl rfl)
theorem dX3_one_66 : decode cX3_one 66 = .ok (.aload_n 0, 1) := dk_42 (dk_at dksX3_one_2 21 rfl rfl)
theorem dX3_one_67 : decode cX3_one 67 = .ok (.iload_n 1, 1) := dk_27 (dk_at dksX3_one_2 22 rfl rfl)
theorem dX3_one_68 : decode cX3_one 68 = .ok (.invokevirtual 209, 3) := dk_182 0 209 (dk_at dksX3_one_3 0 rfl rfl)
theorem dX3_one_71 : decode cX3_one 71 = .ok (.ifCond .ne 9, 3) := dk_154 0 9 (dk_at dksX3_one_3 3 rfl rfl)
theorem dX3_one_74 : decode cX3_one 74 = .ok (.aload_n 0, 1) := dk_42 (dk_at dksX3_one_3 6 rfl rfl)
theorem dX3_one_75 : decode cX3_one 75 = .ok (.iconst 5, 1) := dk_8 (dk_at dksX3_one_3 7 rfl rfl)
theorem dX3_one_76 : decode cX3_one 76 = .ok (.invokevirtual 70, 3) := dk_182 0 70 (dk_at dksX3_one_3 8 rfl rfl)
theorem dX3_one_79 : decode cX3_one 79 = .ok (.athrow, 1) := dk_191 (dk_at dksX3_one_3 11 rfl rfl)
theorem dX3_one_80 : decode cX3_one 80 = .ok (.aload_n 0, 1) := dk_42 (dk_at dksX3_one_3 12 rfl rfl)
theorem dX3_one_81 : decode cX3_one 81 = .ok (.invokevirtual 74, 3) := dk_182 0 74 (dk_at dksX3_one_3 13 rfl rfl)
theorem dX3_one_84 : decode cX3_one 84 = .ok (.new 212, 3) := dk_187 0 212 (dk_at dksX3_one_3 16 rfl rfl)
theorem dX3_one_87 : decode cX3_one 87 = .ok (.dup, 1) := dk_89 (dk_at dksX3_one_3 19 rfl rfl)
theorem dX3_one_88 : decode cX3_one 88 = .ok (.iload_n 1, 1) := dk_27 (dk_at dksX3_one_3 20 rfl rfl)
theorem dX3_one_89 : decode cX3_one 89 = .ok (.invokespecial 214, 3) := dk_183 0 214 (dk_at dksX3_one_3 21 rfl rfl)
theorem dX3_one_92 : decode cX3_one 92 = .ok (.areturn, 1) := dk_176 (dk_at dksX3_one_4 0 rfl rfl)
theorem dX3_one_93 : decode cX3_one 93 = .ok (.aload_n 0, 1) := dk_42 (dk_at dksX3_one_4 1 rfl rfl)
theorem dX3_one_94 : decode cX3_one 94 = .ok (.getfield 25, 3) := dk_180 0 25 (dk_at dksX3_one_4 2 rfl rfl)
theorem dX3_one_97 : decode cX3_one 97 = .ok (.bipush 40, 2) := dk_16 40 (dk_at dksX3_one_4 5 rfl rfl)
theorem dX3_one_99 : decode cX3_one 99 = .ok (.if_icmp .ne 21, 3) := dk_160 0 21 (dk_at dksX3_one_4 7 rfl rfl)
theorem dX3_one_102 : decode cX3_one 102 = .ok (.aload_n 0, 1) := dk_42 (dk_at dksX3_one_4 10 rfl rfl)
theorem dX3_one_103 : decode cX3_one 103 = .ok (.invokevirtual 146, 3) := dk_182 0 146 (dk_at dksX3_one_4 11 rfl rfl)
theorem dX3_one_106 : decode cX3_one 106 = .ok (.aload_n 0, 1) := dk_42 (dk_at dksX3_one_4 14 rfl rfl)
theorem dX3_one_107 : decode cX3_one 107 = .ok (.invokevirtual 93, 3) := dk_182 0 93 (dk_at dksX3_one_4 15 rfl rfl)
theorem dX3_one_110 : decode cX3_one 110 = .ok (.astore_n 2, 1) := dk_77 (dk_at dksX3_one_4 18 rfl rfl)
theorem dX3_one_111 : decode cX3_one 111 = .ok (.aload_n 0, 1) := dk_42 (dk_at dksX3_one_4 19 rfl rfl)
theorem dX3_one_112 : decode cX3_one 112 = .ok (.bipush 41, 2) := dk_16 41 (dk_at dksX3_one_4 20 rfl rfl)
theorem dX3_one_114 : decode cX3_one 114 = .ok (.invokevirtual 111, 3) := dk_182 0 111 (dk_at dksX3_one_5 0 rfl rfl)
theorem dX3_one_117 : decode cX3_one 117 = .ok (.goto 37, 3) := dk_167 0 37 (dk_at dksX3_one_5 3 rfl rfl)
theorem dX3_one_120 : decode cX3_one 120 = .ok (.aload_n 0, 1) := dk_42 (dk_at dksX3_one_5 6 rfl rfl)
theorem dX3_one_121 : decode cX3_one 121 = .ok (.getfield 25, 3) := dk_180 0 25 (dk_at dksX3_one_5 7 rfl rfl)
theorem dX3_one_124 : decode cX3_one 124 = .ok (.bipush 45, 2) := dk_16 45 (dk_at dksX3_one_5 10 rfl rfl)
theorem dX3_one_126 : decode cX3_one 126 = .ok (.if_icmp .ne 22, 3) := dk_160 0 22 (dk_at dksX3_one_5 12 rfl rfl)
theorem dX3_one_129 : decode cX3_one 129 = .ok (.aload_n 0, 1) := dk_42 (dk_at dksX3_one_5 15 rfl rfl)
theorem dX3_one_130 : decode cX3_one 130 = .ok (.invokevirtual 146, 3) := dk_182 0 146 (dk_at dksX3_one_5 16 rfl rfl)
theorem dX3_one_133 : decode cX3_one 133 = .ok (.new 215, 3) := dk_187 0 215 (dk_at dksX3_one_5 19 rfl rfl)
theorem dX3_one_136 : decode cX3_one 136 = .ok (.dup, 1) := dk_89 (dk_at dksX3_one_5 22 rfl rfl)
theorem dX3_one_137 : decode cX3_one 137 = .ok (.aload_n 0, 1) := dk_42 (dk_at dksX3_one_5 23 rfl rfl)
theorem dX3_one_138 : decode cX3_one 138 = .ok (.invokevirtual 176, 3) := dk_182 0 176 (dk_at dksX3_one_6 0 rfl rfl)
theorem dX3_one_141 : decode cX3_one 141 = .ok (.invokespecial 217, 3) := dk_183 0 217 (dk_at dksX3_one_6 3 rfl rfl)
theorem dX3_one_144 : decode cX3_one 144 = .ok (.astore_n 2, 1) := dk_77 (dk_at dksX3_one_6 6 rfl rfl)
theorem dX3_one_145 : decode cX3_one 145 = .ok (.goto 9, 3) := dk_167 0 9 (dk_at dksX3_one_6 7 rfl rfl)
theorem dX3_one_148 : decode cX3_one 148 = .ok (.aload_n 0, 1) := dk_42 (dk_at dksX3_one_6 10 rfl rfl)
theorem dX3_one_149 : decode cX3_one 149 = .ok (.iconst 1, 1) := dk_4 (dk_at dksX3_one_6 11 rfl rfl)
theorem dX3_one_150 : decode cX3_one 150 = .ok (.invokevirtual 70, 3) := dk_182 0 70 (dk_at dksX3_one_6 12 rfl rfl)
theorem dX3_one_153 : decode cX3_one 153 = .ok (.athrow, 1) := dk_191 (dk_at dksX3_one_6 15 rfl rfl)
theorem dX3_one_154 : decode cX3_one 154 = .ok (.aload_n 0, 1) := dk_42 (dk_at dksX3_one_6 16 rfl rfl)
theorem dX3_one_155 : decode cX3_one 155 = .ok (.dup, 1) := dk_89 (dk_at dksX3_one_6 17 rfl rfl)
theorem dX3_one_156 : decode cX3_one 156 = .ok (.getfield 77, 3) := dk_180 0 77 (dk_at dksX3_one_6 18 rfl rfl)
theorem dX3_one_159 : decode cX3_one 159 = .ok (.iconst 1, 1) := dk_4 (dk_at dksX3_one_6 21 rfl rfl)
theorem dX3_one_160 : decode cX3_one 160 = .ok (.isub, 1) := dk_100 (dk_at dksX3_one_6 22 rfl rfl)
theorem dX3_one_161 : decode cX3_one 161 = .ok (.putfield 77, 3) := dk_181 0 77 (dk_at dksX3_one_7 0 rfl rfl)
theorem dX3_one_164 : decode cX3_one 164 = .ok (.aload_n 2, 1) := dk_44 (dk_at dksX3_one_7 3 rfl rfl)
theorem dX3_one_165 : decode cX3_one 165 = .ok (.areturn, 1) := dk_176 (dk_at dksX3_one_7 4 rfl rfl)
abbrev cX3_number : ByteArray := prog_16_method_8_code
def yX3_number : MethodName := ⟨RX3, "number", "(II)I"⟩
def dkwX3_number_2 : List UInt8 := [172]
abbrev dktX3_number_2 : List UInt8 := dkwX3_number_2 ++ []
def dkwX3_number_1 : List UInt8 := [42, 180, 0, 43, 28, 164, 0, 9, 42, 5, 182, 0, 70, 191, 42, 180, 0, 43, 62, 42, 182, 0, 74, 29]
abbrev dktX3_number_1 : List UInt8 := dkwX3_number_1 ++ dktX3_number_2
def dkwX3_number_0 : List UInt8 := [42, 180, 0, 25, 17, 1, 44, 159, 0, 9, 42, 4, 182, 0, 70, 191, 42, 180, 0, 43, 27, 161, 0, 11]
abbrev dktX3_number_0 : List UInt8 := dkwX3_number_0 ++ dktX3_number_1
theorem dksX3_number_0 : cX3_number.data.toList.drop 0 = dktX3_number_0 := by decide +kernel
theorem dksX3_number_1 : cX3_number.data.toList.drop 24 = dktX3_number_1 := dk_seg dksX3_number_0 24 rfl rfl
theorem dksX3_number_2 : cX3_number.data.toList.drop 48 = dktX3_number_2 := dk_seg dksX3_number_1 24 rfl rfl
theorem dX3_number_0 : decode cX3_number 0 = .ok (.aload_n 0, 1) := dk_42 (dk_at dksX3_number_0 0 rfl rfl)
theorem dX3_number_1 : decode cX3_number 1 = .ok (.getfield 25, 3) := dk_180 0 25 (dk_at dksX3_number_0 1 rfl rfl)
theorem dX3_number_4 : decode cX3_number 4 = .ok (.sipush 300, 3) := dk_17 1 44 (dk_at dksX3_number_0 4 rfl rfl)
theorem dX3_number_7 : decode cX3_number 7 = .ok (.if_icmp .eq 9, 3) := dk_159 0 9 (dk_at dksX3_number_0 7 rfl rfl)
theorem dX3_number_10 : decode cX3_number 10 = .ok (.aload_n 0, 1) := dk_42 (dk_at dksX3_number_0 10 rfl rfl)
theorem dX3_number_11 : decode cX3_number 11 = .ok (.iconst 1, 1) := dk_4 (dk_at dksX3_number_0 11 rfl rfl)
theorem dX3_number_12 : decode cX3_number 12 = .ok (.invokevirtual 70, 3) := dk_182 0 70 (dk_at dksX3_number_0 12 rfl rfl)
theorem dX3_number_15 : decode cX3_number 15 = .ok (.athrow, 1) := dk_191 (dk_at dksX3_number_0 15 rfl rfl)
theorem dX3_number_16 : decode cX3_number 16 = .ok (.aload_n 0, 1) := dk_42 (dk_at dksX3_number_0 16 rfl rfl)
theorem dX3_number_17 : decode cX3_number 17 = .ok (.getfield 43, 3) := dk_180 0 43 (dk_at dksX3_number_0 17 rfl rfl)
theorem dX3_number_20 : decode cX3_number 20 = .ok (.iload_n 1, 1) := dk_27 (dk_at dksX3_number_0 20 rfl rfl)
theorem dX3_number_21 : decode cX3_number 21 = .ok (.if_icmp .lt 11, 3) := dk_161 0 11 (dk_at dksX3_number_0 21 rfl rfl)
theorem dX3_number_24 : decode cX3_number 24 = .ok (.aload_n 0, 1) := dk_42 (dk_at dksX3_number_1 0 rfl rfl)
theorem dX3_number_25 : decode cX3_number 25 = .ok (.getfield 43, 3) := dk_180 0 43 (dk_at dksX3_number_1 1 rfl rfl)
theorem dX3_number_28 : decode cX3_number 28 = .ok (.iload_n 2, 1) := dk_28 (dk_at dksX3_number_1 4 rfl rfl)
theorem dX3_number_29 : decode cX3_number 29 = .ok (.if_icmp .le 9, 3) := dk_164 0 9 (dk_at dksX3_number_1 5 rfl rfl)
theorem dX3_number_32 : decode cX3_number 32 = .ok (.aload_n 0, 1) := dk_42 (dk_at dksX3_number_1 8 rfl rfl)
theorem dX3_number_33 : decode cX3_number 33 = .ok (.iconst 2, 1) := dk_5 (dk_at dksX3_number_1 9 rfl rfl)
theorem dX3_number_34 : decode cX3_number 34 = .ok (.invokevirtual 70, 3) := dk_182 0 70 (dk_at dksX3_number_1 10 rfl rfl)
theorem dX3_number_37 : decode cX3_number 37 = .ok (.athrow, 1) := dk_191 (dk_at dksX3_number_1 13 rfl rfl)
theorem dX3_number_38 : decode cX3_number 38 = .ok (.aload_n 0, 1) := dk_42 (dk_at dksX3_number_1 14 rfl rfl)
theorem dX3_number_39 : decode cX3_number 39 = .ok (.getfield 43, 3) := dk_180 0 43 (dk_at dksX3_number_1 15 rfl rfl)
theorem dX3_number_42 : decode cX3_number 42 = .ok (.istore_n 3, 1) := dk_62 (dk_at dksX3_number_1 18 rfl rfl)
theorem dX3_number_43 : decode cX3_number 43 = .ok (.aload_n 0, 1) := dk_42 (dk_at dksX3_number_1 19 rfl rfl)
theorem dX3_number_44 : decode cX3_number 44 = .ok (.invokevirtual 74, 3) := dk_182 0 74 (dk_at dksX3_number_1 20 rfl rfl)
theorem dX3_number_47 : decode cX3_number 47 = .ok (.iload_n 3, 1) := dk_29 (dk_at dksX3_number_1 23 rfl rfl)
theorem dX3_number_48 : decode cX3_number 48 = .ok (.ireturn, 1) := dk_172 (dk_at dksX3_number_2 0 rfl rfl)
abbrev cX3_choice : ByteArray := prog_16_method_22_code
def yX3_choice : MethodName := ⟨RX3, "choice", "()LShaveOfAnother$Sum;"⟩
def dkwX3_choice_2 : List UInt8 := [100, 181, 0, 77, 187, 0, 191, 89, 43, 44, 45, 183, 0, 193, 176]
abbrev dktX3_choice_2 : List UInt8 := dkwX3_choice_2 ++ []
def dkwX3_choice_1 : List UInt8 := [17, 0, 214, 182, 0, 111, 42, 182, 0, 93, 78, 42, 17, 0, 215, 182, 0, 111, 42, 89, 180, 0, 77, 4]
abbrev dktX3_choice_1 : List UInt8 := dkwX3_choice_1 ++ dktX3_choice_2
def dkwX3_choice_0 : List UInt8 := [42, 182, 0, 146, 42, 182, 0, 188, 76, 42, 17, 0, 213, 182, 0, 111, 42, 182, 0, 93, 77, 42]
abbrev dktX3_choice_0 : List UInt8 := dkwX3_choice_0 ++ dktX3_choice_1
theorem dksX3_choice_0 : cX3_choice.data.toList.drop 0 = dktX3_choice_0 := by decide +kernel
theorem dksX3_choice_1 : cX3_choice.data.toList.drop 22 = dktX3_choice_1 := dk_seg dksX3_choice_0 22 rfl rfl
theorem dksX3_choice_2 : cX3_choice.data.toList.drop 46 = dktX3_choice_2 := dk_seg dksX3_choice_1 24 rfl rfl
theorem dX3_choice_0 : decode cX3_choice 0 = .ok (.aload_n 0, 1) := dk_42 (dk_at dksX3_choice_0 0 rfl rfl)
theorem dX3_choice_1 : decode cX3_choice 1 = .ok (.invokevirtual 146, 3) := dk_182 0 146 (dk_at dksX3_choice_0 1 rfl rfl)
theorem dX3_choice_4 : decode cX3_choice 4 = .ok (.aload_n 0, 1) := dk_42 (dk_at dksX3_choice_0 4 rfl rfl)
theorem dX3_choice_5 : decode cX3_choice 5 = .ok (.invokevirtual 188, 3) := dk_182 0 188 (dk_at dksX3_choice_0 5 rfl rfl)
theorem dX3_choice_8 : decode cX3_choice 8 = .ok (.astore_n 1, 1) := dk_76 (dk_at dksX3_choice_0 8 rfl rfl)
theorem dX3_choice_9 : decode cX3_choice 9 = .ok (.aload_n 0, 1) := dk_42 (dk_at dksX3_choice_0 9 rfl rfl)
theorem dX3_choice_10 : decode cX3_choice 10 = .ok (.sipush 213, 3) := dk_17 0 213 (dk_at dksX3_choice_0 10 rfl rfl)
theorem dX3_choice_13 : decode cX3_choice 13 = .ok (.invokevirtual 111, 3) := dk_182 0 111 (dk_at dksX3_choice_0 13 rfl rfl)
theorem dX3_choice_16 : decode cX3_choice 16 = .ok (.aload_n 0, 1) := dk_42 (dk_at dksX3_choice_0 16 rfl rfl)
theorem dX3_choice_17 : decode cX3_choice 17 = .ok (.invokevirtual 93, 3) := dk_182 0 93 (dk_at dksX3_choice_0 17 rfl rfl)
theorem dX3_choice_20 : decode cX3_choice 20 = .ok (.astore_n 2, 1) := dk_77 (dk_at dksX3_choice_0 20 rfl rfl)
theorem dX3_choice_21 : decode cX3_choice 21 = .ok (.aload_n 0, 1) := dk_42 (dk_at dksX3_choice_0 21 rfl rfl)
theorem dX3_choice_22 : decode cX3_choice 22 = .ok (.sipush 214, 3) := dk_17 0 214 (dk_at dksX3_choice_1 0 rfl rfl)
theorem dX3_choice_25 : decode cX3_choice 25 = .ok (.invokevirtual 111, 3) := dk_182 0 111 (dk_at dksX3_choice_1 3 rfl rfl)
theorem dX3_choice_28 : decode cX3_choice 28 = .ok (.aload_n 0, 1) := dk_42 (dk_at dksX3_choice_1 6 rfl rfl)
theorem dX3_choice_29 : decode cX3_choice 29 = .ok (.invokevirtual 93, 3) := dk_182 0 93 (dk_at dksX3_choice_1 7 rfl rfl)
theorem dX3_choice_32 : decode cX3_choice 32 = .ok (.astore_n 3, 1) := dk_78 (dk_at dksX3_choice_1 10 rfl rfl)
theorem dX3_choice_33 : decode cX3_choice 33 = .ok (.aload_n 0, 1) := dk_42 (dk_at dksX3_choice_1 11 rfl rfl)
theorem dX3_choice_34 : decode cX3_choice 34 = .ok (.sipush 215, 3) := dk_17 0 215 (dk_at dksX3_choice_1 12 rfl rfl)
theorem dX3_choice_37 : decode cX3_choice 37 = .ok (.invokevirtual 111, 3) := dk_182 0 111 (dk_at dksX3_choice_1 15 rfl rfl)
theorem dX3_choice_40 : decode cX3_choice 40 = .ok (.aload_n 0, 1) := dk_42 (dk_at dksX3_choice_1 18 rfl rfl)
theorem dX3_choice_41 : decode cX3_choice 41 = .ok (.dup, 1) := dk_89 (dk_at dksX3_choice_1 19 rfl rfl)
theorem dX3_choice_42 : decode cX3_choice 42 = .ok (.getfield 77, 3) := dk_180 0 77 (dk_at dksX3_choice_1 20 rfl rfl)
theorem dX3_choice_45 : decode cX3_choice 45 = .ok (.iconst 1, 1) := dk_4 (dk_at dksX3_choice_1 23 rfl rfl)
theorem dX3_choice_46 : decode cX3_choice 46 = .ok (.isub, 1) := dk_100 (dk_at dksX3_choice_2 0 rfl rfl)
theorem dX3_choice_47 : decode cX3_choice 47 = .ok (.putfield 77, 3) := dk_181 0 77 (dk_at dksX3_choice_2 1 rfl rfl)
theorem dX3_choice_50 : decode cX3_choice 50 = .ok (.new 191, 3) := dk_187 0 191 (dk_at dksX3_choice_2 4 rfl rfl)
theorem dX3_choice_53 : decode cX3_choice 53 = .ok (.dup, 1) := dk_89 (dk_at dksX3_choice_2 7 rfl rfl)
theorem dX3_choice_54 : decode cX3_choice 54 = .ok (.aload_n 1, 1) := dk_43 (dk_at dksX3_choice_2 8 rfl rfl)
theorem dX3_choice_55 : decode cX3_choice 55 = .ok (.aload_n 2, 1) := dk_44 (dk_at dksX3_choice_2 9 rfl rfl)
theorem dX3_choice_56 : decode cX3_choice 56 = .ok (.aload_n 3, 1) := dk_45 (dk_at dksX3_choice_2 10 rfl rfl)
theorem dX3_choice_57 : decode cX3_choice 57 = .ok (.invokespecial 193, 3) := dk_183 0 193 (dk_at dksX3_choice_2 11 rfl rfl)
theorem dX3_choice_60 : decode cX3_choice 60 = .ok (.areturn, 1) := dk_176 (dk_at dksX3_choice_2 14 rfl rfl)
abbrev cX3_opens : ByteArray := prog_16_method_9_code
def yX3_opens : MethodName := ⟨RX3, "opens", "()V"⟩
def dkwX3_opens_1 : List UInt8 := [181, 0, 77, 42, 182, 0, 74, 177]
abbrev dktX3_opens_1 : List UInt8 := dkwX3_opens_1 ++ []
def dkwX3_opens_0 : List UInt8 := [42, 180, 0, 77, 16, 8, 160, 0, 9, 42, 6, 182, 0, 70, 191, 42, 89, 180, 0, 77, 4, 96]
abbrev dktX3_opens_0 : List UInt8 := dkwX3_opens_0 ++ dktX3_opens_1
theorem dksX3_opens_0 : cX3_opens.data.toList.drop 0 = dktX3_opens_0 := by decide +kernel
theorem dksX3_opens_1 : cX3_opens.data.toList.drop 22 = dktX3_opens_1 := dk_seg dksX3_opens_0 22 rfl rfl
theorem dX3_opens_0 : decode cX3_opens 0 = .ok (.aload_n 0, 1) := dk_42 (dk_at dksX3_opens_0 0 rfl rfl)
theorem dX3_opens_1 : decode cX3_opens 1 = .ok (.getfield 77, 3) := dk_180 0 77 (dk_at dksX3_opens_0 1 rfl rfl)
theorem dX3_opens_4 : decode cX3_opens 4 = .ok (.bipush 8, 2) := dk_16 8 (dk_at dksX3_opens_0 4 rfl rfl)
theorem dX3_opens_6 : decode cX3_opens 6 = .ok (.if_icmp .ne 9, 3) := dk_160 0 9 (dk_at dksX3_opens_0 6 rfl rfl)
theorem dX3_opens_9 : decode cX3_opens 9 = .ok (.aload_n 0, 1) := dk_42 (dk_at dksX3_opens_0 9 rfl rfl)
theorem dX3_opens_10 : decode cX3_opens 10 = .ok (.iconst 3, 1) := dk_6 (dk_at dksX3_opens_0 10 rfl rfl)
theorem dX3_opens_11 : decode cX3_opens 11 = .ok (.invokevirtual 70, 3) := dk_182 0 70 (dk_at dksX3_opens_0 11 rfl rfl)
theorem dX3_opens_14 : decode cX3_opens 14 = .ok (.athrow, 1) := dk_191 (dk_at dksX3_opens_0 14 rfl rfl)
theorem dX3_opens_15 : decode cX3_opens 15 = .ok (.aload_n 0, 1) := dk_42 (dk_at dksX3_opens_0 15 rfl rfl)
theorem dX3_opens_16 : decode cX3_opens 16 = .ok (.dup, 1) := dk_89 (dk_at dksX3_opens_0 16 rfl rfl)
theorem dX3_opens_17 : decode cX3_opens 17 = .ok (.getfield 77, 3) := dk_180 0 77 (dk_at dksX3_opens_0 17 rfl rfl)
theorem dX3_opens_20 : decode cX3_opens 20 = .ok (.iconst 1, 1) := dk_4 (dk_at dksX3_opens_0 20 rfl rfl)
theorem dX3_opens_21 : decode cX3_opens 21 = .ok (.iadd, 1) := dk_96 (dk_at dksX3_opens_0 21 rfl rfl)
theorem dX3_opens_22 : decode cX3_opens 22 = .ok (.putfield 77, 3) := dk_181 0 77 (dk_at dksX3_opens_1 0 rfl rfl)
theorem dX3_opens_25 : decode cX3_opens 25 = .ok (.aload_n 0, 1) := dk_42 (dk_at dksX3_opens_1 3 rfl rfl)
theorem dX3_opens_26 : decode cX3_opens 26 = .ok (.invokevirtual 74, 3) := dk_182 0 74 (dk_at dksX3_opens_1 4 rfl rfl)
theorem dX3_opens_29 : decode cX3_opens 29 = .ok (.return_, 1) := dk_177 (dk_at dksX3_opens_1 7 rfl rfl)
abbrev cX3_either : ByteArray := prog_16_method_13_code
def yX3_either : MethodName := ⟨RX3, "either", "()LShaveOfAnother$Asked;"⟩
def dkwX3_either_2 : List UInt8 := [160, 0, 14, 43, 3, 182, 0, 132, 192, 0, 136, 167, 0, 12, 187, 0, 138, 89, 3, 43, 183, 0, 140, 176]
abbrev dktX3_either_2 : List UInt8 := dkwX3_either_2 ++ []
def dkwX3_either_1 : List UInt8 := [160, 0, 19, 42, 182, 0, 74, 43, 42, 182, 0, 126, 182, 0, 105, 87, 167, 255, 233, 43, 182, 0, 130, 4]
abbrev dktX3_either_1 : List UInt8 := dkwX3_either_1 ++ dktX3_either_2
def dkwX3_either_0 : List UInt8 := [187, 0, 106, 89, 183, 0, 125, 76, 43, 42, 182, 0, 126, 182, 0, 105, 87, 42, 180, 0, 25, 17, 0, 216]
abbrev dktX3_either_0 : List UInt8 := dkwX3_either_0 ++ dktX3_either_1
theorem dksX3_either_0 : cX3_either.data.toList.drop 0 = dktX3_either_0 := by decide +kernel
theorem dksX3_either_1 : cX3_either.data.toList.drop 24 = dktX3_either_1 := dk_seg dksX3_either_0 24 rfl rfl
theorem dksX3_either_2 : cX3_either.data.toList.drop 48 = dktX3_either_2 := dk_seg dksX3_either_1 24 rfl rfl
theorem dX3_either_0 : decode cX3_either 0 = .ok (.new 106, 3) := dk_187 0 106 (dk_at dksX3_either_0 0 rfl rfl)
theorem dX3_either_3 : decode cX3_either 3 = .ok (.dup, 1) := dk_89 (dk_at dksX3_either_0 3 rfl rfl)
theorem dX3_either_4 : decode cX3_either 4 = .ok (.invokespecial 125, 3) := dk_183 0 125 (dk_at dksX3_either_0 4 rfl rfl)
theorem dX3_either_7 : decode cX3_either 7 = .ok (.astore_n 1, 1) := dk_76 (dk_at dksX3_either_0 7 rfl rfl)
theorem dX3_either_8 : decode cX3_either 8 = .ok (.aload_n 1, 1) := dk_43 (dk_at dksX3_either_0 8 rfl rfl)
theorem dX3_either_9 : decode cX3_either 9 = .ok (.aload_n 0, 1) := dk_42 (dk_at dksX3_either_0 9 rfl rfl)
theorem dX3_either_10 : decode cX3_either 10 = .ok (.invokevirtual 126, 3) := dk_182 0 126 (dk_at dksX3_either_0 10 rfl rfl)
theorem dX3_either_13 : decode cX3_either 13 = .ok (.invokevirtual 105, 3) := dk_182 0 105 (dk_at dksX3_either_0 13 rfl rfl)
theorem dX3_either_16 : decode cX3_either 16 = .ok (.pop, 1) := dk_87 (dk_at dksX3_either_0 16 rfl rfl)
theorem dX3_either_17 : decode cX3_either 17 = .ok (.aload_n 0, 1) := dk_42 (dk_at dksX3_either_0 17 rfl rfl)
theorem dX3_either_18 : decode cX3_either 18 = .ok (.getfield 25, 3) := dk_180 0 25 (dk_at dksX3_either_0 18 rfl rfl)
theorem dX3_either_21 : decode cX3_either 21 = .ok (.sipush 216, 3) := dk_17 0 216 (dk_at dksX3_either_0 21 rfl rfl)
theorem dX3_either_24 : decode cX3_either 24 = .ok (.if_icmp .ne 19, 3) := dk_160 0 19 (dk_at dksX3_either_1 0 rfl rfl)
theorem dX3_either_27 : decode cX3_either 27 = .ok (.aload_n 0, 1) := dk_42 (dk_at dksX3_either_1 3 rfl rfl)
theorem dX3_either_28 : decode cX3_either 28 = .ok (.invokevirtual 74, 3) := dk_182 0 74 (dk_at dksX3_either_1 4 rfl rfl)
theorem dX3_either_31 : decode cX3_either 31 = .ok (.aload_n 1, 1) := dk_43 (dk_at dksX3_either_1 7 rfl rfl)
theorem dX3_either_32 : decode cX3_either 32 = .ok (.aload_n 0, 1) := dk_42 (dk_at dksX3_either_1 8 rfl rfl)
theorem dX3_either_33 : decode cX3_either 33 = .ok (.invokevirtual 126, 3) := dk_182 0 126 (dk_at dksX3_either_1 9 rfl rfl)
theorem dX3_either_36 : decode cX3_either 36 = .ok (.invokevirtual 105, 3) := dk_182 0 105 (dk_at dksX3_either_1 12 rfl rfl)
theorem dX3_either_39 : decode cX3_either 39 = .ok (.pop, 1) := dk_87 (dk_at dksX3_either_1 15 rfl rfl)
theorem dX3_either_40 : decode cX3_either 40 = .ok (.goto (-23), 3) := dk_167 255 233 (dk_at dksX3_either_1 16 rfl rfl)
theorem dX3_either_43 : decode cX3_either 43 = .ok (.aload_n 1, 1) := dk_43 (dk_at dksX3_either_1 19 rfl rfl)
theorem dX3_either_44 : decode cX3_either 44 = .ok (.invokevirtual 130, 3) := dk_182 0 130 (dk_at dksX3_either_1 20 rfl rfl)
theorem dX3_either_47 : decode cX3_either 47 = .ok (.iconst 1, 1) := dk_4 (dk_at dksX3_either_1 23 rfl rfl)
theorem dX3_either_48 : decode cX3_either 48 = .ok (.if_icmp .ne 14, 3) := dk_160 0 14 (dk_at dksX3_either_2 0 rfl rfl)
theorem dX3_either_51 : decode cX3_either 51 = .ok (.aload_n 1, 1) := dk_43 (dk_at dksX3_either_2 3 rfl rfl)
theorem dX3_either_52 : decode cX3_either 52 = .ok (.iconst 0, 1) := dk_3 (dk_at dksX3_either_2 4 rfl rfl)
theorem dX3_either_53 : decode cX3_either 53 = .ok (.invokevirtual 132, 3) := dk_182 0 132 (dk_at dksX3_either_2 5 rfl rfl)
theorem dX3_either_56 : decode cX3_either 56 = .ok (.checkcast 136, 3) := dk_192 0 136 (dk_at dksX3_either_2 8 rfl rfl)
theorem dX3_either_59 : decode cX3_either 59 = .ok (.goto 12, 3) := dk_167 0 12 (dk_at dksX3_either_2 11 rfl rfl)
theorem dX3_either_62 : decode cX3_either 62 = .ok (.new 138, 3) := dk_187 0 138 (dk_at dksX3_either_2 14 rfl rfl)
theorem dX3_either_65 : decode cX3_either 65 = .ok (.dup, 1) := dk_89 (dk_at dksX3_either_2 17 rfl rfl)
theorem dX3_either_66 : decode cX3_either 66 = .ok (.iconst 0, 1) := dk_3 (dk_at dksX3_either_2 18 rfl rfl)
theorem dX3_either_67 : decode cX3_either 67 = .ok (.aload_n 1, 1) := dk_43 (dk_at dksX3_either_2 19 rfl rfl)
theorem dX3_either_68 : decode cX3_either 68 = .ok (.invokespecial 140, 3) := dk_183 0 140 (dk_at dksX3_either_2 20 rfl rfl)
theorem dX3_either_71 : decode cX3_either 71 = .ok (.areturn, 1) := dk_176 (dk_at dksX3_either_2 23 rfl rfl)
abbrev cX3_both : ByteArray := prog_16_method_14_code
def yX3_both : MethodName := ⟨RX3, "both", "()LShaveOfAnother$Asked;"⟩
def dkwX3_both_2 : List UInt8 := [160, 0, 14, 43, 3, 182, 0, 132, 192, 0, 136, 167, 0, 12, 187, 0, 138, 89, 4, 43, 183, 0, 140, 176]
abbrev dktX3_both_2 : List UInt8 := dkwX3_both_2 ++ []
def dkwX3_both_1 : List UInt8 := [160, 0, 19, 42, 182, 0, 74, 43, 42, 182, 0, 143, 182, 0, 105, 87, 167, 255, 233, 43, 182, 0, 130, 4]
abbrev dktX3_both_1 : List UInt8 := dkwX3_both_1 ++ dktX3_both_2
def dkwX3_both_0 : List UInt8 := [187, 0, 106, 89, 183, 0, 125, 76, 43, 42, 182, 0, 143, 182, 0, 105, 87, 42, 180, 0, 25, 17, 0, 217]
abbrev dktX3_both_0 : List UInt8 := dkwX3_both_0 ++ dktX3_both_1
theorem dksX3_both_0 : cX3_both.data.toList.drop 0 = dktX3_both_0 := by decide +kernel
theorem dksX3_both_1 : cX3_both.data.toList.drop 24 = dktX3_both_1 := dk_seg dksX3_both_0 24 rfl rfl
theorem dksX3_both_2 : cX3_both.data.toList.drop 48 = dktX3_both_2 := dk_seg dksX3_both_1 24 rfl rfl
theorem dX3_both_0 : decode cX3_both 0 = .ok (.new 106, 3) := dk_187 0 106 (dk_at dksX3_both_0 0 rfl rfl)
theorem dX3_both_3 : decode cX3_both 3 = .ok (.dup, 1) := dk_89 (dk_at dksX3_both_0 3 rfl rfl)
theorem dX3_both_4 : decode cX3_both 4 = .ok (.invokespecial 125, 3) := dk_183 0 125 (dk_at dksX3_both_0 4 rfl rfl)
theorem dX3_both_7 : decode cX3_both 7 = .ok (.astore_n 1, 1) := dk_76 (dk_at dksX3_both_0 7 rfl rfl)
theorem dX3_both_8 : decode cX3_both 8 = .ok (.aload_n 1, 1) := dk_43 (dk_at dksX3_both_0 8 rfl rfl)
theorem dX3_both_9 : decode cX3_both 9 = .ok (.aload_n 0, 1) := dk_42 (dk_at dksX3_both_0 9 rfl rfl)
theorem dX3_both_10 : decode cX3_both 10 = .ok (.invokevirtual 143, 3) := dk_182 0 143 (dk_at dksX3_both_0 10 rfl rfl)
theorem dX3_both_13 : decode cX3_both 13 = .ok (.invokevirtual 105, 3) := dk_182 0 105 (dk_at dksX3_both_0 13 rfl rfl)
theorem dX3_both_16 : decode cX3_both 16 = .ok (.pop, 1) := dk_87 (dk_at dksX3_both_0 16 rfl rfl)
theorem dX3_both_17 : decode cX3_both 17 = .ok (.aload_n 0, 1) := dk_42 (dk_at dksX3_both_0 17 rfl rfl)
theorem dX3_both_18 : decode cX3_both 18 = .ok (.getfield 25, 3) := dk_180 0 25 (dk_at dksX3_both_0 18 rfl rfl)
theorem dX3_both_21 : decode cX3_both 21 = .ok (.sipush 217, 3) := dk_17 0 217 (dk_at dksX3_both_0 21 rfl rfl)
theorem dX3_both_24 : decode cX3_both 24 = .ok (.if_icmp .ne 19, 3) := dk_160 0 19 (dk_at dksX3_both_1 0 rfl rfl)
theorem dX3_both_27 : decode cX3_both 27 = .ok (.aload_n 0, 1) := dk_42 (dk_at dksX3_both_1 3 rfl rfl)
theorem dX3_both_28 : decode cX3_both 28 = .ok (.invokevirtual 74, 3) := dk_182 0 74 (dk_at dksX3_both_1 4 rfl rfl)
theorem dX3_both_31 : decode cX3_both 31 = .ok (.aload_n 1, 1) := dk_43 (dk_at dksX3_both_1 7 rfl rfl)
theorem dX3_both_32 : decode cX3_both 32 = .ok (.aload_n 0, 1) := dk_42 (dk_at dksX3_both_1 8 rfl rfl)
theorem dX3_both_33 : decode cX3_both 33 = .ok (.invokevirtual 143, 3) := dk_182 0 143 (dk_at dksX3_both_1 9 rfl rfl)
theorem dX3_both_36 : decode cX3_both 36 = .ok (.invokevirtual 105, 3) := dk_182 0 105 (dk_at dksX3_both_1 12 rfl rfl)
theorem dX3_both_39 : decode cX3_both 39 = .ok (.pop, 1) := dk_87 (dk_at dksX3_both_1 15 rfl rfl)
theorem dX3_both_40 : decode cX3_both 40 = .ok (.goto (-23), 3) := dk_167 255 233 (dk_at dksX3_both_1 16 rfl rfl)
theorem dX3_both_43 : decode cX3_both 43 = .ok (.aload_n 1, 1) := dk_43 (dk_at dksX3_both_1 19 rfl rfl)
theorem dX3_both_44 : decode cX3_both 44 = .ok (.invokevirtual 130, 3) := dk_182 0 130 (dk_at dksX3_both_1 20 rfl rfl)
theorem dX3_both_47 : decode cX3_both 47 = .ok (.iconst 1, 1) := dk_4 (dk_at dksX3_both_1 23 rfl rfl)
theorem dX3_both_48 : decode cX3_both 48 = .ok (.if_icmp .ne 14, 3) := dk_160 0 14 (dk_at dksX3_both_2 0 rfl rfl)
theorem dX3_both_51 : decode cX3_both 51 = .ok (.aload_n 1, 1) := dk_43 (dk_at dksX3_both_2 3 rfl rfl)
theorem dX3_both_52 : decode cX3_both 52 = .ok (.iconst 0, 1) := dk_3 (dk_at dksX3_both_2 4 rfl rfl)
theorem dX3_both_53 : decode cX3_both 53 = .ok (.invokevirtual 132, 3) := dk_182 0 132 (dk_at dksX3_both_2 5 rfl rfl)
theorem dX3_both_56 : decode cX3_both 56 = .ok (.checkcast 136, 3) := dk_192 0 136 (dk_at dksX3_both_2 8 rfl rfl)
theorem dX3_both_59 : decode cX3_both 59 = .ok (.goto 12, 3) := dk_167 0 12 (dk_at dksX3_both_2 11 rfl rfl)
theorem dX3_both_62 : decode cX3_both 62 = .ok (.new 138, 3) := dk_187 0 138 (dk_at dksX3_both_2 14 rfl rfl)
theorem dX3_both_65 : decode cX3_both 65 = .ok (.dup, 1) := dk_89 (dk_at dksX3_both_2 17 rfl rfl)
theorem dX3_both_66 : decode cX3_both 66 = .ok (.iconst 1, 1) := dk_4 (dk_at dksX3_both_2 18 rfl rfl)
theorem dX3_both_67 : decode cX3_both 67 = .ok (.aload_n 1, 1) := dk_43 (dk_at dksX3_both_2 19 rfl rfl)
theorem dX3_both_68 : decode cX3_both 68 = .ok (.invokespecial 140, 3) := dk_183 0 140 (dk_at dksX3_both_2 20 rfl rfl)
theorem dX3_both_71 : decode cX3_both 71 = .ok (.areturn, 1) := dk_176 (dk_at dksX3_both_2 23 rfl rfl)
abbrev cX3_ask : ByteArray := prog_16_method_15_code
def yX3_ask : MethodName := ⟨RX3, "ask", "()LShaveOfAnother$Asked;"⟩
def dkwX3_ask_4 : List UInt8 := [191, 42, 182, 0, 74, 187, 0, 154, 89, 28, 43, 42, 182, 0, 93, 183, 0, 156, 176]
abbrev dktX3_ask_4 : List UInt8 := dkwX3_ask_4 ++ []
def dkwX3_ask_3 : List UInt8 := [16, 35, 159, 0, 23, 28, 17, 1, 47, 159, 0, 16, 28, 17, 1, 48, 159, 0, 9, 42, 4, 182, 0, 70]
abbrev dktX3_ask_3 : List UInt8 := dkwX3_ask_3 ++ dktX3_ask_4
def dkwX3_ask_2 : List UInt8 := [180, 0, 25, 61, 28, 16, 60, 159, 0, 41, 28, 16, 62, 159, 0, 35, 28, 16, 61, 159, 0, 29, 28]
abbrev dktX3_ask_2 : List UInt8 := dkwX3_ask_2 ++ dktX3_ask_3
def dkwX3_ask_1 : List UInt8 := [183, 0, 151, 76, 42, 89, 180, 0, 77, 4, 100, 181, 0, 77, 43, 176, 42, 182, 0, 93, 76, 42]
abbrev dktX3_ask_1 : List UInt8 := dkwX3_ask_1 ++ dktX3_ask_2
def dkwX3_ask_0 : List UInt8 := [42, 180, 0, 25, 17, 0, 218, 160, 0, 31, 42, 182, 0, 146, 187, 0, 149, 89, 42, 182, 0, 143]
abbrev dktX3_ask_0 : List UInt8 := dkwX3_ask_0 ++ dktX3_ask_1
theorem dksX3_ask_0 : cX3_ask.data.toList.drop 0 = dktX3_ask_0 := by decide +kernel
theorem dksX3_ask_1 : cX3_ask.data.toList.drop 22 = dktX3_ask_1 := dk_seg dksX3_ask_0 22 rfl rfl
theorem dksX3_ask_2 : cX3_ask.data.toList.drop 44 = dktX3_ask_2 := dk_seg dksX3_ask_1 22 rfl rfl
theorem dksX3_ask_3 : cX3_ask.data.toList.drop 67 = dktX3_ask_3 := dk_seg dksX3_ask_2 23 rfl rfl
theorem dksX3_ask_4 : cX3_ask.data.toList.drop 91 = dktX3_ask_4 := dk_seg dksX3_ask_3 24 rfl rfl
theorem dX3_ask_0 : decode cX3_ask 0 = .ok (.aload_n 0, 1) := dk_42 (dk_at dksX3_ask_0 0 rfl rfl)
theorem dX3_ask_1 : decode cX3_ask 1 = .ok (.getfield 25, 3) := dk_180 0 25 (dk_at dksX3_ask_0 1 rfl rfl)
theorem dX3_ask_4 : decode cX3_ask 4 = .ok (.sipush 218, 3) := dk_17 0 218 (dk_at dksX3_ask_0 4 rfl rfl)
theorem dX3_ask_7 : decode cX3_ask 7 = .ok (.if_icmp .ne 31, 3) := dk_160 0 31 (dk_at dksX3_ask_0 7 rfl rfl)
theorem dX3_ask_10 : decode cX3_ask 10 = .ok (.aload_n 0, 1) := dk_42 (dk_at dksX3_ask_0 10 rfl rfl)
theorem dX3_ask_11 : decode cX3_ask 11 = .ok (.invokevirtual 146, 3) := dk_182 0 146 (dk_at dksX3_ask_0 11 rfl rfl)
theorem dX3_ask_14 : decode cX3_ask 14 = .ok (.new 149, 3) := dk_187 0 149 (dk_at dksX3_ask_0 14 rfl rfl)
theorem dX3_ask_17 : decode cX3_ask 17 = .ok (.dup, 1) := dk_89 (dk_at dksX3_ask_0 17 rfl rfl)
theorem dX3_ask_18 : decode cX3_ask 18 = .ok (.aload_n 0, 1) := dk_42 (dk_at dksX3_ask_0 18 rfl rfl)
theorem dX3_ask_19 : decode cX3_ask 19 = .ok (.invokevirtual 143, 3) := dk_182 0 143 (dk_at dksX3_ask_0 19 rfl rfl)
theorem dX3_ask_22 : decode cX3_ask 22 = .ok (.invokespecial 151, 3) := dk_183 0 151 (dk_at dksX3_ask_1 0 rfl rfl)
theorem dX3_ask_25 : decode cX3_ask 25 = .ok (.astore_n 1, 1) := dk_76 (dk_at dksX3_ask_1 3 rfl rfl)
theorem dX3_ask_26 : decode cX3_ask 26 = .ok (.aload_n 0, 1) := dk_42 (dk_at dksX3_ask_1 4 rfl rfl)
theorem dX3_ask_27 : decode cX3_ask 27 = .ok (.dup, 1) := dk_89 (dk_at dksX3_ask_1 5 rfl rfl)
theorem dX3_ask_28 : decode cX3_ask 28 = .ok (.getfield 77, 3) := dk_180 0 77 (dk_at dksX3_ask_1 6 rfl rfl)
theorem dX3_ask_31 : decode cX3_ask 31 = .ok (.iconst 1, 1) := dk_4 (dk_at dksX3_ask_1 9 rfl rfl)
theorem dX3_ask_32 : decode cX3_ask 32 = .ok (.isub, 1) := dk_100 (dk_at dksX3_ask_1 10 rfl rfl)
theorem dX3_ask_33 : decode cX3_ask 33 = .ok (.putfield 77, 3) := dk_181 0 77 (dk_at dksX3_ask_1 11 rfl rfl)
theorem dX3_ask_36 : decode cX3_ask 36 = .ok (.aload_n 1, 1) := dk_43 (dk_at dksX3_ask_1 14 rfl rfl)
theorem dX3_ask_37 : decode cX3_ask 37 = .ok (.areturn, 1) := dk_176 (dk_at dksX3_ask_1 15 rfl rfl)
theorem dX3_ask_38 : decode cX3_ask 38 = .ok (.aload_n 0, 1) := dk_42 (dk_at dksX3_ask_1 16 rfl rfl)
theorem dX3_ask_39 : decode cX3_ask 39 = .ok (.invokevirtual 93, 3) := dk_182 0 93 (dk_at dksX3_ask_1 17 rfl rfl)
theorem dX3_ask_42 : decode cX3_ask 42 = .ok (.astore_n 1, 1) := dk_76 (dk_at dksX3_ask_1 20 rfl rfl)
theorem dX3_ask_43 : decode cX3_ask 43 = .ok (.aload_n 0, 1) := dk_42 (dk_at dksX3_ask_1 21 rfl rfl)
theorem dX3_ask_44 : decode cX3_ask 44 = .ok (.getfield 25, 3) := dk_180 0 25 (dk_at dksX3_ask_2 0 rfl rfl)
theorem dX3_ask_47 : decode cX3_ask 47 = .ok (.istore_n 2, 1) := dk_61 (dk_at dksX3_ask_2 3 rfl rfl)
theorem dX3_ask_48 : decode cX3_ask 48 = .ok (.iload_n 2, 1) := dk_28 (dk_at dksX3_ask_2 4 rfl rfl)
theorem dX3_ask_49 : decode cX3_ask 49 = .ok (.bipush 60, 2) := dk_16 60 (dk_at dksX3_ask_2 5 rfl rfl)
theorem dX3_ask_51 : decode cX3_ask 51 = .ok (.if_icmp .eq 41, 3) := dk_159 0 41 (dk_at dksX3_ask_2 7 rfl rfl)
theorem dX3_ask_54 : decode cX3_ask 54 = .ok (.iload_n 2, 1) := dk_28 (dk_at dksX3_ask_2 10 rfl rfl)
theorem dX3_ask_55 : decode cX3_ask 55 = .ok (.bipush 62, 2) := dk_16 62 (dk_at dksX3_ask_2 11 rfl rfl)
theorem dX3_ask_57 : decode cX3_ask 57 = .ok (.if_icmp .eq 35, 3) := dk_159 0 35 (dk_at dksX3_ask_2 13 rfl rfl)
theorem dX3_ask_60 : decode cX3_ask 60 = .ok (.iload_n 2, 1) := dk_28 (dk_at dksX3_ask_2 16 rfl rfl)
theorem dX3_ask_61 : decode cX3_ask 61 = .ok (.bipush 61, 2) := dk_16 61 (dk_at dksX3_ask_2 17 rfl rfl)
theorem dX3_ask_63 : decode cX3_ask 63 = .ok (.if_icmp .eq 29, 3) := dk_159 0 29 (dk_at dksX3_ask_2 19 rfl rfl)
theorem dX3_ask_66 : decode cX3_ask 66 = .ok (.iload_n 2, 1) := dk_28 (dk_at dksX3_ask_2 22 rfl rfl)
theorem dX3_ask_67 : decode cX3_ask 67 = .ok (.bipush 35, 2) := dk_16 35 (dk_at dksX3_ask_3 0 rfl rfl)
theorem dX3_ask_69 : decode cX3_ask 69 = .ok (.if_icmp .eq 23, 3) := dk_159 0 23 (dk_at dksX3_ask_3 2 rfl rfl)
theorem dX3_ask_72 : decode cX3_ask 72 = .ok (.iload_n 2, 1) := dk_28 (dk_at dksX3_ask_3 5 rfl rfl)
theorem dX3_ask_73 : decode cX3_ask 73 = .ok (.sipush 303, 3) := dk_17 1 47 (dk_at dksX3_ask_3 6 rfl rfl)
theorem dX3_ask_76 : decode cX3_ask 76 = .ok (.if_icmp .eq 16, 3) := dk_159 0 16 (dk_at dksX3_ask_3 9 rfl rfl)
theorem dX3_ask_79 : decode cX3_ask 79 = .ok (.iload_n 2, 1) := dk_28 (dk_at dksX3_ask_3 12 rfl rfl)
theorem dX3_ask_80 : decode cX3_ask 80 = .ok (.sipush 304, 3) := dk_17 1 48 (dk_at dksX3_ask_3 13 rfl rfl)
theorem dX3_ask_83 : decode cX3_ask 83 = .ok (.if_icmp .eq 9, 3) := dk_159 0 9 (dk_at dksX3_ask_3 16 rfl rfl)
theorem dX3_ask_86 : decode cX3_ask 86 = .ok (.aload_n 0, 1) := dk_42 (dk_at dksX3_ask_3 19 rfl rfl)
theorem dX3_ask_87 : decode cX3_ask 87 = .ok (.iconst 1, 1) := dk_4 (dk_at dksX3_ask_3 20 rfl rfl)
theorem dX3_ask_88 : decode cX3_ask 88 = .ok (.invokevirtual 70, 3) := dk_182 0 70 (dk_at dksX3_ask_3 21 rfl rfl)
theorem dX3_ask_91 : decode cX3_ask 91 = .ok (.athrow, 1) := dk_191 (dk_at dksX3_ask_4 0 rfl rfl)
theorem dX3_ask_92 : decode cX3_ask 92 = .ok (.aload_n 0, 1) := dk_42 (dk_at dksX3_ask_4 1 rfl rfl)
theorem dX3_ask_93 : decode cX3_ask 93 = .ok (.invokevirtual 74, 3) := dk_182 0 74 (dk_at dksX3_ask_4 2 rfl rfl)
theorem dX3_ask_96 : decode cX3_ask 96 = .ok (.new 154, 3) := dk_187 0 154 (dk_at dksX3_ask_4 5 rfl rfl)
theorem dX3_ask_99 : decode cX3_ask 99 = .ok (.dup, 1) := dk_89 (dk_at dksX3_ask_4 8 rfl rfl)
theorem dX3_ask_100 : decode cX3_ask 100 = .ok (.iload_n 2, 1) := dk_28 (dk_at dksX3_ask_4 9 rfl rfl)
theorem dX3_ask_101 : decode cX3_ask 101 = .ok (.aload_n 1, 1) := dk_43 (dk_at dksX3_ask_4 10 rfl rfl)
theorem dX3_ask_102 : decode cX3_ask 102 = .ok (.aload_n 0, 1) := dk_42 (dk_at dksX3_ask_4 11 rfl rfl)
theorem dX3_ask_103 : decode cX3_ask 103 = .ok (.invokevirtual 93, 3) := dk_182 0 93 (dk_at dksX3_ask_4 12 rfl rfl)
theorem dX3_ask_106 : decode cX3_ask 106 = .ok (.invokespecial 156, 3) := dk_183 0 156 (dk_at dksX3_ask_4 15 rfl rfl)
theorem dX3_ask_109 : decode cX3_ask 109 = .ok (.areturn, 1) := dk_176 (dk_at dksX3_ask_4 18 rfl rfl)
abbrev cX3_want : ByteArray := prog_16_method_7_code
def yX3_want : MethodName := ⟨RX3, "want", "(I)V"⟩
def dkwX3_want_0 : List UInt8 := [42, 180, 0, 25, 27, 159, 0, 9, 42, 4, 182, 0, 70, 191, 42, 182, 0, 74, 177]
abbrev dktX3_want_0 : List UInt8 := dkwX3_want_0 ++ []
theorem dksX3_want_0 : cX3_want.data.toList.drop 0 = dktX3_want_0 := by decide +kernel
theorem dX3_want_0 : decode cX3_want 0 = .ok (.aload_n 0, 1) := dk_42 (dk_at dksX3_want_0 0 rfl rfl)
theorem dX3_want_1 : decode cX3_want 1 = .ok (.getfield 25, 3) := dk_180 0 25 (dk_at dksX3_want_0 1 rfl rfl)
theorem dX3_want_4 : decode cX3_want 4 = .ok (.iload_n 1, 1) := dk_27 (dk_at dksX3_want_0 4 rfl rfl)
theorem dX3_want_5 : decode cX3_want 5 = .ok (.if_icmp .eq 9, 3) := dk_159 0 9 (dk_at dksX3_want_0 5 rfl rfl)
theorem dX3_want_8 : decode cX3_want 8 = .ok (.aload_n 0, 1) := dk_42 (dk_at dksX3_want_0 8 rfl rfl)
theorem dX3_want_9 : decode cX3_want 9 = .ok (.iconst 1, 1) := dk_4 (dk_at dksX3_want_0 9 rfl rfl)
theorem dX3_want_10 : decode cX3_want 10 = .ok (.invokevirtual 70, 3) := dk_182 0 70 (dk_at dksX3_want_0 10 rfl rfl)
theorem dX3_want_13 : decode cX3_want 13 = .ok (.athrow, 1) := dk_191 (dk_at dksX3_want_0 13 rfl rfl)
theorem dX3_want_14 : decode cX3_want 14 = .ok (.aload_n 0, 1) := dk_42 (dk_at dksX3_want_0 14 rfl rfl)
theorem dX3_want_15 : decode cX3_want 15 = .ok (.invokevirtual 74, 3) := dk_182 0 74 (dk_at dksX3_want_0 15 rfl rfl)
theorem dX3_want_18 : decode cX3_want 18 = .ok (.return_, 1) := dk_177 (dk_at dksX3_want_0 18 rfl rfl)
abbrev cX3_after : ByteArray := prog_16_method_21_code
def yX3_after : MethodName := ⟨RX3, "after", "()LShaveOfAnother$Sum;"⟩
def dkwX3_after_1 : List UInt8 := [180, 0, 77, 4, 100, 181, 0, 77, 187, 0, 183, 89, 43, 44, 183, 0, 185, 176]
abbrev dktX3_after_1 : List UInt8 := dkwX3_after_1 ++ []
def dkwX3_after_0 : List UInt8 := [42, 182, 0, 146, 42, 182, 0, 176, 76, 42, 17, 0, 211, 182, 0, 111, 42, 182, 0, 176, 77, 42, 89]
abbrev dktX3_after_0 : List UInt8 := dkwX3_after_0 ++ dktX3_after_1
theorem dksX3_after_0 : cX3_after.data.toList.drop 0 = dktX3_after_0 := by decide +kernel
theorem dksX3_after_1 : cX3_after.data.toList.drop 23 = dktX3_after_1 := dk_seg dksX3_after_0 23 rfl rfl
theorem dX3_after_0 : decode cX3_after 0 = .ok (.aload_n 0, 1) := dk_42 (dk_at dksX3_after_0 0 rfl rfl)
theorem dX3_after_1 : decode cX3_after 1 = .ok (.invokevirtual 146, 3) := dk_182 0 146 (dk_at dksX3_after_0 1 rfl rfl)
theorem dX3_after_4 : decode cX3_after 4 = .ok (.aload_n 0, 1) := dk_42 (dk_at dksX3_after_0 4 rfl rfl)
theorem dX3_after_5 : decode cX3_after 5 = .ok (.invokevirtual 176, 3) := dk_182 0 176 (dk_at dksX3_after_0 5 rfl rfl)
theorem dX3_after_8 : decode cX3_after 8 = .ok (.astore_n 1, 1) := dk_76 (dk_at dksX3_after_0 8 rfl rfl)
theorem dX3_after_9 : decode cX3_after 9 = .ok (.aload_n 0, 1) := dk_42 (dk_at dksX3_after_0 9 rfl rfl)
theorem dX3_after_10 : decode cX3_after 10 = .ok (.sipush 211, 3) := dk_17 0 211 (dk_at dksX3_after_0 10 rfl rfl)
theorem dX3_after_13 : decode cX3_after 13 = .ok (.invokevirtual 111, 3) := dk_182 0 111 (dk_at dksX3_after_0 13 rfl rfl)
theorem dX3_after_16 : decode cX3_after 16 = .ok (.aload_n 0, 1) := dk_42 (dk_at dksX3_after_0 16 rfl rfl)
theorem dX3_after_17 : decode cX3_after 17 = .ok (.invokevirtual 176, 3) := dk_182 0 176 (dk_at dksX3_after_0 17 rfl rfl)
theorem dX3_after_20 : decode cX3_after 20 = .ok (.astore_n 2, 1) := dk_77 (dk_at dksX3_after_0 20 rfl rfl)
theorem dX3_after_21 : decode cX3_after 21 = .ok (.aload_n 0, 1) := dk_42 (dk_at dksX3_after_0 21 rfl rfl)
theorem dX3_after_22 : decode cX3_after 22 = .ok (.dup, 1) := dk_89 (dk_at dksX3_after_0 22 rfl rfl)
theorem dX3_after_23 : decode cX3_after 23 = .ok (.getfield 77, 3) := dk_180 0 77 (dk_at dksX3_after_1 0 rfl rfl)
theorem dX3_after_26 : decode cX3_after 26 = .ok (.iconst 1, 1) := dk_4 (dk_at dksX3_after_1 3 rfl rfl)
theorem dX3_after_27 : decode cX3_after 27 = .ok (.isub, 1) := dk_100 (dk_at dksX3_after_1 4 rfl rfl)
theorem dX3_after_28 : decode cX3_after 28 = .ok (.putfield 77, 3) := dk_181 0 77 (dk_at dksX3_after_1 5 rfl rfl)
theorem dX3_after_31 : decode cX3_after 31 = .ok (.new 183, 3) := dk_187 0 183 (dk_at dksX3_after_1 8 rfl rfl)
theorem dX3_after_34 : decode cX3_after 34 = .ok (.dup, 1) := dk_89 (dk_at dksX3_after_1 11 rfl rfl)
theorem dX3_after_35 : decode cX3_after 35 = .ok (.aload_n 1, 1) := dk_43 (dk_at dksX3_after_1 12 rfl rfl)
theorem dX3_after_36 : decode cX3_after 36 = .ok (.aload_n 2, 1) := dk_44 (dk_at dksX3_after_1 13 rfl rfl)
theorem dX3_after_37 : decode cX3_after 37 = .ok (.invokespecial 185, 3) := dk_183 0 185 (dk_at dksX3_after_1 14 rfl rfl)
theorem dX3_after_40 : decode cX3_after 40 = .ok (.areturn, 1) := dk_176 (dk_at dksX3_after_1 17 rfl rfl)
abbrev cX3_nameNow : ByteArray := prog_16_method_19_code
def yX3_nameNow : MethodName := ⟨RX3, "nameNow", "()I"⟩
def dkwX3_nameNow_1 : List UInt8 := [132, 1, 1, 167, 255, 231, 2, 172]
abbrev dktX3_nameNow_1 : List UInt8 := dkwX3_nameNow_1 ++ []
def dkwX3_nameNow_0 : List UInt8 := [3, 60, 27, 178, 0, 179, 190, 162, 0, 23, 178, 0, 179, 27, 46, 42, 180, 0, 25, 160, 0, 5, 27, 172]
abbrev dktX3_nameNow_0 : List UInt8 := dkwX3_nameNow_0 ++ dktX3_nameNow_1
theorem dksX3_nameNow_0 : cX3_nameNow.data.toList.drop 0 = dktX3_nameNow_0 := by decide +kernel
theorem dksX3_nameNow_1 : cX3_nameNow.data.toList.drop 24 = dktX3_nameNow_1 := dk_seg dksX3_nameNow_0 24 rfl rfl
theorem dX3_nameNow_0 : decode cX3_nameNow 0 = .ok (.iconst 0, 1) := dk_3 (dk_at dksX3_nameNow_0 0 rfl rfl)
theorem dX3_nameNow_1 : decode cX3_nameNow 1 = .ok (.istore_n 1, 1) := dk_60 (dk_at dksX3_nameNow_0 1 rfl rfl)
theorem dX3_nameNow_2 : decode cX3_nameNow 2 = .ok (.iload_n 1, 1) := dk_27 (dk_at dksX3_nameNow_0 2 rfl rfl)
theorem dX3_nameNow_3 : decode cX3_nameNow 3 = .ok (.getstatic 179, 3) := dk_178 0 179 (dk_at dksX3_nameNow_0 3 rfl rfl)
theorem dX3_nameNow_6 : decode cX3_nameNow 6 = .ok (.arraylength, 1) := dk_190 (dk_at dksX3_nameNow_0 6 rfl rfl)
theorem dX3_nameNow_7 : decode cX3_nameNow 7 = .ok (.if_icmp .ge 23, 3) := dk_162 0 23 (dk_at dksX3_nameNow_0 7 rfl rfl)
theorem dX3_nameNow_10 : decode cX3_nameNow 10 = .ok (.getstatic 179, 3) := dk_178 0 179 (dk_at dksX3_nameNow_0 10 rfl rfl)
theorem dX3_nameNow_13 : decode cX3_nameNow 13 = .ok (.iload_n 1, 1) := dk_27 (dk_at dksX3_nameNow_0 13 rfl rfl)
theorem dX3_nameNow_14 : decode cX3_nameNow 14 = .ok (.iaload, 1) := dk_46 (dk_at dksX3_nameNow_0 14 rfl rfl)
theorem dX3_nameNow_15 : decode cX3_nameNow 15 = .ok (.aload_n 0, 1) := dk_42 (dk_at dksX3_nameNow_0 15 rfl rfl)
theorem dX3_nameNow_16 : decode cX3_nameNow 16 = .ok (.getfield 25, 3) := dk_180 0 25 (dk_at dksX3_nameNow_0 16 rfl rfl)
theorem dX3_nameNow_19 : decode cX3_nameNow 19 = .ok (.if_icmp .ne 5, 3) := dk_160 0 5 (dk_at dksX3_nameNow_0 19 rfl rfl)
theorem dX3_nameNow_22 : decode cX3_nameNow 22 = .ok (.iload_n 1, 1) := dk_27 (dk_at dksX3_nameNow_0 22 rfl rfl)
theorem dX3_nameNow_23 : decode cX3_nameNow 23 = .ok (.ireturn, 1) := dk_172 (dk_at dksX3_nameNow_0 23 rfl rfl)
theorem dX3_nameNow_24 : decode cX3_nameNow 24 = .ok (.iinc 1 1, 3) := dk_132 1 1 (dk_at dksX3_nameNow_1 0 rfl rfl)
theorem dX3_nameNow_27 : decode cX3_nameNow 27 = .ok (.goto (-25), 3) := dk_167 255 231 (dk_at dksX3_nameNow_1 3 rfl rfl)
theorem dX3_nameNow_30 : decode cX3_nameNow 30 = .ok (.iconst (-1), 1) := dk_2 (dk_at dksX3_nameNow_1 6 rfl rfl)
theorem dX3_nameNow_31 : decode cX3_nameNow 31 = .ok (.ireturn, 1) := dk_172 (dk_at dksX3_nameNow_1 7 rfl rfl)
abbrev cX3_mayName : ByteArray := prog_16_method_20_code
def yX3_mayName : MethodName := ⟨RX3, "mayName", "(I)Z"⟩
def dkwX3_mayName_1 : List UInt8 := [160, 0, 7, 4, 167, 0, 4, 3, 160, 0, 7, 4, 167, 0, 4, 3, 172]
abbrev dktX3_mayName_1 : List UInt8 := dkwX3_mayName_1 ++ []
def dkwX3_mayName_0 : List UInt8 := [27, 8, 161, 0, 32, 27, 16, 6, 160, 0, 7, 4, 167, 0, 4, 3, 42, 180, 0, 83, 17, 0, 202]
abbrev dktX3_mayName_0 : List UInt8 := dkwX3_mayName_0 ++ dktX3_mayName_1
theorem dksX3_mayName_0 : cX3_mayName.data.toList.drop 0 = dktX3_mayName_0 := by decide +kernel
theorem dksX3_mayName_1 : cX3_mayName.data.toList.drop 23 = dktX3_mayName_1 := dk_seg dksX3_mayName_0 23 rfl rfl
theorem dX3_mayName_0 : decode cX3_mayName 0 = .ok (.iload_n 1, 1) := dk_27 (dk_at dksX3_mayName_0 0 rfl rfl)
theorem dX3_mayName_1 : decode cX3_mayName 1 = .ok (.iconst 5, 1) := dk_8 (dk_at dksX3_mayName_0 1 rfl rfl)
theorem dX3_mayName_2 : decode cX3_mayName 2 = .ok (.if_icmp .lt 32, 3) := dk_161 0 32 (dk_at dksX3_mayName_0 2 rfl rfl)
theorem dX3_mayName_5 : decode cX3_mayName 5 = .ok (.iload_n 1, 1) := dk_27 (dk_at dksX3_mayName_0 5 rfl rfl)
theorem dX3_mayName_6 : decode cX3_mayName 6 = .ok (.bipush 6, 2) := dk_16 6 (dk_at dksX3_mayName_0 6 rfl rfl)
theorem dX3_mayName_8 : decode cX3_mayName 8 = .ok (.if_icmp .ne 7, 3) := dk_160 0 7 (dk_at dksX3_mayName_0 8 rfl rfl)
theorem dX3_mayName_11 : decode cX3_mayName 11 = .ok (.iconst 1, 1) := dk_4 (dk_at dksX3_mayName_0 11 rfl rfl)
theorem dX3_mayName_12 : decode cX3_mayName 12 = .ok (.goto 4, 3) := dk_167 0 4 (dk_at dksX3_mayName_0 12 rfl rfl)
theorem dX3_mayName_15 : decode cX3_mayName 15 = .ok (.iconst 0, 1) := dk_3 (dk_at dksX3_mayName_0 15 rfl rfl)
theorem dX3_mayName_16 : decode cX3_mayName 16 = .ok (.aload_n 0, 1) := dk_42 (dk_at dksX3_mayName_0 16 rfl rfl)
theorem dX3_mayName_17 : decode cX3_mayName 17 = .ok (.getfield 83, 3) := dk_180 0 83 (dk_at dksX3_mayName_0 17 rfl rfl)
theorem dX3_mayName_20 : decode cX3_mayName 20 = .ok (.sipush 202, 3) := dk_17 0 202 (dk_at dksX3_mayName_0 20 rfl rfl)
theorem dX3_mayName_23 : decode cX3_mayName 23 = .ok (.if_icmp .ne 7, 3) := dk_160 0 7 (dk_at dksX3_mayName_1 0 rfl rfl)
theorem dX3_mayName_26 : decode cX3_mayName 26 = .ok (.iconst 1, 1) := dk_4 (dk_at dksX3_mayName_1 3 rfl rfl)
theorem dX3_mayName_27 : decode cX3_mayName 27 = .ok (.goto 4, 3) := dk_167 0 4 (dk_at dksX3_mayName_1 4 rfl rfl)
theorem dX3_mayName_30 : decode cX3_mayName 30 = .ok (.iconst 0, 1) := dk_3 (dk_at dksX3_mayName_1 7 rfl rfl)
theorem dX3_mayName_31 : decode cX3_mayName 31 = .ok (.if_icmp .ne 7, 3) := dk_160 0 7 (dk_at dksX3_mayName_1 8 rfl rfl)
theorem dX3_mayName_34 : decode cX3_mayName 34 = .ok (.iconst 1, 1) := dk_4 (dk_at dksX3_mayName_1 11 rfl rfl)
theorem dX3_mayName_35 : decode cX3_mayName 35 = .ok (.goto 4, 3) := dk_167 0 4 (dk_at dksX3_mayName_1 12 rfl rfl)
theorem dX3_mayName_38 : decode cX3_mayName 38 = .ok (.iconst 0, 1) := dk_3 (dk_at dksX3_mayName_1 15 rfl rfl)
theorem dX3_mayName_39 : decode cX3_mayName 39 = .ok (.ireturn, 1) := dk_172 (dk_at dksX3_mayName_1 16 rfl rfl)
abbrev cX3_doing : ByteArray := prog_16_method_12_code
def yX3_doing : MethodName := ⟨RX3, "doing", "(I)LShaveOfAnother$Doing;"⟩
def dkwX3_doing_6 : List UInt8 := [182, 0, 115, 2, 27, 183, 0, 122, 176]
abbrev dktX3_doing_6 : List UInt8 := dkwX3_doing_6 ++ []
def dkwX3_doing_5 : List UInt8 := [4, 16, 60, 182, 0, 115, 2, 27, 183, 0, 122, 176, 187, 0, 117, 89, 42, 180, 0, 83, 42, 3, 16, 7]
abbrev dktX3_doing_5 : List UInt8 := dkwX3_doing_5 ++ dktX3_doing_6
def dkwX3_doing_4 : List UInt8 := [28, 42, 17, 0, 209, 16, 7, 182, 0, 119, 27, 183, 0, 122, 176, 187, 0, 117, 89, 42, 180, 0, 83, 42]
abbrev dktX3_doing_4 : List UInt8 := dkwX3_doing_4 ++ dktX3_doing_5
def dkwX3_doing_3 : List UInt8 := [182, 0, 119, 27, 183, 0, 122, 176, 42, 3, 16, 7, 182, 0, 115, 61, 187, 0, 117, 89, 42, 180, 0, 83]
abbrev dktX3_doing_3 : List UInt8 := dkwX3_doing_3 ++ dktX3_doing_4
def dkwX3_doing_2 : List UInt8 := [42, 3, 16, 99, 182, 0, 115, 61, 187, 0, 117, 89, 42, 180, 0, 83, 28, 42, 17, 0, 208, 16, 9]
abbrev dktX3_doing_2 : List UInt8 := dkwX3_doing_2 ++ dktX3_doing_3
def dkwX3_doing_1 : List UInt8 := [170, 0, 0, 0, 0, 0, 0, 119, 0, 0, 0, 203, 0, 0, 0, 207, 0, 0, 0, 36, 0, 0, 0, 67, 0, 0, 0, 119, 0, 0, 0, 119, 0, 0, 0, 98]
abbrev dktX3_doing_1 : List UInt8 := dkwX3_doing_1 ++ dktX3_doing_2
def dkwX3_doing_0 : List UInt8 := [42, 180, 0, 83]
abbrev dktX3_doing_0 : List UInt8 := dkwX3_doing_0 ++ dktX3_doing_1
theorem dksX3_doing_0 : cX3_doing.data.toList.drop 0 = dktX3_doing_0 := by decide +kernel
theorem dksX3_doing_1 : cX3_doing.data.toList.drop 4 = dktX3_doing_1 := dk_seg dksX3_doing_0 4 rfl rfl
theorem dksX3_doing_2 : cX3_doing.data.toList.drop 40 = dktX3_doing_2 := dk_seg dksX3_doing_1 36 rfl rfl
theorem dksX3_doing_3 : cX3_doing.data.toList.drop 63 = dktX3_doing_3 := dk_seg dksX3_doing_2 23 rfl rfl
theorem dksX3_doing_4 : cX3_doing.data.toList.drop 87 = dktX3_doing_4 := dk_seg dksX3_doing_3 24 rfl rfl
theorem dksX3_doing_5 : cX3_doing.data.toList.drop 111 = dktX3_doing_5 := dk_seg dksX3_doing_4 24 rfl rfl
theorem dksX3_doing_6 : cX3_doing.data.toList.drop 135 = dktX3_doing_6 := dk_seg dksX3_doing_5 24 rfl rfl
theorem dX3_doing_0 : decode cX3_doing 0 = .ok (.aload_n 0, 1) := dk_42 (dk_at dksX3_doing_0 0 rfl rfl)
theorem dX3_doing_1 : decode cX3_doing 1 = .ok (.getfield 83, 3) := dk_180 0 83 (dk_at dksX3_doing_0 1 rfl rfl)
theorem dX3_doing_4 : decode cX3_doing 4 = .ok (.tableswitch 119 203 207 #[36, 67, 119, 119, 98], 36) := by decide +kernel
theorem dX3_doing_40 : decode cX3_doing 40 = .ok (.aload_n 0, 1) := dk_42 (dk_at dksX3_doing_2 0 rfl rfl)
theorem dX3_doing_41 : decode cX3_doing 41 = .ok (.iconst 0, 1) := dk_3 (dk_at dksX3_doing_2 1 rfl rfl)
theorem dX3_doing_42 : decode cX3_doing 42 = .ok (.bipush 99, 2) := dk_16 99 (dk_at dksX3_doing_2 2 rfl rfl)
theorem dX3_doing_44 : decode cX3_doing 44 = .ok (.invokevirtual 115, 3) := dk_182 0 115 (dk_at dksX3_doing_2 4 rfl rfl)
theorem dX3_doing_47 : decode cX3_doing 47 = .ok (.istore_n 2, 1) := dk_61 (dk_at dksX3_doing_2 7 rfl rfl)
theorem dX3_doing_48 : decode cX3_doing 48 = .ok (.new 117, 3) := dk_187 0 117 (dk_at dksX3_doing_2 8 rfl rfl)
theorem dX3_doing_51 : decode cX3_doing 51 = .ok (.dup, 1) := dk_89 (dk_at dksX3_doing_2 11 rfl rfl)
theorem dX3_doing_52 : decode cX3_doing 52 = .ok (.aload_n 0, 1) := dk_42 (dk_at dksX3_doing_2 12 rfl rfl)
theorem dX3_doing_53 : decode cX3_doing 53 = .ok (.getfield 83, 3) := dk_180 0 83 (dk_at dksX3_doing_2 13 rfl rfl)
theorem dX3_doing_56 : decode cX3_doing 56 = .ok (.iload_n 2, 1) := dk_28 (dk_at dksX3_doing_2 16 rfl rfl)
theorem dX3_doing_57 : decode cX3_doing 57 = .ok (.aload_n 0, 1) := dk_42 (dk_at dksX3_doing_2 17 rfl rfl)
theorem dX3_doing_58 : decode cX3_doing 58 = .ok (.sipush 208, 3) := dk_17 0 208 (dk_at dksX3_doing_2 18 rfl rfl)
theorem dX3_doing_61 : decode cX3_doing 61 = .ok (.bipush 9, 2) := dk_16 9 (dk_at dksX3_doing_2 21 rfl rfl)
theorem dX3_doing_63 : decode cX3_doing 63 = .ok (.invokevirtual 119, 3) := dk_182 0 119 (dk_at dksX3_doing_3 0 rfl rfl)
theorem dX3_doing_66 : decode cX3_doing 66 = .ok (.iload_n 1, 1) := dk_27 (dk_at dksX3_doing_3 3 rfl rfl)
theorem dX3_doing_67 : decode cX3_doing 67 = .ok (.invokespecial 122, 3) := dk_183 0 122 (dk_at dksX3_doing_3 4 rfl rfl)
theorem dX3_doing_70 : decode cX3_doing 70 = .ok (.areturn, 1) := dk_176 (dk_at dksX3_doing_3 7 rfl rfl)
theorem dX3_doing_71 : decode cX3_doing 71 = .ok (.aload_n 0, 1) := dk_42 (dk_at dksX3_doing_3 8 rfl rfl)
theorem dX3_doing_72 : decode cX3_doing 72 = .ok (.iconst 0, 1) := dk_3 (dk_at dksX3_doing_3 9 rfl rfl)
theorem dX3_doing_73 : decode cX3_doing 73 = .ok (.bipush 7, 2) := dk_16 7 (dk_at dksX3_doing_3 10 rfl rfl)
theorem dX3_doing_75 : decode cX3_doing 75 = .ok (.invokevirtual 115, 3) := dk_182 0 115 (dk_at dksX3_doing_3 12 rfl rfl)
theorem dX3_doing_78 : decode cX3_doing 78 = .ok (.istore_n 2, 1) := dk_61 (dk_at dksX3_doing_3 15 rfl rfl)
theorem dX3_doing_79 : decode cX3_doing 79 = .ok (.new 117, 3) := dk_187 0 117 (dk_at dksX3_doing_3 16 rfl rfl)
theorem dX3_doing_82 : decode cX3_doing 82 = .ok (.dup, 1) := dk_89 (dk_at dksX3_doing_3 19 rfl rfl)
theorem dX3_doing_83 : decode cX3_doing 83 = .ok (.aload_n 0, 1) := dk_42 (dk_at dksX3_doing_3 20 rfl rfl)
theorem dX3_doing_84 : decode cX3_doing 84 = .ok (.getfield 83, 3) := dk_180 0 83 (dk_at dksX3_doing_3 21 rfl rfl)
theorem dX3_doing_87 : decode cX3_doing 87 = .ok (.iload_n 2, 1) := dk_28 (dk_at dksX3_doing_4 0 rfl rfl)
theorem dX3_doing_88 : decode cX3_doing 88 = .ok (.aload_n 0, 1) := dk_42 (dk_at dksX3_doing_4 1 rfl rfl)
theorem dX3_doing_89 : decode cX3_doing 89 = .ok (.sipush 209, 3) := dk_17 0 209 (dk_at dksX3_doing_4 2 rfl rfl)
theorem dX3_doing_92 : decode cX3_doing 92 = .ok (.bipush 7, 2) := dk_16 7 (dk_at dksX3_doing_4 5 rfl rfl)
theorem dX3_doing_94 : decode cX3_doing 94 = .ok (.invokevirtual 119, 3) := dk_182 0 119 (dk_at dksX3_doing_4 7 rfl rfl)
theorem dX3_doing_97 : decode cX3_doing 97 = .ok (.iload_n 1, 1) := dk_27 (dk_at dksX3_doing_4 10 rfl rfl)
theorem dX3_doing_98 : decode cX3_doing 98 = .ok (.invokespecial 122, 3) := dk_183 0 122 (dk_at dksX3_doing_4 11 rfl rfl)
theorem dX3_doing_101 : decode cX3_doing 101 = .ok (.areturn, 1) := dk_176 (dk_at dksX3_doing_4 14 rfl rfl)
theorem dX3_doing_102 : decode cX3_doing 102 = .ok (.new 117, 3) := dk_187 0 117 (dk_at dksX3_doing_4 15 rfl rfl)
theorem dX3_doing_105 : decode cX3_doing 105 = .ok (.dup, 1) := dk_89 (dk_at dksX3_doing_4 18 rfl rfl)
theorem dX3_doing_106 : decode cX3_doing 106 = .ok (.aload_n 0, 1) := dk_42 (dk_at dksX3_doing_4 19 rfl rfl)
theorem dX3_doing_107 : decode cX3_doing 107 = .ok (.getfield 83, 3) := dk_180 0 83 (dk_at dksX3_doing_4 20 rfl rfl)
theorem dX3_doing_110 : decode cX3_doing 110 = .ok (.aload_n 0, 1) := dk_42 (dk_at dksX3_doing_4 23 rfl rfl)
theorem dX3_doing_111 : decode cX3_doing 111 = .ok (.iconst 1, 1) := dk_4 (dk_at dksX3_doing_5 0 rfl rfl)
theorem dX3_doing_112 : decode cX3_doing 112 = .ok (.bipush 60, 2) := dk_16 60 (dk_at dksX3_doing_5 1 rfl rfl)
theorem dX3_doing_114 : decode cX3_doing 114 = .ok (.invokevirtual 115, 3) := dk_182 0 115 (dk_at dksX3_doing_5 3 rfl rfl)
theorem dX3_doing_117 : decode cX3_doing 117 = .ok (.iconst (-1), 1) := dk_2 (dk_at dksX3_doing_5 6 rfl rfl)
theorem dX3_doing_118 : decode cX3_doing 118 = .ok (.iload_n 1, 1) := dk_27 (dk_at dksX3_doing_5 7 rfl rfl)
theorem dX3_doing_119 : decode cX3_doing 119 = .ok (.invokespecial 122, 3) := dk_183 0 122 (dk_at dksX3_doing_5 8 rfl rfl)
theorem dX3_doing_122 : decode cX3_doing 122 = .ok (.areturn, 1) := dk_176 (dk_at dksX3_doing_5 11 rfl rfl)
theorem dX3_doing_123 : decode cX3_doing 123 = .ok (.new 117, 3) := dk_187 0 117 (dk_at dksX3_doing_5 12 rfl rfl)
theorem dX3_doing_126 : decode cX3_doing 126 = .ok (.dup, 1) := dk_89 (dk_at dksX3_doing_5 15 rfl rfl)
theorem dX3_doing_127 : decode cX3_doing 127 = .ok (.aload_n 0, 1) := dk_42 (dk_at dksX3_doing_5 16 rfl rfl)
theorem dX3_doing_128 : decode cX3_doing 128 = .ok (.getfield 83, 3) := dk_180 0 83 (dk_at dksX3_doing_5 17 rfl rfl)
theorem dX3_doing_131 : decode cX3_doing 131 = .ok (.aload_n 0, 1) := dk_42 (dk_at dksX3_doing_5 20 rfl rfl)
theorem dX3_doing_132 : decode cX3_doing 132 = .ok (.iconst 0, 1) := dk_3 (dk_at dksX3_doing_5 21 rfl rfl)
theorem dX3_doing_133 : decode cX3_doing 133 = .ok (.bipush 7, 2) := dk_16 7 (dk_at dksX3_doing_5 22 rfl rfl)
theorem dX3_doing_135 : decode cX3_doing 135 = .ok (.invokevirtual 115, 3) := dk_182 0 115 (dk_at dksX3_doing_6 0 rfl rfl)
theorem dX3_doing_138 : decode cX3_doing 138 = .ok (.iconst (-1), 1) := dk_2 (dk_at dksX3_doing_6 3 rfl rfl)
theorem dX3_doing_139 : decode cX3_doing 139 = .ok (.iload_n 1, 1) := dk_27 (dk_at dksX3_doing_6 4 rfl rfl)
theorem dX3_doing_140 : decode cX3_doing 140 = .ok (.invokespecial 122, 3) := dk_183 0 122 (dk_at dksX3_doing_6 5 rfl rfl)
theorem dX3_doing_143 : decode cX3_doing 143 = .ok (.areturn, 1) := dk_176 (dk_at dksX3_doing_6 8 rfl rfl)
abbrev cX3_behind : ByteArray := prog_16_method_11_code
def yX3_behind : MethodName := ⟨RX3, "behind", "(II)I"⟩
def dkwX3_behind_0 : List UInt8 := [42, 27, 182, 0, 111, 42, 3, 28, 182, 0, 115, 172]
abbrev dktX3_behind_0 : List UInt8 := dkwX3_behind_0 ++ []
theorem dksX3_behind_0 : cX3_behind.data.toList.drop 0 = dktX3_behind_0 := by decide +kernel
theorem dX3_behind_0 : decode cX3_behind 0 = .ok (.aload_n 0, 1) := dk_42 (dk_at dksX3_behind_0 0 rfl rfl)
theorem dX3_behind_1 : decode cX3_behind 1 = .ok (.iload_n 1, 1) := dk_27 (dk_at dksX3_behind_0 1 rfl rfl)
theorem dX3_behind_2 : decode cX3_behind 2 = .ok (.invokevirtual 111, 3) := dk_182 0 111 (dk_at dksX3_behind_0 2 rfl rfl)
theorem dX3_behind_5 : decode cX3_behind 5 = .ok (.aload_n 0, 1) := dk_42 (dk_at dksX3_behind_0 5 rfl rfl)
theorem dX3_behind_6 : decode cX3_behind 6 = .ok (.iconst 0, 1) := dk_3 (dk_at dksX3_behind_0 6 rfl rfl)
theorem dX3_behind_7 : decode cX3_behind 7 = .ok (.iload_n 2, 1) := dk_28 (dk_at dksX3_behind_0 7 rfl rfl)
theorem dX3_behind_8 : decode cX3_behind 8 = .ok (.invokevirtual 115, 3) := dk_182 0 115 (dk_at dksX3_behind_0 8 rfl rfl)
theorem dX3_behind_11 : decode cX3_behind 11 = .ok (.ireturn, 1) := dk_172 (dk_at dksX3_behind_0 11 rfl rfl)
theorem q129 : (Jvm.Cond.initialized "ShaveOfAnother$Tokens") ∈ lw_all := lw_g (lw_at lw_m1 6 rfl) rfl
theorem q328 : (Jvm.Cond.instantiable "ShaveOfAnother$Tokens" (8 : Nat)) ∈ lw_all := lw_g (lw_at lw_m1 205 rfl) rfl
theorem q330 : (Jvm.Cond.instanceMethod ({ cls := "ShaveOfAnother$Tokens", name := "<init>", desc := "([BI)V" } : Jvm.MethodName)) ∈ lw_all := lw_g (lw_at lw_m1 207 rfl) rfl
theorem q331 : (Jvm.Cond.code ({ cls := "ShaveOfAnother$Tokens", name := "<init>", desc := "([BI)V" } : Jvm.MethodName) prog_16_method_1_code (3 : Nat) (Option.none : Option Jvm.ClassFile.FieldType)) ∈ lw_all := lw_g (lw_at lw_m1 208 rfl) rfl
theorem q332 : (Jvm.Cond.methodLink "ShaveOfAnother$Tokens" (3 : Nat) ({ cls := "java/lang/Object", name := "<init>", desc := "()V" } : Jvm.MethodName)) ∈ lw_all := lw_g (lw_at lw_m1 209 rfl) rfl
theorem q333 : (Jvm.Cond.fieldLink "ShaveOfAnother$Tokens" (9 : Nat) "ShaveOfAnother$Tokens" "text" "[B") ∈ lw_all := lw_g (lw_at lw_m1 210 rfl) rfl
theorem q334 : (Jvm.Cond.fieldLink "ShaveOfAnother$Tokens" (15 : Nat) "ShaveOfAnother$Tokens" "size" "I") ∈ lw_all := lw_g (lw_at lw_m1 211 rfl) rfl
theorem q335 : (Jvm.Cond.fieldLink "ShaveOfAnother$Tokens" (19 : Nat) "ShaveOfAnother$Tokens" "at" "I") ∈ lw_all := lw_g (lw_at lw_m1 212 rfl) rfl
theorem q336 : (Jvm.Cond.fieldLink "ShaveOfAnother$Tokens" (22 : Nat) "ShaveOfAnother$Tokens" "token" "I") ∈ lw_all := lw_g (lw_at lw_m1 213 rfl) rfl
theorem q337 : (Jvm.Cond.fieldLink "ShaveOfAnother$Tokens" (25 : Nat) "ShaveOfAnother$Tokens" "sort" "I") ∈ lw_all := lw_g (lw_at lw_m1 214 rfl) rfl
theorem q338 : (Jvm.Cond.fieldLink "ShaveOfAnother$Tokens" (43 : Nat) "ShaveOfAnother$Tokens" "number" "I") ∈ lw_all := lw_g (lw_at lw_m1 215 rfl) rfl
theorem q339 : (Jvm.Cond.fieldLink "ShaveOfAnother$Tokens" (77 : Nat) "ShaveOfAnother$Tokens" "open" "I") ∈ lw_all := lw_g (lw_at lw_m1 216 rfl) rfl
theorem q340 : (Jvm.Cond.fieldLink "ShaveOfAnother$Tokens" (83 : Nat) "ShaveOfAnother$Tokens" "kind" "I") ∈ lw_all := lw_g (lw_at lw_m1 217 rfl) rfl
theorem q341 : (Jvm.Cond.laysFinal "ShaveOfAnother$Tokens" "ShaveOfAnother$Tokens" "text" "[B") ∈ lw_all := lw_g (lw_at lw_m1 218 rfl) rfl
theorem q342 : (Jvm.Cond.soleField "ShaveOfAnother$Tokens" "text") ∈ lw_all := lw_g (lw_at lw_m1 219 rfl) rfl
theorem q343 : (Jvm.Cond.laysFinal "ShaveOfAnother$Tokens" "ShaveOfAnother$Tokens" "size" "I") ∈ lw_all := lw_g (lw_at lw_m1 220 rfl) rfl
theorem q344 : (Jvm.Cond.soleField "ShaveOfAnother$Tokens" "size") ∈ lw_all := lw_g (lw_at lw_m1 221 rfl) rfl
theorem q345 : (Jvm.Cond.lays "ShaveOfAnother$Tokens" "ShaveOfAnother$Tokens" "at" "I") ∈ lw_all := lw_g (lw_at lw_m1 222 rfl) rfl
theorem q346 : (Jvm.Cond.soleField "ShaveOfAnother$Tokens" "at") ∈ lw_all := lw_g (lw_at lw_m1 223 rfl) rfl
theorem q347 : (Jvm.Cond.lays "ShaveOfAnother$Tokens" "ShaveOfAnother$Tokens" "token" "I") ∈ lw_all := lw_g (lw_at lw_m1 224 rfl) rfl
theorem q348 : (Jvm.Cond.soleField "ShaveOfAnother$Tokens" "token") ∈ lw_all := lw_g (lw_at lw_m1 225 rfl) rfl
theorem q349 : (Jvm.Cond.lays "ShaveOfAnother$Tokens" "ShaveOfAnother$Tokens" "sort" "I") ∈ lw_all := lw_g (lw_at lw_m1 226 rfl) rfl
theorem q350 : (Jvm.Cond.soleField "ShaveOfAnother$Tokens" "sort") ∈ lw_all := lw_g (lw_at lw_m1 227 rfl) rfl
theorem q351 : (Jvm.Cond.lays "ShaveOfAnother$Tokens" "ShaveOfAnother$Tokens" "number" "I") ∈ lw_all := lw_g (lw_at lw_m1 228 rfl) rfl
theorem q352 : (Jvm.Cond.soleField "ShaveOfAnother$Tokens" "number") ∈ lw_all := lw_g (lw_at lw_m1 229 rfl) rfl
theorem q353 : (Jvm.Cond.lays "ShaveOfAnother$Tokens" "ShaveOfAnother$Tokens" "open" "I") ∈ lw_all := lw_g (lw_at lw_m1 230 rfl) rfl
theorem q354 : (Jvm.Cond.soleField "ShaveOfAnother$Tokens" "open") ∈ lw_all := lw_g (lw_at lw_m1 231 rfl) rfl
theorem q355 : (Jvm.Cond.lays "ShaveOfAnother$Tokens" "ShaveOfAnother$Tokens" "kind" "I") ∈ lw_all := lw_g (lw_at lw_m1 232 rfl) rfl
theorem q356 : (Jvm.Cond.soleField "ShaveOfAnother$Tokens" "kind") ∈ lw_all := lw_g (lw_at lw_m1 233 rfl) rfl
theorem q357 : (Jvm.Cond.superclass "ShaveOfAnother$Tokens" "java/lang/Object") ∈ lw_all := lw_g (lw_at lw_m1 234 rfl) rfl
theorem q359 : (Jvm.Cond.instanceMethod ({ cls := "ShaveOfAnother$Tokens", name := "read", desc := "()LShaveOfAnother$Text;" } : Jvm.MethodName)) ∈ lw_all := lw_g (lw_at lw_m1 236 rfl) rfl
theorem q360 : (Jvm.Cond.selects "ShaveOfAnother$Tokens" ({ cls := "ShaveOfAnother$Tokens", name := "read", desc := "()LShaveOfAnother$Text;" } : Jvm.MethodName) ({ cls := "ShaveOfAnother$Tokens", name := "read", desc := "()LShaveOfAnother$Text;" } : Jvm.MethodName)) ∈ lw_all := lw_g (lw_at lw_m1 237 rfl) rfl
theorem q361 : (Jvm.Cond.code ({ cls := "ShaveOfAnother$Tokens", name := "read", desc := "()LShaveOfAnother$Text;" } : Jvm.MethodName) prog_16_method_10_code (2 : Nat) (Option.some (Jvm.ClassFile.FieldType.object "ShaveOfAnother$Text"))) ∈ lw_all := lw_g (lw_at lw_m1 238 rfl) rfl
theorem q362 : (Jvm.Cond.classLink "ShaveOfAnother$Tokens" (80 : Nat) "ShaveOfAnother$Text") ∈ lw_all := lw_g (lw_at lw_m1 239 rfl) rfl
theorem q364 : (Jvm.Cond.methodLinkNest "ShaveOfAnother$Tokens" (82 : Nat) ({ cls := "ShaveOfAnother$Text", name := "<init>", desc := "()V" } : Jvm.MethodName) "ShaveOfAnother") ∈ lw_tbl := lw_at lw_m2 1 rfl
theorem q397 : (Jvm.Cond.fieldLinkNest "ShaveOfAnother$Tokens" (86 : Nat) "ShaveOfAnother$Text" "law" "[LShaveOfAnother$Sum;" "ShaveOfAnother") ∈ lw_tbl := lw_at lw_m2 34 rfl
theorem q399 : (Jvm.Cond.fieldLinkNest "ShaveOfAnother$Tokens" (90 : Nat) "ShaveOfAnother$Text" "clauses" "I" "ShaveOfAnother") ∈ lw_tbl := lw_at lw_m2 36 rfl
theorem q401 : (Jvm.Cond.fieldLinkNest "ShaveOfAnother$Tokens" (97 : Nat) "ShaveOfAnother$Text" "doings" "Ljava/util/ArrayList;" "ShaveOfAnother") ∈ lw_tbl := lw_at lw_m2 38 rfl
theorem q410 : (Jvm.Cond.methodLink "ShaveOfAnother$Tokens" (74 : Nat) ({ cls := "ShaveOfAnother$Tokens", name := "next", desc := "()V" } : Jvm.MethodName)) ∈ lw_all := lw_g (lw_at lw_m2 47 rfl) rfl
theorem q411 : (Jvm.Cond.privateMethod ({ cls := "ShaveOfAnother$Tokens", name := "next", desc := "()V" } : Jvm.MethodName)) ∈ lw_tbl := lw_at lw_m2 48 rfl
theorem q412 : (Jvm.Cond.instanceMethod ({ cls := "ShaveOfAnother$Tokens", name := "next", desc := "()V" } : Jvm.MethodName)) ∈ lw_all := lw_g (lw_at lw_m2 49 rfl) rfl
theorem q413 : (Jvm.Cond.code ({ cls := "ShaveOfAnother$Tokens", name := "next", desc := "()V" } : Jvm.MethodName) prog_16_method_4_code (3 : Nat) (Option.none : Option Jvm.ClassFile.FieldType)) ∈ lw_all := lw_g (lw_at lw_m2 50 rfl) rfl
theorem q414 : (Jvm.Cond.methodLink "ShaveOfAnother$Tokens" (28 : Nat) ({ cls := "ShaveOfAnother$Tokens", name := "isLetter", desc := "(I)Z" } : Jvm.MethodName)) ∈ lw_all := lw_g (lw_at lw_m2 51 rfl) rfl
theorem q415 : (Jvm.Cond.static ({ cls := "ShaveOfAnother$Tokens", name := "isLetter", desc := "(I)Z" } : Jvm.MethodName)) ∈ lw_all := lw_g (lw_at lw_m2 52 rfl) rfl
theorem q416 : (Jvm.Cond.code ({ cls := "ShaveOfAnother$Tokens", name := "isLetter", desc := "(I)Z" } : Jvm.MethodName) prog_16_method_2_code (1 : Nat) (Option.some Jvm.ClassFile.FieldType.boolean)) ∈ lw_all := lw_g (lw_at lw_m2 53 rfl) rfl
theorem q417 : (Jvm.Cond.fieldLink "ShaveOfAnother$Tokens" (32 : Nat) "ShaveOfAnother$Tokens" "WORDS" "[Ljava/lang/String;") ∈ lw_all := lw_g (lw_at lw_m2 54 rfl) rfl
theorem q418 : (Jvm.Cond.laysStatic "ShaveOfAnother$Tokens" "WORDS" "[Ljava/lang/String;") ∈ lw_tbl := lw_at lw_m2 55 rfl
theorem q419 : (Jvm.Cond.methodLink "ShaveOfAnother$Tokens" (36 : Nat) ({ cls := "ShaveOfAnother$Tokens", name := "isWord", desc := "(Ljava/lang/String;)Z" } : Jvm.MethodName)) ∈ lw_all := lw_g (lw_at lw_m2 56 rfl) rfl
theorem q420 : (Jvm.Cond.privateMethod ({ cls := "ShaveOfAnother$Tokens", name := "isWord", desc := "(Ljava/lang/String;)Z" } : Jvm.MethodName)) ∈ lw_tbl := lw_at lw_m2 57 rfl
theorem q421 : (Jvm.Cond.instanceMethod ({ cls := "ShaveOfAnother$Tokens", name := "isWord", desc := "(Ljava/lang/String;)Z" } : Jvm.MethodName)) ∈ lw_all := lw_g (lw_at lw_m2 58 rfl) rfl
theorem q422 : (Jvm.Cond.code ({ cls := "ShaveOfAnother$Tokens", name := "isWord", desc := "(Ljava/lang/String;)Z" } : Jvm.MethodName) prog_16_method_5_code (3 : Nat) (Option.some Jvm.ClassFile.FieldType.boolean)) ∈ lw_all := lw_g (lw_at lw_m2 59 rfl) rfl
theorem q423 : (Jvm.Cond.methodLink "ShaveOfAnother$Tokens" (55 : Nat) ({ cls := "java/lang/String", name := "length", desc := "()I" } : Jvm.MethodName)) ∈ lw_all := lw_g (lw_at lw_m2 60 rfl) rfl
theorem q433 : (Jvm.Cond.methodLink "ShaveOfAnother$Tokens" (61 : Nat) ({ cls := "java/lang/String", name := "charAt", desc := "(I)C" } : Jvm.MethodName)) ∈ lw_all := lw_g (lw_at lw_m2 70 rfl) rfl
theorem q471 : (Jvm.Cond.methodLink "ShaveOfAnother$Tokens" (40 : Nat) ({ cls := "ShaveOfAnother$Tokens", name := "isDigit", desc := "(I)Z" } : Jvm.MethodName)) ∈ lw_all := lw_g (lw_at lw_m2 108 rfl) rfl
theorem q472 : (Jvm.Cond.static ({ cls := "ShaveOfAnother$Tokens", name := "isDigit", desc := "(I)Z" } : Jvm.MethodName)) ∈ lw_all := lw_g (lw_at lw_m2 109 rfl) rfl
theorem q473 : (Jvm.Cond.code ({ cls := "ShaveOfAnother$Tokens", name := "isDigit", desc := "(I)Z" } : Jvm.MethodName) prog_16_method_3_code (1 : Nat) (Option.some Jvm.ClassFile.FieldType.boolean)) ∈ lw_all := lw_g (lw_at lw_m2 110 rfl) rfl
theorem q474 : (Jvm.Cond.constant "ShaveOfAnother$Tokens" (46 : Nat) (99999 : Int32)) ∈ lw_all := lw_g (lw_at lw_m2 111 rfl) rfl
theorem q475 : (Jvm.Cond.methodLink "ShaveOfAnother$Tokens" (47 : Nat) ({ cls := "java/lang/Math", name := "min", desc := "(II)I" } : Jvm.MethodName)) ∈ lw_all := lw_g (lw_at lw_m2 112 rfl) rfl
theorem q478 : (Jvm.Cond.stringRef "ShaveOfAnother$Tokens" (53 : Nat) "<>=#+-*/^();") ∈ lw_tbl := lw_at lw_m2 115 rfl
theorem q479 : (Jvm.Cond.methodLink "ShaveOfAnother$Tokens" (70 : Nat) ({ cls := "ShaveOfAnother$Tokens", name := "wrong", desc := "(I)LShaveOfAnother$Wrong;" } : Jvm.MethodName)) ∈ lw_all := lw_g (lw_at lw_m2 116 rfl) rfl
theorem q480 : (Jvm.Cond.privateMethod ({ cls := "ShaveOfAnother$Tokens", name := "wrong", desc := "(I)LShaveOfAnother$Wrong;" } : Jvm.MethodName)) ∈ lw_tbl := lw_at lw_m2 117 rfl
theorem q481 : (Jvm.Cond.instanceMethod ({ cls := "ShaveOfAnother$Tokens", name := "wrong", desc := "(I)LShaveOfAnother$Wrong;" } : Jvm.MethodName)) ∈ lw_all := lw_g (lw_at lw_m2 118 rfl) rfl
theorem q482 : (Jvm.Cond.code ({ cls := "ShaveOfAnother$Tokens", name := "wrong", desc := "(I)LShaveOfAnother$Wrong;" } : Jvm.MethodName) prog_16_method_6_code (2 : Nat) (Option.some (Jvm.ClassFile.FieldType.object "ShaveOfAnother$Wrong"))) ∈ lw_all := lw_g (lw_at lw_m2 119 rfl) rfl
theorem q483 : (Jvm.Cond.classLink "ShaveOfAnother$Tokens" (65 : Nat) "ShaveOfAnother$Wrong") ∈ lw_all := lw_g (lw_at lw_m2 120 rfl) rfl
theorem q520 : (Jvm.Cond.methodLink "ShaveOfAnother$Tokens" (67 : Nat) ({ cls := "ShaveOfAnother$Wrong", name := "<init>", desc := "(II)V" } : Jvm.MethodName)) ∈ lw_all := lw_g (lw_at lw_m2 157 rfl) rfl
theorem q547 : (Jvm.Cond.methodLink "ShaveOfAnother$Tokens" (93 : Nat) ({ cls := "ShaveOfAnother$Tokens", name := "sum", desc := "()LShaveOfAnother$Sum;" } : Jvm.MethodName)) ∈ lw_all := lw_g (lw_at lw_m2 184 rfl) rfl
theorem q548 : (Jvm.Cond.privateMethod ({ cls := "ShaveOfAnother$Tokens", name := "sum", desc := "()LShaveOfAnother$Sum;" } : Jvm.MethodName)) ∈ lw_tbl := lw_at lw_m2 185 rfl
theorem q549 : (Jvm.Cond.instanceMethod ({ cls := "ShaveOfAnother$Tokens", name := "sum", desc := "()LShaveOfAnother$Sum;" } : Jvm.MethodName)) ∈ lw_all := lw_g (lw_at lw_m2 186 rfl) rfl
theorem q550 : (Jvm.Cond.code ({ cls := "ShaveOfAnother$Tokens", name := "sum", desc := "()LShaveOfAnother$Sum;" } : Jvm.MethodName) prog_16_method_16_code (3 : Nat) (Option.some (Jvm.ClassFile.FieldType.object "ShaveOfAnother$Sum"))) ∈ lw_all := lw_g (lw_at lw_m2 187 rfl) rfl
theorem q551 : (Jvm.Cond.classLink "ShaveOfAnother$Tokens" (159 : Nat) "ShaveOfAnother$Chain") ∈ lw_all := lw_g (lw_at lw_m2 188 rfl) rfl
theorem q553 : (Jvm.Cond.methodLink "ShaveOfAnother$Tokens" (161 : Nat) ({ cls := "ShaveOfAnother$Tokens", name := "product", desc := "()LShaveOfAnother$Sum;" } : Jvm.MethodName)) ∈ lw_all := lw_g (lw_at lw_m2 190 rfl) rfl
theorem q554 : (Jvm.Cond.privateMethod ({ cls := "ShaveOfAnother$Tokens", name := "product", desc := "()LShaveOfAnother$Sum;" } : Jvm.MethodName)) ∈ lw_tbl := lw_at lw_m2 191 rfl
theorem q555 : (Jvm.Cond.instanceMethod ({ cls := "ShaveOfAnother$Tokens", name := "product", desc := "()LShaveOfAnother$Sum;" } : Jvm.MethodName)) ∈ lw_all := lw_g (lw_at lw_m2 192 rfl) rfl
theorem q556 : (Jvm.Cond.code ({ cls := "ShaveOfAnother$Tokens", name := "product", desc := "()LShaveOfAnother$Sum;" } : Jvm.MethodName) prog_16_method_17_code (3 : Nat) (Option.some (Jvm.ClassFile.FieldType.object "ShaveOfAnother$Sum"))) ∈ lw_all := lw_g (lw_at lw_m2 193 rfl) rfl
theorem q557 : (Jvm.Cond.methodLink "ShaveOfAnother$Tokens" (173 : Nat) ({ cls := "ShaveOfAnother$Tokens", name := "power", desc := "()LShaveOfAnother$Sum;" } : Jvm.MethodName)) ∈ lw_all := lw_g (lw_at lw_m2 194 rfl) rfl
theorem q558 : (Jvm.Cond.privateMethod ({ cls := "ShaveOfAnother$Tokens", name := "power", desc := "()LShaveOfAnother$Sum;" } : Jvm.MethodName)) ∈ lw_tbl := lw_at lw_m2 195 rfl
theorem q559 : (Jvm.Cond.instanceMethod ({ cls := "ShaveOfAnother$Tokens", name := "power", desc := "()LShaveOfAnother$Sum;" } : Jvm.MethodName)) ∈ lw_all := lw_g (lw_at lw_m2 196 rfl) rfl
theorem q560 : (Jvm.Cond.code ({ cls := "ShaveOfAnother$Tokens", name := "power", desc := "()LShaveOfAnother$Sum;" } : Jvm.MethodName) prog_16_method_18_code (3 : Nat) (Option.some (Jvm.ClassFile.FieldType.object "ShaveOfAnother$Sum"))) ∈ lw_all := lw_g (lw_at lw_m2 197 rfl) rfl
theorem q561 : (Jvm.Cond.methodLink "ShaveOfAnother$Tokens" (176 : Nat) ({ cls := "ShaveOfAnother$Tokens", name := "one", desc := "()LShaveOfAnother$Sum;" } : Jvm.MethodName)) ∈ lw_all := lw_g (lw_at lw_m2 198 rfl) rfl
theorem q562 : (Jvm.Cond.privateMethod ({ cls := "ShaveOfAnother$Tokens", name := "one", desc := "()LShaveOfAnother$Sum;" } : Jvm.MethodName)) ∈ lw_tbl := lw_at lw_m2 199 rfl
theorem q563 : (Jvm.Cond.instanceMethod ({ cls := "ShaveOfAnother$Tokens", name := "one", desc := "()LShaveOfAnother$Sum;" } : Jvm.MethodName)) ∈ lw_all := lw_g (lw_at lw_m2 200 rfl) rfl
theorem q564 : (Jvm.Cond.code ({ cls := "ShaveOfAnother$Tokens", name := "one", desc := "()LShaveOfAnother$Sum;" } : Jvm.MethodName) prog_16_method_23_code (3 : Nat) (Option.some (Jvm.ClassFile.FieldType.object "ShaveOfAnother$Sum"))) ∈ lw_all := lw_g (lw_at lw_m2 201 rfl) rfl
theorem q565 : (Jvm.Cond.classLink "ShaveOfAnother$Tokens" (196 : Nat) "ShaveOfAnother$Plain") ∈ lw_all := lw_g (lw_at lw_m2 202 rfl) rfl
theorem q567 : (Jvm.Cond.methodLink "ShaveOfAnother$Tokens" (115 : Nat) ({ cls := "ShaveOfAnother$Tokens", name := "number", desc := "(II)I" } : Jvm.MethodName)) ∈ lw_all := lw_g (lw_at lw_m2 204 rfl) rfl
theorem q568 : (Jvm.Cond.privateMethod ({ cls := "ShaveOfAnother$Tokens", name := "number", desc := "(II)I" } : Jvm.MethodName)) ∈ lw_tbl := lw_at lw_m2 205 rfl
theorem q569 : (Jvm.Cond.instanceMethod ({ cls := "ShaveOfAnother$Tokens", name := "number", desc := "(II)I" } : Jvm.MethodName)) ∈ lw_all := lw_g (lw_at lw_m2 206 rfl) rfl
theorem q570 : (Jvm.Cond.code ({ cls := "ShaveOfAnother$Tokens", name := "number", desc := "(II)I" } : Jvm.MethodName) prog_16_method_8_code (4 : Nat) (Option.some Jvm.ClassFile.FieldType.int)) ∈ lw_all := lw_g (lw_at lw_m2 207 rfl) rfl
theorem q571 : (Jvm.Cond.methodLinkNest "ShaveOfAnother$Tokens" (198 : Nat) ({ cls := "ShaveOfAnother$Plain", name := "<init>", desc := "(I)V" } : Jvm.MethodName) "ShaveOfAnother") ∈ lw_tbl := lw_at lw_m2 208 rfl
theorem q582 : (Jvm.Cond.methodLink "ShaveOfAnother$Tokens" (200 : Nat) ({ cls := "ShaveOfAnother$Tokens", name := "choice", desc := "()LShaveOfAnother$Sum;" } : Jvm.MethodName)) ∈ lw_all := lw_g (lw_at lw_m2 219 rfl) rfl
theorem q583 : (Jvm.Cond.privateMethod ({ cls := "ShaveOfAnother$Tokens", name := "choice", desc := "()LShaveOfAnother$Sum;" } : Jvm.MethodName)) ∈ lw_tbl := lw_at lw_m2 220 rfl
theorem q584 : (Jvm.Cond.instanceMethod ({ cls := "ShaveOfAnother$Tokens", name := "choice", desc := "()LShaveOfAnother$Sum;" } : Jvm.MethodName)) ∈ lw_all := lw_g (lw_at lw_m2 221 rfl) rfl
theorem q585 : (Jvm.Cond.code ({ cls := "ShaveOfAnother$Tokens", name := "choice", desc := "()LShaveOfAnother$Sum;" } : Jvm.MethodName) prog_16_method_22_code (4 : Nat) (Option.some (Jvm.ClassFile.FieldType.object "ShaveOfAnother$Sum"))) ∈ lw_all := lw_g (lw_at lw_m2 222 rfl) rfl
theorem q586 : (Jvm.Cond.methodLink "ShaveOfAnother$Tokens" (146 : Nat) ({ cls := "ShaveOfAnother$Tokens", name := "opens", desc := "()V" } : Jvm.MethodName)) ∈ lw_all := lw_g (lw_at lw_m2 223 rfl) rfl
theorem q587 : (Jvm.Cond.privateMethod ({ cls := "ShaveOfAnother$Tokens", name := "opens", desc := "()V" } : Jvm.MethodName)) ∈ lw_tbl := lw_at lw_m2 224 rfl
theorem q588 : (Jvm.Cond.instanceMethod ({ cls := "ShaveOfAnother$Tokens", name := "opens", desc := "()V" } : Jvm.MethodName)) ∈ lw_all := lw_g (lw_at lw_m2 225 rfl) rfl
theorem q589 : (Jvm.Cond.code ({ cls := "ShaveOfAnother$Tokens", name := "opens", desc := "()V" } : Jvm.MethodName) prog_16_method_9_code (1 : Nat) (Option.none : Option Jvm.ClassFile.FieldType)) ∈ lw_all := lw_g (lw_at lw_m2 226 rfl) rfl
theorem q590 : (Jvm.Cond.methodLink "ShaveOfAnother$Tokens" (188 : Nat) ({ cls := "ShaveOfAnother$Tokens", name := "either", desc := "()LShaveOfAnother$Asked;" } : Jvm.MethodName)) ∈ lw_all := lw_g (lw_at lw_m2 227 rfl) rfl
theorem q591 : (Jvm.Cond.privateMethod ({ cls := "ShaveOfAnother$Tokens", name := "either", desc := "()LShaveOfAnother$Asked;" } : Jvm.MethodName)) ∈ lw_tbl := lw_at lw_m2 228 rfl
theorem q592 : (Jvm.Cond.instanceMethod ({ cls := "ShaveOfAnother$Tokens", name := "either", desc := "()LShaveOfAnother$Asked;" } : Jvm.MethodName)) ∈ lw_all := lw_g (lw_at lw_m2 229 rfl) rfl
theorem q593 : (Jvm.Cond.code ({ cls := "ShaveOfAnother$Tokens", name := "either", desc := "()LShaveOfAnother$Asked;" } : Jvm.MethodName) prog_16_method_13_code (2 : Nat) (Option.some (Jvm.ClassFile.FieldType.object "ShaveOfAnother$Asked"))) ∈ lw_all := lw_g (lw_at lw_m2 230 rfl) rfl
theorem q594 : (Jvm.Cond.classLink "ShaveOfAnother$Tokens" (106 : Nat) "java/util/ArrayList") ∈ lw_all := lw_g (lw_at lw_m2 231 rfl) rfl
theorem q595 : (Jvm.Cond.methodLink "ShaveOfAnother$Tokens" (125 : Nat) ({ cls := "java/util/ArrayList", name := "<init>", desc := "()V" } : Jvm.MethodName)) ∈ lw_all := lw_g (lw_at lw_m2 232 rfl) rfl
theorem q596 : (Jvm.Cond.methodLink "ShaveOfAnother$Tokens" (126 : Nat) ({ cls := "ShaveOfAnother$Tokens", name := "both", desc := "()LShaveOfAnother$Asked;" } : Jvm.MethodName)) ∈ lw_all := lw_g (lw_at lw_m2 233 rfl) rfl
theorem q597 : (Jvm.Cond.privateMethod ({ cls := "ShaveOfAnother$Tokens", name := "both", desc := "()LShaveOfAnother$Asked;" } : Jvm.MethodName)) ∈ lw_tbl := lw_at lw_m2 234 rfl
theorem q598 : (Jvm.Cond.instanceMethod ({ cls := "ShaveOfAnother$Tokens", name := "both", desc := "()LShaveOfAnother$Asked;" } : Jvm.MethodName)) ∈ lw_all := lw_g (lw_at lw_m2 235 rfl) rfl
theorem q599 : (Jvm.Cond.code ({ cls := "ShaveOfAnother$Tokens", name := "both", desc := "()LShaveOfAnother$Asked;" } : Jvm.MethodName) prog_16_method_14_code (2 : Nat) (Option.some (Jvm.ClassFile.FieldType.object "ShaveOfAnother$Asked"))) ∈ lw_all := lw_g (lw_at lw_m2 236 rfl) rfl
theorem q600 : (Jvm.Cond.methodLink "ShaveOfAnother$Tokens" (143 : Nat) ({ cls := "ShaveOfAnother$Tokens", name := "ask", desc := "()LShaveOfAnother$Asked;" } : Jvm.MethodName)) ∈ lw_all := lw_g (lw_at lw_m2 237 rfl) rfl
theorem q601 : (Jvm.Cond.privateMethod ({ cls := "ShaveOfAnother$Tokens", name := "ask", desc := "()LShaveOfAnother$Asked;" } : Jvm.MethodName)) ∈ lw_tbl := lw_at lw_m2 238 rfl
theorem q602 : (Jvm.Cond.instanceMethod ({ cls := "ShaveOfAnother$Tokens", name := "ask", desc := "()LShaveOfAnother$Asked;" } : Jvm.MethodName)) ∈ lw_all := lw_g (lw_at lw_m2 239 rfl) rfl
theorem q603 : (Jvm.Cond.code ({ cls := "ShaveOfAnother$Tokens", name := "ask", desc := "()LShaveOfAnother$Asked;" } : Jvm.MethodName) prog_16_method_15_code (3 : Nat) (Option.some (Jvm.ClassFile.FieldType.object "ShaveOfAnother$Asked"))) ∈ lw_all := lw_g (lw_at lw_m3 0 rfl) rfl
theorem q604 : (Jvm.Cond.classLink "ShaveOfAnother$Tokens" (149 : Nat) "ShaveOfAnother$Not") ∈ lw_all := lw_g (lw_at lw_m3 1 rfl) rfl
theorem q606 : (Jvm.Cond.methodLinkNest "ShaveOfAnother$Tokens" (151 : Nat) ({ cls := "ShaveOfAnother$Not", name := "<init>", desc := "(LShaveOfAnother$Asked;)V" } : Jvm.MethodName) "ShaveOfAnother") ∈ lw_tbl := lw_at lw_m3 3 rfl
theorem q614 : (Jvm.Cond.classLink "ShaveOfAnother$Tokens" (154 : Nat) "ShaveOfAnother$Compared") ∈ lw_all := lw_g (lw_at lw_m3 11 rfl) rfl
theorem q616 : (Jvm.Cond.methodLinkNest "ShaveOfAnother$Tokens" (156 : Nat) ({ cls := "ShaveOfAnother$Compared", name := "<init>", desc := "(ILShaveOfAnother$Sum;LShaveOfAnother$Sum;)V" } : Jvm.MethodName) "ShaveOfAnother") ∈ lw_tbl := lw_at lw_m3 13 rfl
theorem q630 : (Jvm.Cond.methodLink "ShaveOfAnother$Tokens" (105 : Nat) ({ cls := "java/util/ArrayList", name := "add", desc := "(Ljava/lang/Object;)Z" } : Jvm.MethodName)) ∈ lw_all := lw_g (lw_at lw_m3 27 rfl) rfl
theorem q675 : (Jvm.Cond.selects "ShaveOfAnother$Tokens" ({ cls := "java/lang/Object", name := "getClass", desc := "()Ljava/lang/Class;" } : Jvm.MethodName) ({ cls := "java/lang/Object", name := "getClass", desc := "()Ljava/lang/Class;" } : Jvm.MethodName)) ∈ lw_all := lw_g (lw_at lw_m3 72 rfl) rfl
theorem q691 : (Jvm.Cond.methodLink "ShaveOfAnother$Tokens" (130 : Nat) ({ cls := "java/util/ArrayList", name := "size", desc := "()I" } : Jvm.MethodName)) ∈ lw_all := lw_g (lw_at lw_m3 88 rfl) rfl
theorem q695 : (Jvm.Cond.methodLink "ShaveOfAnother$Tokens" (132 : Nat) ({ cls := "java/util/ArrayList", name := "get", desc := "(I)Ljava/lang/Object;" } : Jvm.MethodName)) ∈ lw_all := lw_g (lw_at lw_m3 92 rfl) rfl
theorem q707 : (Jvm.Cond.classLink "ShaveOfAnother$Tokens" (136 : Nat) "ShaveOfAnother$Asked") ∈ lw_all := lw_g (lw_at lw_m3 104 rfl) rfl
theorem q708 : (Jvm.Cond.classLink "ShaveOfAnother$Tokens" (138 : Nat) "ShaveOfAnother$All") ∈ lw_all := lw_g (lw_at lw_m3 105 rfl) rfl
theorem q710 : (Jvm.Cond.methodLinkNest "ShaveOfAnother$Tokens" (140 : Nat) ({ cls := "ShaveOfAnother$All", name := "<init>", desc := "(ZLjava/util/ArrayList;)V" } : Jvm.MethodName) "ShaveOfAnother") ∈ lw_tbl := lw_at lw_m3 107 rfl
theorem q721 : (Jvm.Cond.methodLink "ShaveOfAnother$Tokens" (111 : Nat) ({ cls := "ShaveOfAnother$Tokens", name := "want", desc := "(I)V" } : Jvm.MethodName)) ∈ lw_all := lw_g (lw_at lw_m3 118 rfl) rfl
theorem q722 : (Jvm.Cond.privateMethod ({ cls := "ShaveOfAnother$Tokens", name := "want", desc := "(I)V" } : Jvm.MethodName)) ∈ lw_tbl := lw_at lw_m3 119 rfl
theorem q723 : (Jvm.Cond.instanceMethod ({ cls := "ShaveOfAnother$Tokens", name := "want", desc := "(I)V" } : Jvm.MethodName)) ∈ lw_all := lw_g (lw_at lw_m3 120 rfl) rfl
theorem q724 : (Jvm.Cond.code ({ cls := "ShaveOfAnother$Tokens", name := "want", desc := "(I)V" } : Jvm.MethodName) prog_16_method_7_code (2 : Nat) (Option.none : Option Jvm.ClassFile.FieldType)) ∈ lw_all := lw_g (lw_at lw_m3 121 rfl) rfl
theorem q725 : (Jvm.Cond.classLink "ShaveOfAnother$Tokens" (191 : Nat) "ShaveOfAnother$If") ∈ lw_all := lw_g (lw_at lw_m3 122 rfl) rfl
theorem q727 : (Jvm.Cond.methodLinkNest "ShaveOfAnother$Tokens" (193 : Nat) ({ cls := "ShaveOfAnother$If", name := "<init>", desc := "(LShaveOfAnother$Asked;LShaveOfAnother$Sum;LShaveOfAnother$Sum;)V" } : Jvm.MethodName) "ShaveOfAnother") ∈ lw_tbl := lw_at lw_m3 124 rfl
theorem q741 : (Jvm.Cond.methodLink "ShaveOfAnother$Tokens" (203 : Nat) ({ cls := "ShaveOfAnother$Tokens", name := "after", desc := "()LShaveOfAnother$Sum;" } : Jvm.MethodName)) ∈ lw_all := lw_g (lw_at lw_m3 138 rfl) rfl
theorem q742 : (Jvm.Cond.privateMethod ({ cls := "ShaveOfAnother$Tokens", name := "after", desc := "()LShaveOfAnother$Sum;" } : Jvm.MethodName)) ∈ lw_tbl := lw_at lw_m3 139 rfl
theorem q743 : (Jvm.Cond.instanceMethod ({ cls := "ShaveOfAnother$Tokens", name := "after", desc := "()LShaveOfAnother$Sum;" } : Jvm.MethodName)) ∈ lw_all := lw_g (lw_at lw_m3 140 rfl) rfl
theorem q744 : (Jvm.Cond.code ({ cls := "ShaveOfAnother$Tokens", name := "after", desc := "()LShaveOfAnother$Sum;" } : Jvm.MethodName) prog_16_method_21_code (3 : Nat) (Option.some (Jvm.ClassFile.FieldType.object "ShaveOfAnother$Sum"))) ∈ lw_all := lw_g (lw_at lw_m3 141 rfl) rfl
theorem q745 : (Jvm.Cond.classLink "ShaveOfAnother$Tokens" (183 : Nat) "ShaveOfAnother$After") ∈ lw_all := lw_g (lw_at lw_m3 142 rfl) rfl
theorem q747 : (Jvm.Cond.methodLinkNest "ShaveOfAnother$Tokens" (185 : Nat) ({ cls := "ShaveOfAnother$After", name := "<init>", desc := "(LShaveOfAnother$Sum;LShaveOfAnother$Sum;)V" } : Jvm.MethodName) "ShaveOfAnother") ∈ lw_tbl := lw_at lw_m3 144 rfl
theorem q758 : (Jvm.Cond.methodLink "ShaveOfAnother$Tokens" (206 : Nat) ({ cls := "ShaveOfAnother$Tokens", name := "nameNow", desc := "()I" } : Jvm.MethodName)) ∈ lw_all := lw_g (lw_at lw_m3 155 rfl) rfl
theorem q759 : (Jvm.Cond.privateMethod ({ cls := "ShaveOfAnother$Tokens", name := "nameNow", desc := "()I" } : Jvm.MethodName)) ∈ lw_tbl := lw_at lw_m3 156 rfl
theorem q760 : (Jvm.Cond.instanceMethod ({ cls := "ShaveOfAnother$Tokens", name := "nameNow", desc := "()I" } : Jvm.MethodName)) ∈ lw_all := lw_g (lw_at lw_m3 157 rfl) rfl
theorem q761 : (Jvm.Cond.code ({ cls := "ShaveOfAnother$Tokens", name := "nameNow", desc := "()I" } : Jvm.MethodName) prog_16_method_19_code (2 : Nat) (Option.some Jvm.ClassFile.FieldType.int)) ∈ lw_all := lw_g (lw_at lw_m3 158 rfl) rfl
theorem q762 : (Jvm.Cond.fieldLink "ShaveOfAnother$Tokens" (179 : Nat) "ShaveOfAnother$Tokens" "NAMED" "[I") ∈ lw_all := lw_g (lw_at lw_m3 159 rfl) rfl
theorem q763 : (Jvm.Cond.laysStatic "ShaveOfAnother$Tokens" "NAMED" "[I") ∈ lw_tbl := lw_at lw_m3 160 rfl
theorem q764 : (Jvm.Cond.methodLink "ShaveOfAnother$Tokens" (209 : Nat) ({ cls := "ShaveOfAnother$Tokens", name := "mayName", desc := "(I)Z" } : Jvm.MethodName)) ∈ lw_all := lw_g (lw_at lw_m3 161 rfl) rfl
theorem q765 : (Jvm.Cond.privateMethod ({ cls := "ShaveOfAnother$Tokens", name := "mayName", desc := "(I)Z" } : Jvm.MethodName)) ∈ lw_tbl := lw_at lw_m3 162 rfl
theorem q766 : (Jvm.Cond.instanceMethod ({ cls := "ShaveOfAnother$Tokens", name := "mayName", desc := "(I)Z" } : Jvm.MethodName)) ∈ lw_all := lw_g (lw_at lw_m3 163 rfl) rfl
theorem q767 : (Jvm.Cond.code ({ cls := "ShaveOfAnother$Tokens", name := "mayName", desc := "(I)Z" } : Jvm.MethodName) prog_16_method_20_code (2 : Nat) (Option.some Jvm.ClassFile.FieldType.boolean)) ∈ lw_all := lw_g (lw_at lw_m3 164 rfl) rfl
theorem q768 : (Jvm.Cond.classLink "ShaveOfAnother$Tokens" (212 : Nat) "ShaveOfAnother$Name") ∈ lw_all := lw_g (lw_at lw_m3 165 rfl) rfl
theorem q770 : (Jvm.Cond.methodLinkNest "ShaveOfAnother$Tokens" (214 : Nat) ({ cls := "ShaveOfAnother$Name", name := "<init>", desc := "(I)V" } : Jvm.MethodName) "ShaveOfAnother") ∈ lw_tbl := lw_at lw_m3 167 rfl
theorem q778 : (Jvm.Cond.classLink "ShaveOfAnother$Tokens" (215 : Nat) "ShaveOfAnother$Minus") ∈ lw_all := lw_g (lw_at lw_m3 175 rfl) rfl
theorem q780 : (Jvm.Cond.methodLinkNest "ShaveOfAnother$Tokens" (217 : Nat) ({ cls := "ShaveOfAnother$Minus", name := "<init>", desc := "(LShaveOfAnother$Sum;)V" } : Jvm.MethodName) "ShaveOfAnother") ∈ lw_tbl := lw_at lw_m3 177 rfl
theorem q788 : (Jvm.Cond.methodLink "ShaveOfAnother$Tokens" (164 : Nat) ({ cls := "ShaveOfAnother$Chain", name := "<init>", desc := "(LShaveOfAnother$Sum;)V" } : Jvm.MethodName)) ∈ lw_all := lw_g (lw_at lw_m3 185 rfl) rfl
theorem q804 : (Jvm.Cond.methodLink "ShaveOfAnother$Tokens" (167 : Nat) ({ cls := "ShaveOfAnother$Chain", name := "add", desc := "(ILShaveOfAnother$Sum;)V" } : Jvm.MethodName)) ∈ lw_all := lw_g (lw_at lw_m3 201 rfl) rfl
theorem q829 : (Jvm.Cond.methodLink "ShaveOfAnother$Tokens" (170 : Nat) ({ cls := "ShaveOfAnother$Chain", name := "itself", desc := "()LShaveOfAnother$Sum;" } : Jvm.MethodName)) ∈ lw_all := lw_g (lw_at lw_m3 226 rfl) rfl
theorem q837 : (Jvm.Cond.methodLink "ShaveOfAnother$Tokens" (101 : Nat) ({ cls := "ShaveOfAnother$Tokens", name := "doing", desc := "(I)LShaveOfAnother$Doing;" } : Jvm.MethodName)) ∈ lw_all := lw_g (lw_at lw_m3 234 rfl) rfl
theorem q838 : (Jvm.Cond.privateMethod ({ cls := "ShaveOfAnother$Tokens", name := "doing", desc := "(I)LShaveOfAnother$Doing;" } : Jvm.MethodName)) ∈ lw_tbl := lw_at lw_m3 235 rfl
theorem q839 : (Jvm.Cond.instanceMethod ({ cls := "ShaveOfAnother$Tokens", name := "doing", desc := "(I)LShaveOfAnother$Doing;" } : Jvm.MethodName)) ∈ lw_all := lw_g (lw_at lw_m3 236 rfl) rfl
theorem q840 : (Jvm.Cond.code ({ cls := "ShaveOfAnother$Tokens", name := "doing", desc := "(I)LShaveOfAnother$Doing;" } : Jvm.MethodName) prog_16_method_12_code (3 : Nat) (Option.some (Jvm.ClassFile.FieldType.object "ShaveOfAnother$Doing"))) ∈ lw_all := lw_g (lw_at lw_m3 237 rfl) rfl
theorem q841 : (Jvm.Cond.classLink "ShaveOfAnother$Tokens" (117 : Nat) "ShaveOfAnother$Doing") ∈ lw_all := lw_g (lw_at lw_m3 238 rfl) rfl
theorem q843 : (Jvm.Cond.methodLink "ShaveOfAnother$Tokens" (119 : Nat) ({ cls := "ShaveOfAnother$Tokens", name := "behind", desc := "(II)I" } : Jvm.MethodName)) ∈ lw_all := lw_g (lw_at lw_m4 0 rfl) rfl
theorem q844 : (Jvm.Cond.privateMethod ({ cls := "ShaveOfAnother$Tokens", name := "behind", desc := "(II)I" } : Jvm.MethodName)) ∈ lw_tbl := lw_at lw_m4 1 rfl
theorem q845 : (Jvm.Cond.instanceMethod ({ cls := "ShaveOfAnother$Tokens", name := "behind", desc := "(II)I" } : Jvm.MethodName)) ∈ lw_all := lw_g (lw_at lw_m4 2 rfl) rfl
theorem q846 : (Jvm.Cond.code ({ cls := "ShaveOfAnother$Tokens", name := "behind", desc := "(II)I" } : Jvm.MethodName) prog_16_method_11_code (3 : Nat) (Option.some Jvm.ClassFile.FieldType.int)) ∈ lw_all := lw_g (lw_at lw_m4 3 rfl) rfl
theorem q847 : (Jvm.Cond.methodLinkNest "ShaveOfAnother$Tokens" (122 : Nat) ({ cls := "ShaveOfAnother$Doing", name := "<init>", desc := "(IIII)V" } : Jvm.MethodName) "ShaveOfAnother") ∈ lw_tbl := lw_at lw_m4 4 rfl
theorem q2051 : (Jvm.Cond.castable "ShaveOfAnother$Tokens" "java/lang/Object") ∈ lw_tbl := lw_at lw_m9 8 rfl
theorem q2080 : (Jvm.Cond.stringRef "ShaveOfAnother$Tokens" (218 : Nat) "razes") ∈ lw_tbl := lw_at lw_m9 37 rfl
theorem q2081 : (Jvm.Cond.stringRef "ShaveOfAnother$Tokens" (220 : Nat) "slips") ∈ lw_tbl := lw_at lw_m9 38 rfl
theorem q2082 : (Jvm.Cond.stringRef "ShaveOfAnother$Tokens" (222 : Nat) "rates") ∈ lw_tbl := lw_at lw_m9 39 rfl
theorem q2083 : (Jvm.Cond.stringRef "ShaveOfAnother$Tokens" (224 : Nat) "person") ∈ lw_tbl := lw_at lw_m9 40 rfl
theorem q2084 : (Jvm.Cond.stringRef "ShaveOfAnother$Tokens" (226 : Nat) "other") ∈ lw_tbl := lw_at lw_m9 41 rfl
theorem q2085 : (Jvm.Cond.stringRef "ShaveOfAnother$Tokens" (228 : Nat) "shave") ∈ lw_tbl := lw_at lw_m9 42 rfl
theorem q2086 : (Jvm.Cond.stringRef "ShaveOfAnother$Tokens" (230 : Nat) "calm") ∈ lw_tbl := lw_at lw_m9 43 rfl
theorem q2087 : (Jvm.Cond.stringRef "ShaveOfAnother$Tokens" (232 : Nat) "day") ∈ lw_tbl := lw_at lw_m9 44 rfl
theorem q2088 : (Jvm.Cond.stringRef "ShaveOfAnother$Tokens" (234 : Nat) "nerve") ∈ lw_tbl := lw_at lw_m9 45 rfl
theorem q2089 : (Jvm.Cond.stringRef "ShaveOfAnother$Tokens" (236 : Nat) "to") ∈ lw_tbl := lw_at lw_m9 46 rfl
theorem q2090 : (Jvm.Cond.stringRef "ShaveOfAnother$Tokens" (238 : Nat) "after") ∈ lw_tbl := lw_at lw_m9 47 rfl
theorem q2091 : (Jvm.Cond.stringRef "ShaveOfAnother$Tokens" (239 : Nat) "by") ∈ lw_tbl := lw_at lw_m9 48 rfl
theorem q2092 : (Jvm.Cond.stringRef "ShaveOfAnother$Tokens" (241 : Nat) "if") ∈ lw_tbl := lw_at lw_m9 49 rfl
theorem q2093 : (Jvm.Cond.stringRef "ShaveOfAnother$Tokens" (243 : Nat) "then") ∈ lw_tbl := lw_at lw_m9 50 rfl
theorem q2094 : (Jvm.Cond.stringRef "ShaveOfAnother$Tokens" (245 : Nat) "else") ∈ lw_tbl := lw_at lw_m9 51 rfl
theorem q2095 : (Jvm.Cond.stringRef "ShaveOfAnother$Tokens" (247 : Nat) "end") ∈ lw_tbl := lw_at lw_m9 52 rfl
theorem q2096 : (Jvm.Cond.stringRef "ShaveOfAnother$Tokens" (249 : Nat) "or") ∈ lw_tbl := lw_at lw_m9 53 rfl
theorem q2097 : (Jvm.Cond.stringRef "ShaveOfAnother$Tokens" (251 : Nat) "and") ∈ lw_tbl := lw_at lw_m9 54 rfl
theorem q2098 : (Jvm.Cond.stringRef "ShaveOfAnother$Tokens" (253 : Nat) "not") ∈ lw_tbl := lw_at lw_m9 55 rfl
theorem q2099 : (Jvm.Cond.stringRef "ShaveOfAnother$Tokens" (255 : Nat) "chair") ∈ lw_tbl := lw_at lw_m9 56 rfl
theorem q2100 : (Jvm.Cond.stringRef "ShaveOfAnother$Tokens" (257 : Nat) "scars") ∈ lw_tbl := lw_at lw_m9 57 rfl
theorem q2101 : (Jvm.Cond.stringRef "ShaveOfAnother$Tokens" (259 : Nat) "beard") ∈ lw_tbl := lw_at lw_m9 58 rfl
theorem q2102 : (Jvm.Cond.stringRef "ShaveOfAnother$Tokens" (261 : Nat) "takings") ∈ lw_tbl := lw_at lw_m9 59 rfl
theorem in_X3 : ∀ w ∈ wsX30, w ∈ lw_all := lw_in wsX30 [341, 343, 345, 347, 349, 351, 353, 355] (by decide +kernel) (by decide +kernel)

/-! ShaveOfAnother$Text -/
set_option maxRecDepth 100000
def RX4 : String := "ShaveOfAnother$Text"
def TX4 : u_T := fun k => match k with
  | 0 => ("ShaveOfAnother$Text", "law", "[LShaveOfAnother$Sum;", true)
  | 1 => ("ShaveOfAnother$Text", "clauses", "I", false)
  | _ => ("ShaveOfAnother$Text", "doings", "Ljava/util/ArrayList;", true)
def tyX4 : Nat → FieldType := fun k => match k with
  | 0 => .array (.object "ShaveOfAnother$Sum")
  | 1 => .int
  | _ => .object "java/util/ArrayList"
abbrev wsX40 : List Cond := u_ws RX4 TX4 3
theorem nmX4 : ∀ a, a < 3 → ∀ b, b < 3 → a ≠ b → (TX4 a).2.1 ≠ (TX4 b).2.1 := by decide +kernel
theorem tyX4_ok : ∀ k, k < 3 → parseFieldDescriptor (TX4 k).2.2.1 = some (tyX4 k) := by decide +kernel
abbrev cX4_init : ByteArray := prog_15_method_1_code
def yX4_init : MethodName := ⟨RX4, "<init>", "()V"⟩
def dkwX4_init_0 : List UInt8 := [42, 183, 0, 1, 42, 6, 189, 0, 7, 181, 0, 9, 42, 187, 0, 15, 89, 183, 0, 17, 181, 0, 18, 177]
abbrev dktX4_init_0 : List UInt8 := dkwX4_init_0 ++ []
theorem dksX4_init_0 : cX4_init.data.toList.drop 0 = dktX4_init_0 := by decide +kernel
theorem dX4_init_0 : decode cX4_init 0 = .ok (.aload_n 0, 1) := dk_42 (dk_at dksX4_init_0 0 rfl rfl)
theorem dX4_init_1 : decode cX4_init 1 = .ok (.invokespecial 1, 3) := dk_183 0 1 (dk_at dksX4_init_0 1 rfl rfl)
theorem dX4_init_4 : decode cX4_init 4 = .ok (.aload_n 0, 1) := dk_42 (dk_at dksX4_init_0 4 rfl rfl)
theorem dX4_init_5 : decode cX4_init 5 = .ok (.iconst 3, 1) := dk_6 (dk_at dksX4_init_0 5 rfl rfl)
theorem dX4_init_6 : decode cX4_init 6 = .ok (.anewarray 7, 3) := dk_189 0 7 (dk_at dksX4_init_0 6 rfl rfl)
theorem dX4_init_9 : decode cX4_init 9 = .ok (.putfield 9, 3) := dk_181 0 9 (dk_at dksX4_init_0 9 rfl rfl)
theorem dX4_init_12 : decode cX4_init 12 = .ok (.aload_n 0, 1) := dk_42 (dk_at dksX4_init_0 12 rfl rfl)
theorem dX4_init_13 : decode cX4_init 13 = .ok (.new 15, 3) := dk_187 0 15 (dk_at dksX4_init_0 13 rfl rfl)
theorem dX4_init_16 : decode cX4_init 16 = .ok (.dup, 1) := dk_89 (dk_at dksX4_init_0 16 rfl rfl)
theorem dX4_init_17 : decode cX4_init 17 = .ok (.invokespecial 17, 3) := dk_183 0 17 (dk_at dksX4_init_0 17 rfl rfl)
theorem dX4_init_20 : decode cX4_init 20 = .ok (.putfield 18, 3) := dk_181 0 18 (dk_at dksX4_init_0 20 rfl rfl)
theorem dX4_init_23 : decode cX4_init 23 = .ok (.return_, 1) := dk_177 (dk_at dksX4_init_0 23 rfl rfl)
theorem q130 : (Jvm.Cond.initialized "ShaveOfAnother$Text") ∈ lw_all := lw_g (lw_at lw_m1 7 rfl) rfl
theorem q363 : (Jvm.Cond.instantiable "ShaveOfAnother$Text" (3 : Nat)) ∈ lw_all := lw_g (lw_at lw_m2 0 rfl) rfl
theorem q365 : (Jvm.Cond.instanceMethod ({ cls := "ShaveOfAnother$Text", name := "<init>", desc := "()V" } : Jvm.MethodName)) ∈ lw_all := lw_g (lw_at lw_m2 2 rfl) rfl
theorem q366 : (Jvm.Cond.code ({ cls := "ShaveOfAnother$Text", name := "<init>", desc := "()V" } : Jvm.MethodName) prog_15_method_1_code (1 : Nat) (Option.none : Option Jvm.ClassFile.FieldType)) ∈ lw_all := lw_g (lw_at lw_m2 3 rfl) rfl
theorem q367 : (Jvm.Cond.methodLink "ShaveOfAnother$Text" (1 : Nat) ({ cls := "java/lang/Object", name := "<init>", desc := "()V" } : Jvm.MethodName)) ∈ lw_all := lw_g (lw_at lw_m2 4 rfl) rfl
theorem q368 : (Jvm.Cond.classLink "ShaveOfAnother$Text" (7 : Nat) "ShaveOfAnother$Sum") ∈ lw_all := lw_g (lw_at lw_m2 5 rfl) rfl
theorem q370 : (Jvm.Cond.classLink "ShaveOfAnother$Text" (15 : Nat) "java/util/ArrayList") ∈ lw_all := lw_g (lw_at lw_m2 7 rfl) rfl
theorem q372 : (Jvm.Cond.methodLink "ShaveOfAnother$Text" (17 : Nat) ({ cls := "java/util/ArrayList", name := "<init>", desc := "()V" } : Jvm.MethodName)) ∈ lw_all := lw_g (lw_at lw_m2 9 rfl) rfl
theorem q396 : (Jvm.Cond.fieldLink "ShaveOfAnother$Text" (9 : Nat) "ShaveOfAnother$Text" "law" "[LShaveOfAnother$Sum;") ∈ lw_all := lw_g (lw_at lw_m2 33 rfl) rfl
theorem q400 : (Jvm.Cond.fieldLink "ShaveOfAnother$Text" (18 : Nat) "ShaveOfAnother$Text" "doings" "Ljava/util/ArrayList;") ∈ lw_all := lw_g (lw_at lw_m2 37 rfl) rfl
theorem q403 : (Jvm.Cond.laysFinal "ShaveOfAnother$Text" "ShaveOfAnother$Text" "law" "[LShaveOfAnother$Sum;") ∈ lw_all := lw_g (lw_at lw_m2 40 rfl) rfl
theorem q404 : (Jvm.Cond.soleField "ShaveOfAnother$Text" "law") ∈ lw_all := lw_g (lw_at lw_m2 41 rfl) rfl
theorem q405 : (Jvm.Cond.lays "ShaveOfAnother$Text" "ShaveOfAnother$Text" "clauses" "I") ∈ lw_all := lw_g (lw_at lw_m2 42 rfl) rfl
theorem q406 : (Jvm.Cond.soleField "ShaveOfAnother$Text" "clauses") ∈ lw_all := lw_g (lw_at lw_m2 43 rfl) rfl
theorem q407 : (Jvm.Cond.laysFinal "ShaveOfAnother$Text" "ShaveOfAnother$Text" "doings" "Ljava/util/ArrayList;") ∈ lw_all := lw_g (lw_at lw_m2 44 rfl) rfl
theorem q408 : (Jvm.Cond.soleField "ShaveOfAnother$Text" "doings") ∈ lw_all := lw_g (lw_at lw_m2 45 rfl) rfl
theorem q409 : (Jvm.Cond.superclass "ShaveOfAnother$Text" "java/lang/Object") ∈ lw_all := lw_g (lw_at lw_m2 46 rfl) rfl
theorem q674 : (Jvm.Cond.selects "ShaveOfAnother$Text" ({ cls := "java/lang/Object", name := "getClass", desc := "()Ljava/lang/Class;" } : Jvm.MethodName) ({ cls := "java/lang/Object", name := "getClass", desc := "()Ljava/lang/Class;" } : Jvm.MethodName)) ∈ lw_all := lw_g (lw_at lw_m3 71 rfl) rfl
theorem q2045 : (Jvm.Cond.castable "ShaveOfAnother$Text" "java/lang/Object") ∈ lw_tbl := lw_at lw_m9 2 rfl
theorem in_X4 : ∀ w ∈ wsX40, w ∈ lw_all := lw_in wsX40 [403, 405, 407] (by decide +kernel) (by decide +kernel)

/-! ShaveOfAnother$Wrong -/
set_option maxRecDepth 100000
def RX5 : String := "ShaveOfAnother$Wrong"
def TX5 : u_T := fun k => match k with
  | 0 => ("java/lang/Throwable", "cause", "Ljava/lang/Throwable;", false)
  | 1 => ("java/lang/Throwable", "stackTrace", "[Ljava/lang/StackTraceElement;", false)
  | 2 => ("java/lang/Throwable", "suppressedExceptions", "Ljava/util/List;", false)
  | 3 => ("java/lang/Throwable", "detailMessage", "Ljava/lang/String;", false)
  | 4 => ("java/lang/Throwable", "backtrace", "Ljava/lang/Object;", false)
  | 5 => ("java/lang/Throwable", "depth", "I", false)
  | 6 => ("ShaveOfAnother$Wrong", "fault", "I", true)
  | _ => ("ShaveOfAnother$Wrong", "place", "I", true)
def tyX5 : Nat → FieldType := fun k => match k with
  | 0 => .object "java/lang/Throwable"
  | 1 => .array (.object "java/lang/StackTraceElement")
  | 2 => .object "java/util/List"
  | 3 => .object "java/lang/String"
  | 4 => .object "java/lang/Object"
  | 5 => .int
  | 6 => .int
  | _ => .int
abbrev wsX50 : List Cond := u_ws RX5 TX5 8
theorem nmX5 : ∀ a, a < 8 → ∀ b, b < 8 → a ≠ b → (TX5 a).2.1 ≠ (TX5 b).2.1 := by decide +kernel
theorem tyX5_ok : ∀ k, k < 8 → parseFieldDescriptor (TX5 k).2.2.1 = some (tyX5 k) := by decide +kernel
abbrev cX5_init : ByteArray := prog_17_method_1_code
def yX5_init : MethodName := ⟨RX5, "<init>", "(II)V"⟩
def dkwX5_init_0 : List UInt8 := [42, 183, 0, 1, 42, 27, 181, 0, 7, 42, 28, 181, 0, 13, 177]
abbrev dktX5_init_0 : List UInt8 := dkwX5_init_0 ++ []
theorem dksX5_init_0 : cX5_init.data.toList.drop 0 = dktX5_init_0 := by decide +kernel
theorem dX5_init_0 : decode cX5_init 0 = .ok (.aload_n 0, 1) := dk_42 (dk_at dksX5_init_0 0 rfl rfl)
theorem dX5_init_1 : decode cX5_init 1 = .ok (.invokespecial 1, 3) := dk_183 0 1 (dk_at dksX5_init_0 1 rfl rfl)
theorem dX5_init_4 : decode cX5_init 4 = .ok (.aload_n 0, 1) := dk_42 (dk_at dksX5_init_0 4 rfl rfl)
theorem dX5_init_5 : decode cX5_init 5 = .ok (.iload_n 1, 1) := dk_27 (dk_at dksX5_init_0 5 rfl rfl)
theorem dX5_init_6 : decode cX5_init 6 = .ok (.putfield 7, 3) := dk_181 0 7 (dk_at dksX5_init_0 6 rfl rfl)
theorem dX5_init_9 : decode cX5_init 9 = .ok (.aload_n 0, 1) := dk_42 (dk_at dksX5_init_0 9 rfl rfl)
theorem dX5_init_10 : decode cX5_init 10 = .ok (.iload_n 2, 1) := dk_28 (dk_at dksX5_init_0 10 rfl rfl)
theorem dX5_init_11 : decode cX5_init 11 = .ok (.putfield 13, 3) := dk_181 0 13 (dk_at dksX5_init_0 11 rfl rfl)
theorem dX5_init_14 : decode cX5_init 14 = .ok (.return_, 1) := dk_177 (dk_at dksX5_init_0 14 rfl rfl)
theorem q141 : (Jvm.Cond.initialized "ShaveOfAnother$Wrong") ∈ lw_all := lw_g (lw_at lw_m1 18 rfl) rfl
theorem q484 : (Jvm.Cond.instantiable "ShaveOfAnother$Wrong" (8 : Nat)) ∈ lw_all := lw_g (lw_at lw_m2 121 rfl) rfl
theorem q485 : (Jvm.Cond.castable "ShaveOfAnother$Wrong" "ShaveOfAnother$Wrong") ∈ lw_tbl := lw_at lw_m2 122 rfl
theorem q490 : (Jvm.Cond.selects "ShaveOfAnother$Wrong" ({ cls := "java/lang/Throwable", name := "fillInStackTrace", desc := "(I)Ljava/lang/Throwable;" } : Jvm.MethodName) ({ cls := "java/lang/Throwable", name := "fillInStackTrace", desc := "(I)Ljava/lang/Throwable;" } : Jvm.MethodName)) ∈ lw_all := lw_g (lw_at lw_m2 127 rfl) rfl
theorem q491 : (Jvm.Cond.selects "ShaveOfAnother$Wrong" ({ cls := "java/lang/Throwable", name := "fillInStackTrace", desc := "()Ljava/lang/Throwable;" } : Jvm.MethodName) ({ cls := "java/lang/Throwable", name := "fillInStackTrace", desc := "()Ljava/lang/Throwable;" } : Jvm.MethodName)) ∈ lw_all := lw_g (lw_at lw_m2 128 rfl) rfl
theorem q492 : (Jvm.Cond.lays "ShaveOfAnother$Wrong" "java/lang/Throwable" "cause" "Ljava/lang/Throwable;") ∈ lw_all := lw_g (lw_at lw_m2 129 rfl) rfl
theorem q494 : (Jvm.Cond.lays "ShaveOfAnother$Wrong" "java/lang/Throwable" "stackTrace" "[Ljava/lang/StackTraceElement;") ∈ lw_all := lw_g (lw_at lw_m2 131 rfl) rfl
theorem q496 : (Jvm.Cond.lays "ShaveOfAnother$Wrong" "java/lang/Throwable" "suppressedExceptions" "Ljava/util/List;") ∈ lw_all := lw_g (lw_at lw_m2 133 rfl) rfl
theorem q498 : (Jvm.Cond.lays "ShaveOfAnother$Wrong" "java/lang/Throwable" "detailMessage" "Ljava/lang/String;") ∈ lw_all := lw_g (lw_at lw_m2 135 rfl) rfl
theorem q500 : (Jvm.Cond.lays "ShaveOfAnother$Wrong" "java/lang/Throwable" "backtrace" "Ljava/lang/Object;") ∈ lw_all := lw_g (lw_at lw_m2 137 rfl) rfl
theorem q521 : (Jvm.Cond.instanceMethod ({ cls := "ShaveOfAnother$Wrong", name := "<init>", desc := "(II)V" } : Jvm.MethodName)) ∈ lw_all := lw_g (lw_at lw_m2 158 rfl) rfl
theorem q522 : (Jvm.Cond.code ({ cls := "ShaveOfAnother$Wrong", name := "<init>", desc := "(II)V" } : Jvm.MethodName) prog_17_method_1_code (3 : Nat) (Option.none : Option Jvm.ClassFile.FieldType)) ∈ lw_all := lw_g (lw_at lw_m2 159 rfl) rfl
theorem q523 : (Jvm.Cond.methodLink "ShaveOfAnother$Wrong" (1 : Nat) ({ cls := "java/lang/Exception", name := "<init>", desc := "()V" } : Jvm.MethodName)) ∈ lw_all := lw_g (lw_at lw_m2 160 rfl) rfl
theorem q527 : (Jvm.Cond.fieldLink "ShaveOfAnother$Wrong" (7 : Nat) "ShaveOfAnother$Wrong" "fault" "I") ∈ lw_all := lw_g (lw_at lw_m2 164 rfl) rfl
theorem q529 : (Jvm.Cond.fieldLink "ShaveOfAnother$Wrong" (13 : Nat) "ShaveOfAnother$Wrong" "place" "I") ∈ lw_all := lw_g (lw_at lw_m2 166 rfl) rfl
theorem q535 : (Jvm.Cond.laysFinal "ShaveOfAnother$Wrong" "ShaveOfAnother$Wrong" "fault" "I") ∈ lw_all := lw_g (lw_at lw_m2 172 rfl) rfl
theorem q536 : (Jvm.Cond.soleField "ShaveOfAnother$Wrong" "fault") ∈ lw_all := lw_g (lw_at lw_m2 173 rfl) rfl
theorem q537 : (Jvm.Cond.laysFinal "ShaveOfAnother$Wrong" "ShaveOfAnother$Wrong" "place" "I") ∈ lw_all := lw_g (lw_at lw_m2 174 rfl) rfl
theorem q538 : (Jvm.Cond.soleField "ShaveOfAnother$Wrong" "place") ∈ lw_all := lw_g (lw_at lw_m2 175 rfl) rfl
theorem q543 : (Jvm.Cond.lays "ShaveOfAnother$Wrong" "java/lang/Throwable" "depth" "I") ∈ lw_all := lw_g (lw_at lw_m2 180 rfl) rfl
theorem q546 : (Jvm.Cond.superclass "ShaveOfAnother$Wrong" "java/lang/Exception") ∈ lw_all := lw_g (lw_at lw_m2 183 rfl) rfl
theorem q676 : (Jvm.Cond.selects "ShaveOfAnother$Wrong" ({ cls := "java/lang/Object", name := "getClass", desc := "()Ljava/lang/Class;" } : Jvm.MethodName) ({ cls := "java/lang/Object", name := "getClass", desc := "()Ljava/lang/Class;" } : Jvm.MethodName)) ∈ lw_all := lw_g (lw_at lw_m3 73 rfl) rfl
theorem q2053 : (Jvm.Cond.castable "ShaveOfAnother$Wrong" "java/lang/Object") ∈ lw_tbl := lw_at lw_m9 10 rfl
theorem in_X5 : ∀ w ∈ wsX50, w ∈ lw_all := lw_in wsX50 [492, 494, 496, 498, 500, 543, 535, 537] (by decide +kernel) (by decide +kernel)

/-! ShaveOfAnother$Chain -/
set_option maxRecDepth 100000
def RX6 : String := "ShaveOfAnother$Chain"
def TX6 : u_T := fun k => match k with
  | 0 => ("ShaveOfAnother$Chain", "first", "LShaveOfAnother$Sum;", true)
  | 1 => ("ShaveOfAnother$Chain", "more", "Ljava/util/ArrayList;", true)
  | _ => ("ShaveOfAnother$Chain", "signs", "Ljava/util/ArrayList;", true)
def tyX6 : Nat → FieldType := fun k => match k with
  | 0 => .object "ShaveOfAnother$Sum"
  | 1 => .object "java/util/ArrayList"
  | _ => .object "java/util/ArrayList"
abbrev wsX60 : List Cond := u_ws RX6 TX6 3
theorem nmX6 : ∀ a, a < 3 → ∀ b, b < 3 → a ≠ b → (TX6 a).2.1 ≠ (TX6 b).2.1 := by decide +kernel
theorem tyX6_ok : ∀ k, k < 3 → parseFieldDescriptor (TX6 k).2.2.1 = some (tyX6 k) := by decide +kernel
abbrev cX6_init : ByteArray := prog_5_method_1_code
def yX6_init : MethodName := ⟨RX6, "<init>", "(LShaveOfAnother$Sum;)V"⟩
def dkwX6_init_1 : List UInt8 := [181, 0, 18, 42, 43, 181, 0, 21, 177]
abbrev dktX6_init_1 : List UInt8 := dkwX6_init_1 ++ []
def dkwX6_init_0 : List UInt8 := [42, 183, 0, 3, 42, 187, 0, 9, 89, 183, 0, 11, 181, 0, 12, 42, 187, 0, 9, 89, 183, 0, 11]
abbrev dktX6_init_0 : List UInt8 := dkwX6_init_0 ++ dktX6_init_1
theorem dksX6_init_0 : cX6_init.data.toList.drop 0 = dktX6_init_0 := by decide +kernel
theorem dksX6_init_1 : cX6_init.data.toList.drop 23 = dktX6_init_1 := dk_seg dksX6_init_0 23 rfl rfl
theorem dX6_init_0 : decode cX6_init 0 = .ok (.aload_n 0, 1) := dk_42 (dk_at dksX6_init_0 0 rfl rfl)
theorem dX6_init_1 : decode cX6_init 1 = .ok (.invokespecial 3, 3) := dk_183 0 3 (dk_at dksX6_init_0 1 rfl rfl)
theorem dX6_init_4 : decode cX6_init 4 = .ok (.aload_n 0, 1) := dk_42 (dk_at dksX6_init_0 4 rfl rfl)
theorem dX6_init_5 : decode cX6_init 5 = .ok (.new 9, 3) := dk_187 0 9 (dk_at dksX6_init_0 5 rfl rfl)
theorem dX6_init_8 : decode cX6_init 8 = .ok (.dup, 1) := dk_89 (dk_at dksX6_init_0 8 rfl rfl)
theorem dX6_init_9 : decode cX6_init 9 = .ok (.invokespecial 11, 3) := dk_183 0 11 (dk_at dksX6_init_0 9 rfl rfl)
theorem dX6_init_12 : decode cX6_init 12 = .ok (.putfield 12, 3) := dk_181 0 12 (dk_at dksX6_init_0 12 rfl rfl)
theorem dX6_init_15 : decode cX6_init 15 = .ok (.aload_n 0, 1) := dk_42 (dk_at dksX6_init_0 15 rfl rfl)
theorem dX6_init_16 : decode cX6_init 16 = .ok (.new 9, 3) := dk_187 0 9 (dk_at dksX6_init_0 16 rfl rfl)
theorem dX6_init_19 : decode cX6_init 19 = .ok (.dup, 1) := dk_89 (dk_at dksX6_init_0 19 rfl rfl)
theorem dX6_init_20 : decode cX6_init 20 = .ok (.invokespecial 11, 3) := dk_183 0 11 (dk_at dksX6_init_0 20 rfl rfl)
theorem dX6_init_23 : decode cX6_init 23 = .ok (.putfield 18, 3) := dk_181 0 18 (dk_at dksX6_init_1 0 rfl rfl)
theorem dX6_init_26 : decode cX6_init 26 = .ok (.aload_n 0, 1) := dk_42 (dk_at dksX6_init_1 3 rfl rfl)
theorem dX6_init_27 : decode cX6_init 27 = .ok (.aload_n 1, 1) := dk_43 (dk_at dksX6_init_1 4 rfl rfl)
theorem dX6_init_28 : decode cX6_init 28 = .ok (.putfield 21, 3) := dk_181 0 21 (dk_at dksX6_init_1 5 rfl rfl)
theorem dX6_init_31 : decode cX6_init 31 = .ok (.return_, 1) := dk_177 (dk_at dksX6_init_1 8 rfl rfl)
abbrev cX6_add : ByteArray := prog_5_method_2_code
def yX6_add : MethodName := ⟨RX6, "add", "(ILShaveOfAnother$Sum;)V"⟩
def dkwX6_add_0 : List UInt8 := [42, 180, 0, 18, 27, 184, 0, 25, 182, 0, 31, 87, 42, 180, 0, 12, 44, 182, 0, 31, 87, 177]
abbrev dktX6_add_0 : List UInt8 := dkwX6_add_0 ++ []
theorem dksX6_add_0 : cX6_add.data.toList.drop 0 = dktX6_add_0 := by decide +kernel
theorem dX6_add_0 : decode cX6_add 0 = .ok (.aload_n 0, 1) := dk_42 (dk_at dksX6_add_0 0 rfl rfl)
theorem dX6_add_1 : decode cX6_add 1 = .ok (.getfield 18, 3) := dk_180 0 18 (dk_at dksX6_add_0 1 rfl rfl)
theorem dX6_add_4 : decode cX6_add 4 = .ok (.iload_n 1, 1) := dk_27 (dk_at dksX6_add_0 4 rfl rfl)
theorem dX6_add_5 : decode cX6_add 5 = .ok (.invokestatic 25, 3) := dk_184 0 25 (dk_at dksX6_add_0 5 rfl rfl)
theorem dX6_add_8 : decode cX6_add 8 = .ok (.invokevirtual 31, 3) := dk_182 0 31 (dk_at dksX6_add_0 8 rfl rfl)
theorem dX6_add_11 : decode cX6_add 11 = .ok (.pop, 1) := dk_87 (dk_at dksX6_add_0 11 rfl rfl)
theorem dX6_add_12 : decode cX6_add 12 = .ok (.aload_n 0, 1) := dk_42 (dk_at dksX6_add_0 12 rfl rfl)
theorem dX6_add_13 : decode cX6_add 13 = .ok (.getfield 12, 3) := dk_180 0 12 (dk_at dksX6_add_0 13 rfl rfl)
theorem dX6_add_16 : decode cX6_add 16 = .ok (.aload_n 2, 1) := dk_44 (dk_at dksX6_add_0 16 rfl rfl)
theorem dX6_add_17 : decode cX6_add 17 = .ok (.invokevirtual 31, 3) := dk_182 0 31 (dk_at dksX6_add_0 17 rfl rfl)
theorem dX6_add_20 : decode cX6_add 20 = .ok (.pop, 1) := dk_87 (dk_at dksX6_add_0 20 rfl rfl)
theorem dX6_add_21 : decode cX6_add 21 = .ok (.return_, 1) := dk_177 (dk_at dksX6_add_0 21 rfl rfl)
abbrev cX6_itself : ByteArray := prog_5_method_3_code
def yX6_itself : MethodName := ⟨RX6, "itself", "()LShaveOfAnother$Sum;"⟩
def dkwX6_itself_0 : List UInt8 := [42, 180, 0, 12, 182, 0, 35, 153, 0, 10, 42, 180, 0, 21, 167, 0, 4, 42, 176]
abbrev dktX6_itself_0 : List UInt8 := dkwX6_itself_0 ++ []
theorem dksX6_itself_0 : cX6_itself.data.toList.drop 0 = dktX6_itself_0 := by decide +kernel
theorem dX6_itself_0 : decode cX6_itself 0 = .ok (.aload_n 0, 1) := dk_42 (dk_at dksX6_itself_0 0 rfl rfl)
theorem dX6_itself_1 : decode cX6_itself 1 = .ok (.getfield 12, 3) := dk_180 0 12 (dk_at dksX6_itself_0 1 rfl rfl)
theorem dX6_itself_4 : decode cX6_itself 4 = .ok (.invokevirtual 35, 3) := dk_182 0 35 (dk_at dksX6_itself_0 4 rfl rfl)
theorem dX6_itself_7 : decode cX6_itself 7 = .ok (.ifCond .eq 10, 3) := dk_153 0 10 (dk_at dksX6_itself_0 7 rfl rfl)
theorem dX6_itself_10 : decode cX6_itself 10 = .ok (.aload_n 0, 1) := dk_42 (dk_at dksX6_itself_0 10 rfl rfl)
theorem dX6_itself_11 : decode cX6_itself 11 = .ok (.getfield 21, 3) := dk_180 0 21 (dk_at dksX6_itself_0 11 rfl rfl)
theorem dX6_itself_14 : decode cX6_itself 14 = .ok (.goto 4, 3) := dk_167 0 4 (dk_at dksX6_itself_0 14 rfl rfl)
theorem dX6_itself_17 : decode cX6_itself 17 = .ok (.aload_n 0, 1) := dk_42 (dk_at dksX6_itself_0 17 rfl rfl)
theorem dX6_itself_18 : decode cX6_itself 18 = .ok (.areturn, 1) := dk_176 (dk_at dksX6_itself_0 18 rfl rfl)
abbrev cX6_of : ByteArray := prog_5_method_4_code
def yX6_of : MethodName := ⟨RX6, "of", "([I)J"⟩
def dkwX6_of_6 : List UInt8 := [20, 0, 62, 22, 8, 184, 0, 64, 184, 0, 69, 65, 132, 4, 1, 167, 255, 114, 32, 173]
abbrev dktX6_of_6 : List UInt8 := dkwX6_of_6 ++ []
def dkwX6_of_5 : List UInt8 := [167, 0, 18, 22, 5, 9, 148, 154, 0, 7, 9, 167, 0, 7, 32, 22, 5, 109, 55, 8, 20, 0, 60]
abbrev dktX6_of_5 : List UInt8 := dkwX6_of_5 ++ dktX6_of_6
def dkwX6_of_4 : List UInt8 := [160, 0, 10, 32, 22, 5, 105, 167, 0, 34, 21, 7, 16, 94, 160, 0, 12, 32, 22, 5, 184, 0, 56]
abbrev dktX6_of_4 : List UInt8 := dkwX6_of_4 ++ dktX6_of_5
def dkwX6_of_3 : List UInt8 := [22, 5, 97, 167, 0, 62, 21, 7, 16, 45, 160, 0, 10, 32, 22, 5, 101, 167, 0, 48, 21, 7, 16, 42]
abbrev dktX6_of_3 : List UInt8 := dkwX6_of_3 ++ dktX6_of_4
def dkwX6_of_2 : List UInt8 := [180, 0, 18, 21, 4, 182, 0, 49, 192, 0, 26, 182, 0, 53, 54, 7, 21, 7, 16, 43, 160, 0, 10, 32]
abbrev dktX6_of_2 : List UInt8 := dkwX6_of_2 ++ dktX6_of_3
def dkwX6_of_1 : List UInt8 := [162, 0, 136, 42, 180, 0, 12, 21, 4, 182, 0, 49, 192, 0, 40, 43, 185, 0, 39, 2, 0, 55, 5, 42]
abbrev dktX6_of_1 : List UInt8 := dkwX6_of_1 ++ dktX6_of_2
def dkwX6_of_0 : List UInt8 := [42, 180, 0, 21, 43, 185, 0, 39, 2, 0, 65, 3, 54, 4, 21, 4, 42, 180, 0, 12, 182, 0, 45]
abbrev dktX6_of_0 : List UInt8 := dkwX6_of_0 ++ dktX6_of_1
theorem dksX6_of_0 : cX6_of.data.toList.drop 0 = dktX6_of_0 := by decide +kernel
theorem dksX6_of_1 : cX6_of.data.toList.drop 23 = dktX6_of_1 := dk_seg dksX6_of_0 23 rfl rfl
theorem dksX6_of_2 : cX6_of.data.toList.drop 47 = dktX6_of_2 := dk_seg dksX6_of_1 24 rfl rfl
theorem dksX6_of_3 : cX6_of.data.toList.drop 71 = dktX6_of_3 := dk_seg dksX6_of_2 24 rfl rfl
theorem dksX6_of_4 : cX6_of.data.toList.drop 95 = dktX6_of_4 := dk_seg dksX6_of_3 24 rfl rfl
theorem dksX6_of_5 : cX6_of.data.toList.drop 118 = dktX6_of_5 := dk_seg dksX6_of_4 23 rfl rfl
theorem dksX6_of_6 : cX6_of.data.toList.drop 141 = dktX6_of_6 := dk_seg dksX6_of_5 23 rfl rfl
theorem dX6_of_0 : decode cX6_of 0 = .ok (.aload_n 0, 1) := dk_42 (dk_at dksX6_of_0 0 rfl rfl)
theorem dX6_of_1 : decode cX6_of 1 = .ok (.getfield 21, 3) := dk_180 0 21 (dk_at dksX6_of_0 1 rfl rfl)
theorem dX6_of_4 : decode cX6_of 4 = .ok (.aload_n 1, 1) := dk_43 (dk_at dksX6_of_0 4 rfl rfl)
theorem dX6_of_5 : decode cX6_of 5 = .ok (.invokeinterface 39 2, 5) := by decide +kernel
theorem dX6_of_10 : decode cX6_of 10 = .ok (.lstore_n 2, 1) := dk_65 (dk_at dksX6_of_0 10 rfl rfl)
theorem dX6_of_11 : decode cX6_of 11 = .ok (.iconst 0, 1) := dk_3 (dk_at dksX6_of_0 11 rfl rfl)
theorem dX6_of_12 : decode cX6_of 12 = .ok (.istore 4, 2) := dk_54 4 (dk_at dksX6_of_0 12 rfl rfl)
theorem dX6_of_14 : decode cX6_of 14 = .ok (.iload 4, 2) := dk_21 4 (dk_at dksX6_of_0 14 rfl rfl)
theorem dX6_of_16 : decode cX6_of 16 = .ok (.aload_n 0, 1) := dk_42 (dk_at dksX6_of_0 16 rfl rfl)
theorem dX6_of_17 : decode cX6_of 17 = .ok (.getfield 12, 3) := dk_180 0 12 (dk_at dksX6_of_0 17 rfl rfl)
theorem dX6_of_20 : decode cX6_of 20 = .ok (.invokevirtual 45, 3) := dk_182 0 45 (dk_at dksX6_of_0 20 rfl rfl)
theorem dX6_of_23 : decode cX6_of 23 = .ok (.if_icmp .ge 136, 3) := dk_162 0 136 (dk_at dksX6_of_1 0 rfl rfl)
theorem dX6_of_26 : decode cX6_of 26 = .ok (.aload_n 0, 1) := dk_42 (dk_at dksX6_of_1 3 rfl rfl)
theorem dX6_of_27 : decode cX6_of 27 = .ok (.getfield 12, 3) := dk_180 0 12 (dk_at dksX6_of_1 4 rfl rfl)
theorem dX6_of_30 : decode cX6_of 30 = .ok (.iload 4, 2) := dk_21 4 (dk_at dksX6_of_1 7 rfl rfl)
theorem dX6_of_32 : decode cX6_of 32 = .ok (.invokevirtual 49, 3) := dk_182 0 49 (dk_at dksX6_of_1 9 rfl rfl)
theorem dX6_of_35 : decode cX6_of 35 = .ok (.checkcast 40, 3) := dk_192 0 40 (dk_at dksX6_of_1 12 rfl rfl)
theorem dX6_of_38 : decode cX6_of 38 = .ok (.aload_n 1, 1) := dk_43 (dk_at dksX6_of_1 15 rfl rfl)
theorem dX6_of_39 : decode cX6_of 39 = .ok (.invokeinterface 39 2, 5) := by decide +kernel
theorem dX6_of_44 : decode cX6_of 44 = .ok (.lstore 5, 2) := dk_55 5 (dk_at dksX6_of_1 21 rfl rfl)
theorem dX6_of_46 : decode cX6_of 46 = .ok (.aload_n 0, 1) := dk_42 (dk_at dksX6_of_1 23 rfl rfl)
theorem dX6_of_47 : decode cX6_of 47 = .ok (.getfield 18, 3) := dk_180 0 18 (dk_at dksX6_of_2 0 rfl rfl)
theorem dX6_of_50 : decode cX6_of 50 = .ok (.iload 4, 2) := dk_21 4 (dk_at dksX6_of_2 3 rfl rfl)
theorem dX6_of_52 : decode cX6_of 52 = .ok (.invokevirtual 49, 3) := dk_182 0 49 (dk_at dksX6_of_2 5 rfl rfl)
theorem dX6_of_55 : decode cX6_of 55 = .ok (.checkcast 26, 3) := dk_192 0 26 (dk_at dksX6_of_2 8 rfl rfl)
theorem dX6_of_58 : decode cX6_of 58 = .ok (.invokevirtual 53, 3) := dk_182 0 53 (dk_at dksX6_of_2 11 rfl rfl)
theorem dX6_of_61 : decode cX6_of 61 = .ok (.istore 7, 2) := dk_54 7 (dk_at dksX6_of_2 14 rfl rfl)
theorem dX6_of_63 : decode cX6_of 63 = .ok (.iload 7, 2) := dk_21 7 (dk_at dksX6_of_2 16 rfl rfl)
theorem dX6_of_65 : decode cX6_of 65 = .ok (.bipush 43, 2) := dk_16 43 (dk_at dksX6_of_2 18 rfl rfl)
theorem dX6_of_67 : decode cX6_of 67 = .ok (.if_icmp .ne 10, 3) := dk_160 0 10 (dk_at dksX6_of_2 20 rfl rfl)
theorem dX6_of_70 : decode cX6_of 70 = .ok (.lload_n 2, 1) := dk_32 (dk_at dksX6_of_2 23 rfl rfl)
theorem dX6_of_71 : decode cX6_of 71 = .ok (.lload 5, 2) := dk_22 5 (dk_at dksX6_of_3 0 rfl rfl)
theorem dX6_of_73 : decode cX6_of 73 = .ok (.ladd, 1) := dk_97 (dk_at dksX6_of_3 2 rfl rfl)
theorem dX6_of_74 : decode cX6_of 74 = .ok (.goto 62, 3) := dk_167 0 62 (dk_at dksX6_of_3 3 rfl rfl)
theorem dX6_of_77 : decode cX6_of 77 = .ok (.iload 7, 2) := dk_21 7 (dk_at dksX6_of_3 6 rfl rfl)
theorem dX6_of_79 : decode cX6_of 79 = .ok (.bipush 45, 2) := dk_16 45 (dk_at dksX6_of_3 8 rfl rfl)
theorem dX6_of_81 : decode cX6_of 81 = .ok (.if_icmp .ne 10, 3) := dk_160 0 10 (dk_at dksX6_of_3 10 rfl rfl)
theorem dX6_of_84 : decode cX6_of 84 = .ok (.lload_n 2, 1) := dk_32 (dk_at dksX6_of_3 13 rfl rfl)
theorem dX6_of_85 : decode cX6_of 85 = .ok (.lload 5, 2) := dk_22 5 (dk_at dksX6_of_3 14 rfl rfl)
theorem dX6_of_87 : decode cX6_of 87 = .ok (.lsub, 1) := dk_101 (dk_at dksX6_of_3 16 rfl rfl)
theorem dX6_of_88 : decode cX6_of 88 = .ok (.goto 48, 3) := dk_167 0 48 (dk_at dksX6_of_3 17 rfl rfl)
theorem dX6_of_91 : decode cX6_of 91 = .ok (.iload 7, 2) := dk_21 7 (dk_at dksX6_of_3 20 rfl rfl)
theorem dX6_of_93 : decode cX6_of 93 = .ok (.bipush 42, 2) := dk_16 42 (dk_at dksX6_of_3 22 rfl rfl)
theorem dX6_of_95 : decode cX6_of 95 = .ok (.if_icmp .ne 10, 3) := dk_160 0 10 (dk_at dksX6_of_4 0 rfl rfl)
theorem dX6_of_98 : decode cX6_of 98 = .ok (.lload_n 2, 1) := dk_32 (dk_at dksX6_of_4 3 rfl rfl)
theorem dX6_of_99 : decode cX6_of 99 = .ok (.lload 5, 2) := dk_22 5 (dk_at dksX6_of_4 4 rfl rfl)
theorem dX6_of_101 : decode cX6_of 101 = .ok (.lmul, 1) := dk_105 (dk_at dksX6_of_4 6 rfl rfl)
theorem dX6_of_102 : decode cX6_of 102 = .ok (.goto 34, 3) := dk_167 0 34 (dk_at dksX6_of_4 7 rfl rfl)
theorem dX6_of_105 : decode cX6_of 105 = .ok (.iload 7, 2) := dk_21 7 (dk_at dksX6_of_4 10 rfl rfl)
theorem dX6_of_107 : decode cX6_of 107 = .ok (.bipush 94, 2) := dk_16 94 (dk_at dksX6_of_4 12 rfl rfl)
theorem dX6_of_109 : decode cX6_of 109 = .ok (.if_icmp .ne 12, 3) := dk_160 0 12 (dk_at dksX6_of_4 14 rfl rfl)
theorem dX6_of_112 : decode cX6_of 112 = .ok (.lload_n 2, 1) := dk_32 (dk_at dksX6_of_4 17 rfl rfl)
theorem dX6_of_113 : decode cX6_of 113 = .ok (.lload 5, 2) := dk_22 5 (dk_at dksX6_of_4 18 rfl rfl)
theorem dX6_of_115 : decode cX6_of 115 = .ok (.invokestatic 56, 3) := dk_184 0 56 (dk_at dksX6_of_4 20 rfl rfl)
theorem dX6_of_118 : decode cX6_of 118 = .ok (.goto 18, 3) := dk_167 0 18 (dk_at dksX6_of_5 0 rfl rfl)
theorem dX6_of_121 : decode cX6_of 121 = .ok (.lload 5, 2) := dk_22 5 (dk_at dksX6_of_5 3 rfl rfl)
theorem dX6_of_123 : decode cX6_of 123 = .ok (.lconst 0, 1) := dk_9 (dk_at dksX6_of_5 5 rfl rfl)
theorem dX6_of_124 : decode cX6_of 124 = .ok (.lcmp, 1) := dk_148 (dk_at dksX6_of_5 6 rfl rfl)
theorem dX6_of_125 : decode cX6_of 125 = .ok (.ifCond .ne 7, 3) := dk_154 0 7 (dk_at dksX6_of_5 7 rfl rfl)
theorem dX6_of_128 : decode cX6_of 128 = .ok (.lconst 0, 1) := dk_9 (dk_at dksX6_of_5 10 rfl rfl)
theorem dX6_of_129 : decode cX6_of 129 = .ok (.goto 7, 3) := dk_167 0 7 (dk_at dksX6_of_5 11 rfl rfl)
theorem dX6_of_132 : decode cX6_of 132 = .ok (.lload_n 2, 1) := dk_32 (dk_at dksX6_of_5 14 rfl rfl)
theorem dX6_of_133 : decode cX6_of 133 = .ok (.lload 5, 2) := dk_22 5 (dk_at dksX6_of_5 15 rfl rfl)
theorem dX6_of_135 : decode cX6_of 135 = .ok (.ldiv, 1) := dk_109 (dk_at dksX6_of_5 17 rfl rfl)
theorem dX6_of_136 : decode cX6_of 136 = .ok (.lstore 8, 2) := dk_55 8 (dk_at dksX6_of_5 18 rfl rfl)
theorem dX6_of_138 : decode cX6_of 138 = .ok (.ldc2_w 60, 3) := dk_20 0 60 (dk_at dksX6_of_5 20 rfl rfl)
theorem dX6_of_141 : decode cX6_of 141 = .ok (.ldc2_w 62, 3) := dk_20 0 62 (dk_at dksX6_of_6 0 rfl rfl)
theorem dX6_of_144 : decode cX6_of 144 = .ok (.lload 8, 2) := dk_22 8 (dk_at dksX6_of_6 3 rfl rfl)
theorem dX6_of_146 : decode cX6_of 146 = .ok (.invokestatic 64, 3) := dk_184 0 64 (dk_at dksX6_of_6 5 rfl rfl)
theorem dX6_of_149 : decode cX6_of 149 = .ok (.invokestatic 69, 3) := dk_184 0 69 (dk_at dksX6_of_6 8 rfl rfl)
theorem dX6_of_152 : decode cX6_of 152 = .ok (.lstore_n 2, 1) := dk_65 (dk_at dksX6_of_6 11 rfl rfl)
theorem dX6_of_153 : decode cX6_of 153 = .ok (.iinc 4 1, 3) := dk_132 4 1 (dk_at dksX6_of_6 12 rfl rfl)
theorem dX6_of_156 : decode cX6_of 156 = .ok (.goto (-142), 3) := dk_167 255 114 (dk_at dksX6_of_6 15 rfl rfl)
theorem dX6_of_159 : decode cX6_of 159 = .ok (.lload_n 2, 1) := dk_32 (dk_at dksX6_of_6 18 rfl rfl)
theorem dX6_of_160 : decode cX6_of 160 = .ok (.lreturn, 1) := dk_173 (dk_at dksX6_of_6 19 rfl rfl)
theorem q142 : (Jvm.Cond.initialized "ShaveOfAnother$Chain") ∈ lw_all := lw_g (lw_at lw_m1 19 rfl) rfl
theorem q552 : (Jvm.Cond.instantiable "ShaveOfAnother$Chain" (3 : Nat)) ∈ lw_all := lw_g (lw_at lw_m2 189 rfl) rfl
theorem q665 : (Jvm.Cond.selects "ShaveOfAnother$Chain" ({ cls := "java/lang/Object", name := "getClass", desc := "()Ljava/lang/Class;" } : Jvm.MethodName) ({ cls := "java/lang/Object", name := "getClass", desc := "()Ljava/lang/Class;" } : Jvm.MethodName)) ∈ lw_all := lw_g (lw_at lw_m3 62 rfl) rfl
theorem q789 : (Jvm.Cond.instanceMethod ({ cls := "ShaveOfAnother$Chain", name := "<init>", desc := "(LShaveOfAnother$Sum;)V" } : Jvm.MethodName)) ∈ lw_all := lw_g (lw_at lw_m3 186 rfl) rfl
theorem q790 : (Jvm.Cond.code ({ cls := "ShaveOfAnother$Chain", name := "<init>", desc := "(LShaveOfAnother$Sum;)V" } : Jvm.MethodName) prog_5_method_1_code (2 : Nat) (Option.none : Option Jvm.ClassFile.FieldType)) ∈ lw_all := lw_g (lw_at lw_m3 187 rfl) rfl
theorem q791 : (Jvm.Cond.methodLink "ShaveOfAnother$Chain" (3 : Nat) ({ cls := "java/lang/Object", name := "<init>", desc := "()V" } : Jvm.MethodName)) ∈ lw_all := lw_g (lw_at lw_m3 188 rfl) rfl
theorem q792 : (Jvm.Cond.classLink "ShaveOfAnother$Chain" (9 : Nat) "java/util/ArrayList") ∈ lw_all := lw_g (lw_at lw_m3 189 rfl) rfl
theorem q793 : (Jvm.Cond.methodLink "ShaveOfAnother$Chain" (11 : Nat) ({ cls := "java/util/ArrayList", name := "<init>", desc := "()V" } : Jvm.MethodName)) ∈ lw_all := lw_g (lw_at lw_m3 190 rfl) rfl
theorem q794 : (Jvm.Cond.fieldLink "ShaveOfAnother$Chain" (21 : Nat) "ShaveOfAnother$Chain" "first" "LShaveOfAnother$Sum;") ∈ lw_all := lw_g (lw_at lw_m3 191 rfl) rfl
theorem q795 : (Jvm.Cond.fieldLink "ShaveOfAnother$Chain" (12 : Nat) "ShaveOfAnother$Chain" "more" "Ljava/util/ArrayList;") ∈ lw_all := lw_g (lw_at lw_m3 192 rfl) rfl
theorem q796 : (Jvm.Cond.fieldLink "ShaveOfAnother$Chain" (18 : Nat) "ShaveOfAnother$Chain" "signs" "Ljava/util/ArrayList;") ∈ lw_all := lw_g (lw_at lw_m3 193 rfl) rfl
theorem q797 : (Jvm.Cond.laysFinal "ShaveOfAnother$Chain" "ShaveOfAnother$Chain" "first" "LShaveOfAnother$Sum;") ∈ lw_all := lw_g (lw_at lw_m3 194 rfl) rfl
theorem q798 : (Jvm.Cond.soleField "ShaveOfAnother$Chain" "first") ∈ lw_all := lw_g (lw_at lw_m3 195 rfl) rfl
theorem q799 : (Jvm.Cond.laysFinal "ShaveOfAnother$Chain" "ShaveOfAnother$Chain" "more" "Ljava/util/ArrayList;") ∈ lw_all := lw_g (lw_at lw_m3 196 rfl) rfl
theorem q800 : (Jvm.Cond.soleField "ShaveOfAnother$Chain" "more") ∈ lw_all := lw_g (lw_at lw_m3 197 rfl) rfl
theorem q801 : (Jvm.Cond.laysFinal "ShaveOfAnother$Chain" "ShaveOfAnother$Chain" "signs" "Ljava/util/ArrayList;") ∈ lw_all := lw_g (lw_at lw_m3 198 rfl) rfl
theorem q802 : (Jvm.Cond.soleField "ShaveOfAnother$Chain" "signs") ∈ lw_all := lw_g (lw_at lw_m3 199 rfl) rfl
theorem q803 : (Jvm.Cond.superclass "ShaveOfAnother$Chain" "java/lang/Object") ∈ lw_all := lw_g (lw_at lw_m3 200 rfl) rfl
theorem q805 : (Jvm.Cond.instanceMethod ({ cls := "ShaveOfAnother$Chain", name := "add", desc := "(ILShaveOfAnother$Sum;)V" } : Jvm.MethodName)) ∈ lw_all := lw_g (lw_at lw_m3 202 rfl) rfl
theorem q806 : (Jvm.Cond.selects "ShaveOfAnother$Chain" ({ cls := "ShaveOfAnother$Chain", name := "add", desc := "(ILShaveOfAnother$Sum;)V" } : Jvm.MethodName) ({ cls := "ShaveOfAnother$Chain", name := "add", desc := "(ILShaveOfAnother$Sum;)V" } : Jvm.MethodName)) ∈ lw_all := lw_g (lw_at lw_m3 203 rfl) rfl
theorem q807 : (Jvm.Cond.code ({ cls := "ShaveOfAnother$Chain", name := "add", desc := "(ILShaveOfAnother$Sum;)V" } : Jvm.MethodName) prog_5_method_2_code (3 : Nat) (Option.none : Option Jvm.ClassFile.FieldType)) ∈ lw_all := lw_g (lw_at lw_m3 204 rfl) rfl
theorem q808 : (Jvm.Cond.methodLink "ShaveOfAnother$Chain" (25 : Nat) ({ cls := "java/lang/Integer", name := "valueOf", desc := "(I)Ljava/lang/Integer;" } : Jvm.MethodName)) ∈ lw_all := lw_g (lw_at lw_m3 205 rfl) rfl
theorem q828 : (Jvm.Cond.methodLink "ShaveOfAnother$Chain" (31 : Nat) ({ cls := "java/util/ArrayList", name := "add", desc := "(Ljava/lang/Object;)Z" } : Jvm.MethodName)) ∈ lw_all := lw_g (lw_at lw_m3 225 rfl) rfl
theorem q830 : (Jvm.Cond.instanceMethod ({ cls := "ShaveOfAnother$Chain", name := "itself", desc := "()LShaveOfAnother$Sum;" } : Jvm.MethodName)) ∈ lw_all := lw_g (lw_at lw_m3 227 rfl) rfl
theorem q831 : (Jvm.Cond.selects "ShaveOfAnother$Chain" ({ cls := "ShaveOfAnother$Chain", name := "itself", desc := "()LShaveOfAnother$Sum;" } : Jvm.MethodName) ({ cls := "ShaveOfAnother$Chain", name := "itself", desc := "()LShaveOfAnother$Sum;" } : Jvm.MethodName)) ∈ lw_all := lw_g (lw_at lw_m3 228 rfl) rfl
theorem q832 : (Jvm.Cond.code ({ cls := "ShaveOfAnother$Chain", name := "itself", desc := "()LShaveOfAnother$Sum;" } : Jvm.MethodName) prog_5_method_3_code (1 : Nat) (Option.some (Jvm.ClassFile.FieldType.object "ShaveOfAnother$Sum"))) ∈ lw_all := lw_g (lw_at lw_m3 229 rfl) rfl
theorem q833 : (Jvm.Cond.methodLink "ShaveOfAnother$Chain" (35 : Nat) ({ cls := "java/util/ArrayList", name := "isEmpty", desc := "()Z" } : Jvm.MethodName)) ∈ lw_all := lw_g (lw_at lw_m3 230 rfl) rfl
theorem q915 : (Jvm.Cond.castable "ShaveOfAnother$Chain" "ShaveOfAnother$Sum") ∈ lw_tbl := lw_at lw_m4 72 rfl
theorem q916 : (Jvm.Cond.selects "ShaveOfAnother$Chain" ({ cls := "ShaveOfAnother$Sum", name := "of", desc := "([I)J" } : Jvm.MethodName) ({ cls := "ShaveOfAnother$Chain", name := "of", desc := "([I)J" } : Jvm.MethodName)) ∈ lw_all := lw_g (lw_at lw_m4 73 rfl) rfl
theorem q917 : (Jvm.Cond.unhidden "ShaveOfAnother$Chain" "of" "([I)J") ∈ lw_tbl := lw_at lw_m4 74 rfl
theorem q918 : (Jvm.Cond.instanceMethod ({ cls := "ShaveOfAnother$Chain", name := "of", desc := "([I)J" } : Jvm.MethodName)) ∈ lw_all := lw_g (lw_at lw_m4 75 rfl) rfl
theorem q919 : (Jvm.Cond.publicMethod ({ cls := "ShaveOfAnother$Chain", name := "of", desc := "([I)J" } : Jvm.MethodName)) ∈ lw_tbl := lw_at lw_m4 76 rfl
theorem q920 : (Jvm.Cond.code ({ cls := "ShaveOfAnother$Chain", name := "of", desc := "([I)J" } : Jvm.MethodName) prog_5_method_4_code (10 : Nat) (Option.some Jvm.ClassFile.FieldType.long)) ∈ lw_all := lw_g (lw_at lw_m4 77 rfl) rfl
theorem q921 : (Jvm.Cond.interfaceEntry "ShaveOfAnother$Chain" (39 : Nat)) ∈ lw_tbl := lw_at lw_m4 78 rfl
theorem q922 : (Jvm.Cond.methodLink "ShaveOfAnother$Chain" (39 : Nat) ({ cls := "ShaveOfAnother$Sum", name := "of", desc := "([I)J" } : Jvm.MethodName)) ∈ lw_all := lw_g (lw_at lw_m4 79 rfl) rfl
theorem q982 : (Jvm.Cond.methodLink "ShaveOfAnother$Chain" (45 : Nat) ({ cls := "java/util/ArrayList", name := "size", desc := "()I" } : Jvm.MethodName)) ∈ lw_all := lw_g (lw_at lw_m4 139 rfl) rfl
theorem q983 : (Jvm.Cond.methodLink "ShaveOfAnother$Chain" (49 : Nat) ({ cls := "java/util/ArrayList", name := "get", desc := "(I)Ljava/lang/Object;" } : Jvm.MethodName)) ∈ lw_all := lw_g (lw_at lw_m4 140 rfl) rfl
theorem q984 : (Jvm.Cond.classLink "ShaveOfAnother$Chain" (40 : Nat) "ShaveOfAnother$Sum") ∈ lw_all := lw_g (lw_at lw_m4 141 rfl) rfl
theorem q985 : (Jvm.Cond.classLink "ShaveOfAnother$Chain" (26 : Nat) "java/lang/Integer") ∈ lw_all := lw_g (lw_at lw_m4 142 rfl) rfl
theorem q986 : (Jvm.Cond.methodLink "ShaveOfAnother$Chain" (53 : Nat) ({ cls := "java/lang/Integer", name := "intValue", desc := "()I" } : Jvm.MethodName)) ∈ lw_all := lw_g (lw_at lw_m4 143 rfl) rfl
theorem q990 : (Jvm.Cond.methodLinkNest "ShaveOfAnother$Chain" (56 : Nat) ({ cls := "ShaveOfAnother", name := "powered", desc := "(JJ)J" } : Jvm.MethodName) "ShaveOfAnother") ∈ lw_tbl := lw_at lw_m4 147 rfl
theorem q1003 : (Jvm.Cond.constantLong "ShaveOfAnother$Chain" (60 : Nat) (-1000000 : Int64)) ∈ lw_all := lw_g (lw_at lw_m4 160 rfl) rfl
theorem q1004 : (Jvm.Cond.constantLong "ShaveOfAnother$Chain" (62 : Nat) (1000000 : Int64)) ∈ lw_all := lw_g (lw_at lw_m4 161 rfl) rfl
theorem q1005 : (Jvm.Cond.methodLink "ShaveOfAnother$Chain" (64 : Nat) ({ cls := "java/lang/Math", name := "min", desc := "(JJ)J" } : Jvm.MethodName)) ∈ lw_all := lw_g (lw_at lw_m4 162 rfl) rfl
theorem q1006 : (Jvm.Cond.methodLink "ShaveOfAnother$Chain" (69 : Nat) ({ cls := "java/lang/Math", name := "max", desc := "(JJ)J" } : Jvm.MethodName)) ∈ lw_all := lw_g (lw_at lw_m4 163 rfl) rfl
theorem q2054 : (Jvm.Cond.castable "ShaveOfAnother$Chain" "java/lang/Object") ∈ lw_tbl := lw_at lw_m9 11 rfl
theorem in_X6 : ∀ w ∈ wsX60, w ∈ lw_all := lw_in wsX60 [797, 799, 801] (by decide +kernel) (by decide +kernel)

/-! ShaveOfAnother$Plain -/
set_option maxRecDepth 100000
def RX7 : String := "ShaveOfAnother$Plain"
def TX7 : u_T := fun k => match k with
  | _ => ("ShaveOfAnother$Plain", "n", "I", true)
def tyX7 : Nat → FieldType := fun k => match k with
  | _ => .int
abbrev wsX70 : List Cond := u_ws RX7 TX7 1
theorem nmX7 : ∀ a, a < 1 → ∀ b, b < 1 → a ≠ b → (TX7 a).2.1 ≠ (TX7 b).2.1 := by decide +kernel
theorem tyX7_ok : ∀ k, k < 1 → parseFieldDescriptor (TX7 k).2.2.1 = some (tyX7 k) := by decide +kernel
abbrev cX7_init : ByteArray := prog_12_method_1_code
def yX7_init : MethodName := ⟨RX7, "<init>", "(I)V"⟩
def dkwX7_init_0 : List UInt8 := [42, 183, 0, 1, 42, 27, 181, 0, 7, 177]
abbrev dktX7_init_0 : List UInt8 := dkwX7_init_0 ++ []
theorem dksX7_init_0 : cX7_init.data.toList.drop 0 = dktX7_init_0 := by decide +kernel
theorem dX7_init_0 : decode cX7_init 0 = .ok (.aload_n 0, 1) := dk_42 (dk_at dksX7_init_0 0 rfl rfl)
theorem dX7_init_1 : decode cX7_init 1 = .ok (.invokespecial 1, 3) := dk_183 0 1 (dk_at dksX7_init_0 1 rfl rfl)
theorem dX7_init_4 : decode cX7_init 4 = .ok (.aload_n 0, 1) := dk_42 (dk_at dksX7_init_0 4 rfl rfl)
theorem dX7_init_5 : decode cX7_init 5 = .ok (.iload_n 1, 1) := dk_27 (dk_at dksX7_init_0 5 rfl rfl)
theorem dX7_init_6 : decode cX7_init 6 = .ok (.putfield 7, 3) := dk_181 0 7 (dk_at dksX7_init_0 6 rfl rfl)
theorem dX7_init_9 : decode cX7_init 9 = .ok (.return_, 1) := dk_177 (dk_at dksX7_init_0 9 rfl rfl)
abbrev cX7_of : ByteArray := prog_12_method_2_code
def yX7_of : MethodName := ⟨RX7, "of", "([I)J"⟩
def dkwX7_of_0 : List UInt8 := [42, 180, 0, 7, 133, 173]
abbrev dktX7_of_0 : List UInt8 := dkwX7_of_0 ++ []
theorem dksX7_of_0 : cX7_of.data.toList.drop 0 = dktX7_of_0 := by decide +kernel
theorem dX7_of_0 : decode cX7_of 0 = .ok (.aload_n 0, 1) := dk_42 (dk_at dksX7_of_0 0 rfl rfl)
theorem dX7_of_1 : decode cX7_of 1 = .ok (.getfield 7, 3) := dk_180 0 7 (dk_at dksX7_of_0 1 rfl rfl)
theorem dX7_of_4 : decode cX7_of 4 = .ok (.i2l, 1) := dk_133 (dk_at dksX7_of_0 4 rfl rfl)
theorem dX7_of_5 : decode cX7_of 5 = .ok (.lreturn, 1) := dk_173 (dk_at dksX7_of_0 5 rfl rfl)
theorem q144 : (Jvm.Cond.initialized "ShaveOfAnother$Plain") ∈ lw_all := lw_g (lw_at lw_m1 21 rfl) rfl
theorem q566 : (Jvm.Cond.instantiable "ShaveOfAnother$Plain" (1 : Nat)) ∈ lw_all := lw_g (lw_at lw_m2 203 rfl) rfl
theorem q572 : (Jvm.Cond.instanceMethod ({ cls := "ShaveOfAnother$Plain", name := "<init>", desc := "(I)V" } : Jvm.MethodName)) ∈ lw_all := lw_g (lw_at lw_m2 209 rfl) rfl
theorem q573 : (Jvm.Cond.code ({ cls := "ShaveOfAnother$Plain", name := "<init>", desc := "(I)V" } : Jvm.MethodName) prog_12_method_1_code (2 : Nat) (Option.none : Option Jvm.ClassFile.FieldType)) ∈ lw_all := lw_g (lw_at lw_m2 210 rfl) rfl
theorem q574 : (Jvm.Cond.methodLink "ShaveOfAnother$Plain" (1 : Nat) ({ cls := "java/lang/Record", name := "<init>", desc := "()V" } : Jvm.MethodName)) ∈ lw_all := lw_g (lw_at lw_m2 211 rfl) rfl
theorem q578 : (Jvm.Cond.fieldLink "ShaveOfAnother$Plain" (7 : Nat) "ShaveOfAnother$Plain" "n" "I") ∈ lw_all := lw_g (lw_at lw_m2 215 rfl) rfl
theorem q579 : (Jvm.Cond.laysFinal "ShaveOfAnother$Plain" "ShaveOfAnother$Plain" "n" "I") ∈ lw_all := lw_g (lw_at lw_m2 216 rfl) rfl
theorem q580 : (Jvm.Cond.soleField "ShaveOfAnother$Plain" "n") ∈ lw_all := lw_g (lw_at lw_m2 217 rfl) rfl
theorem q581 : (Jvm.Cond.superclass "ShaveOfAnother$Plain" "java/lang/Record") ∈ lw_all := lw_g (lw_at lw_m2 218 rfl) rfl
theorem q672 : (Jvm.Cond.selects "ShaveOfAnother$Plain" ({ cls := "java/lang/Object", name := "getClass", desc := "()Ljava/lang/Class;" } : Jvm.MethodName) ({ cls := "java/lang/Object", name := "getClass", desc := "()Ljava/lang/Class;" } : Jvm.MethodName)) ∈ lw_all := lw_g (lw_at lw_m3 69 rfl) rfl
theorem q966 : (Jvm.Cond.castable "ShaveOfAnother$Plain" "ShaveOfAnother$Sum") ∈ lw_tbl := lw_at lw_m4 123 rfl
theorem q967 : (Jvm.Cond.selects "ShaveOfAnother$Plain" ({ cls := "ShaveOfAnother$Sum", name := "of", desc := "([I)J" } : Jvm.MethodName) ({ cls := "ShaveOfAnother$Plain", name := "of", desc := "([I)J" } : Jvm.MethodName)) ∈ lw_all := lw_g (lw_at lw_m4 124 rfl) rfl
theorem q968 : (Jvm.Cond.unhidden "ShaveOfAnother$Plain" "of" "([I)J") ∈ lw_tbl := lw_at lw_m4 125 rfl
theorem q969 : (Jvm.Cond.instanceMethod ({ cls := "ShaveOfAnother$Plain", name := "of", desc := "([I)J" } : Jvm.MethodName)) ∈ lw_all := lw_g (lw_at lw_m4 126 rfl) rfl
theorem q970 : (Jvm.Cond.publicMethod ({ cls := "ShaveOfAnother$Plain", name := "of", desc := "([I)J" } : Jvm.MethodName)) ∈ lw_tbl := lw_at lw_m4 127 rfl
theorem q971 : (Jvm.Cond.code ({ cls := "ShaveOfAnother$Plain", name := "of", desc := "([I)J" } : Jvm.MethodName) prog_12_method_2_code (2 : Nat) (Option.some Jvm.ClassFile.FieldType.long)) ∈ lw_all := lw_g (lw_at lw_m4 128 rfl) rfl
theorem q2055 : (Jvm.Cond.castable "ShaveOfAnother$Plain" "java/lang/Object") ∈ lw_tbl := lw_at lw_m9 12 rfl
theorem in_X7 : ∀ w ∈ wsX70, w ∈ lw_all := lw_in wsX70 [579] (by decide +kernel) (by decide +kernel)

/-! ShaveOfAnother$Not -/
set_option maxRecDepth 100000
def RX8 : String := "ShaveOfAnother$Not"
def TX8 : u_T := fun k => match k with
  | _ => ("ShaveOfAnother$Not", "x", "LShaveOfAnother$Asked;", true)
def tyX8 : Nat → FieldType := fun k => match k with
  | _ => .object "ShaveOfAnother$Asked"
abbrev wsX80 : List Cond := u_ws RX8 TX8 1
theorem nmX8 : ∀ a, a < 1 → ∀ b, b < 1 → a ≠ b → (TX8 a).2.1 ≠ (TX8 b).2.1 := by decide +kernel
theorem tyX8_ok : ∀ k, k < 1 → parseFieldDescriptor (TX8 k).2.2.1 = some (tyX8 k) := by decide +kernel
abbrev cX8_init : ByteArray := prog_11_method_1_code
def yX8_init : MethodName := ⟨RX8, "<init>", "(LShaveOfAnother$Asked;)V"⟩
def dkwX8_init_0 : List UInt8 := [42, 183, 0, 1, 42, 43, 181, 0, 7, 177]
abbrev dktX8_init_0 : List UInt8 := dkwX8_init_0 ++ []
theorem dksX8_init_0 : cX8_init.data.toList.drop 0 = dktX8_init_0 := by decide +kernel
theorem dX8_init_0 : decode cX8_init 0 = .ok (.aload_n 0, 1) := dk_42 (dk_at dksX8_init_0 0 rfl rfl)
theorem dX8_init_1 : decode cX8_init 1 = .ok (.invokespecial 1, 3) := dk_183 0 1 (dk_at dksX8_init_0 1 rfl rfl)
theorem dX8_init_4 : decode cX8_init 4 = .ok (.aload_n 0, 1) := dk_42 (dk_at dksX8_init_0 4 rfl rfl)
theorem dX8_init_5 : decode cX8_init 5 = .ok (.aload_n 1, 1) := dk_43 (dk_at dksX8_init_0 5 rfl rfl)
theorem dX8_init_6 : decode cX8_init 6 = .ok (.putfield 7, 3) := dk_181 0 7 (dk_at dksX8_init_0 6 rfl rfl)
theorem dX8_init_9 : decode cX8_init 9 = .ok (.return_, 1) := dk_177 (dk_at dksX8_init_0 9 rfl rfl)
abbrev cX8_is : ByteArray := prog_11_method_2_code
def yX8_is : MethodName := ⟨RX8, "is", "([I)Z"⟩
def dkwX8_is_0 : List UInt8 := [42, 180, 0, 7, 43, 185, 0, 13, 2, 0, 154, 0, 7, 4, 167, 0, 4, 3, 172]
abbrev dktX8_is_0 : List UInt8 := dkwX8_is_0 ++ []
theorem dksX8_is_0 : cX8_is.data.toList.drop 0 = dktX8_is_0 := by decide +kernel
theorem dX8_is_0 : decode cX8_is 0 = .ok (.aload_n 0, 1) := dk_42 (dk_at dksX8_is_0 0 rfl rfl)
theorem dX8_is_1 : decode cX8_is 1 = .ok (.getfield 7, 3) := dk_180 0 7 (dk_at dksX8_is_0 1 rfl rfl)
theorem dX8_is_4 : decode cX8_is 4 = .ok (.aload_n 1, 1) := dk_43 (dk_at dksX8_is_0 4 rfl rfl)
theorem dX8_is_5 : decode cX8_is 5 = .ok (.invokeinterface 13 2, 5) := by decide +kernel
theorem dX8_is_10 : decode cX8_is 10 = .ok (.ifCond .ne 7, 3) := dk_154 0 7 (dk_at dksX8_is_0 10 rfl rfl)
theorem dX8_is_13 : decode cX8_is 13 = .ok (.iconst 1, 1) := dk_4 (dk_at dksX8_is_0 13 rfl rfl)
theorem dX8_is_14 : decode cX8_is 14 = .ok (.goto 4, 3) := dk_167 0 4 (dk_at dksX8_is_0 14 rfl rfl)
theorem dX8_is_17 : decode cX8_is 17 = .ok (.iconst 0, 1) := dk_3 (dk_at dksX8_is_0 17 rfl rfl)
theorem dX8_is_18 : decode cX8_is 18 = .ok (.ireturn, 1) := dk_172 (dk_at dksX8_is_0 18 rfl rfl)
theorem q145 : (Jvm.Cond.initialized "ShaveOfAnother$Not") ∈ lw_all := lw_g (lw_at lw_m1 22 rfl) rfl
theorem q605 : (Jvm.Cond.instantiable "ShaveOfAnother$Not" (1 : Nat)) ∈ lw_all := lw_g (lw_at lw_m3 2 rfl) rfl
theorem q607 : (Jvm.Cond.instanceMethod ({ cls := "ShaveOfAnother$Not", name := "<init>", desc := "(LShaveOfAnother$Asked;)V" } : Jvm.MethodName)) ∈ lw_all := lw_g (lw_at lw_m3 4 rfl) rfl
theorem q608 : (Jvm.Cond.code ({ cls := "ShaveOfAnother$Not", name := "<init>", desc := "(LShaveOfAnother$Asked;)V" } : Jvm.MethodName) prog_11_method_1_code (2 : Nat) (Option.none : Option Jvm.ClassFile.FieldType)) ∈ lw_all := lw_g (lw_at lw_m3 5 rfl) rfl
theorem q609 : (Jvm.Cond.methodLink "ShaveOfAnother$Not" (1 : Nat) ({ cls := "java/lang/Record", name := "<init>", desc := "()V" } : Jvm.MethodName)) ∈ lw_all := lw_g (lw_at lw_m3 6 rfl) rfl
theorem q610 : (Jvm.Cond.fieldLink "ShaveOfAnother$Not" (7 : Nat) "ShaveOfAnother$Not" "x" "LShaveOfAnother$Asked;") ∈ lw_all := lw_g (lw_at lw_m3 7 rfl) rfl
theorem q611 : (Jvm.Cond.laysFinal "ShaveOfAnother$Not" "ShaveOfAnother$Not" "x" "LShaveOfAnother$Asked;") ∈ lw_all := lw_g (lw_at lw_m3 8 rfl) rfl
theorem q612 : (Jvm.Cond.soleField "ShaveOfAnother$Not" "x") ∈ lw_all := lw_g (lw_at lw_m3 9 rfl) rfl
theorem q613 : (Jvm.Cond.superclass "ShaveOfAnother$Not" "java/lang/Record") ∈ lw_all := lw_g (lw_at lw_m3 10 rfl) rfl
theorem q671 : (Jvm.Cond.selects "ShaveOfAnother$Not" ({ cls := "java/lang/Object", name := "getClass", desc := "()Ljava/lang/Class;" } : Jvm.MethodName) ({ cls := "java/lang/Object", name := "getClass", desc := "()Ljava/lang/Class;" } : Jvm.MethodName)) ∈ lw_all := lw_g (lw_at lw_m3 68 rfl) rfl
theorem q972 : (Jvm.Cond.castable "ShaveOfAnother$Not" "ShaveOfAnother$Asked") ∈ lw_tbl := lw_at lw_m4 129 rfl
theorem q973 : (Jvm.Cond.selects "ShaveOfAnother$Not" ({ cls := "ShaveOfAnother$Asked", name := "is", desc := "([I)Z" } : Jvm.MethodName) ({ cls := "ShaveOfAnother$Not", name := "is", desc := "([I)Z" } : Jvm.MethodName)) ∈ lw_all := lw_g (lw_at lw_m4 130 rfl) rfl
theorem q974 : (Jvm.Cond.unhidden "ShaveOfAnother$Not" "is" "([I)Z") ∈ lw_tbl := lw_at lw_m4 131 rfl
theorem q975 : (Jvm.Cond.instanceMethod ({ cls := "ShaveOfAnother$Not", name := "is", desc := "([I)Z" } : Jvm.MethodName)) ∈ lw_all := lw_g (lw_at lw_m4 132 rfl) rfl
theorem q976 : (Jvm.Cond.publicMethod ({ cls := "ShaveOfAnother$Not", name := "is", desc := "([I)Z" } : Jvm.MethodName)) ∈ lw_tbl := lw_at lw_m4 133 rfl
theorem q977 : (Jvm.Cond.code ({ cls := "ShaveOfAnother$Not", name := "is", desc := "([I)Z" } : Jvm.MethodName) prog_11_method_2_code (2 : Nat) (Option.some Jvm.ClassFile.FieldType.boolean)) ∈ lw_all := lw_g (lw_at lw_m4 134 rfl) rfl
theorem q978 : (Jvm.Cond.interfaceEntry "ShaveOfAnother$Not" (13 : Nat)) ∈ lw_tbl := lw_at lw_m4 135 rfl
theorem q979 : (Jvm.Cond.methodLink "ShaveOfAnother$Not" (13 : Nat) ({ cls := "ShaveOfAnother$Asked", name := "is", desc := "([I)Z" } : Jvm.MethodName)) ∈ lw_all := lw_g (lw_at lw_m4 136 rfl) rfl
theorem q2056 : (Jvm.Cond.castable "ShaveOfAnother$Not" "java/lang/Object") ∈ lw_tbl := lw_at lw_m9 13 rfl
theorem in_X8 : ∀ w ∈ wsX80, w ∈ lw_all := lw_in wsX80 [611] (by decide +kernel) (by decide +kernel)

/-! ShaveOfAnother$Compared -/
set_option maxRecDepth 100000
def RX9 : String := "ShaveOfAnother$Compared"
def TX9 : u_T := fun k => match k with
  | 0 => ("ShaveOfAnother$Compared", "sign", "I", true)
  | 1 => ("ShaveOfAnother$Compared", "a", "LShaveOfAnother$Sum;", true)
  | _ => ("ShaveOfAnother$Compared", "b", "LShaveOfAnother$Sum;", true)
def tyX9 : Nat → FieldType := fun k => match k with
  | 0 => .int
  | 1 => .object "ShaveOfAnother$Sum"
  | _ => .object "ShaveOfAnother$Sum"
abbrev wsX90 : List Cond := u_ws RX9 TX9 3
theorem nmX9 : ∀ a, a < 3 → ∀ b, b < 3 → a ≠ b → (TX9 a).2.1 ≠ (TX9 b).2.1 := by decide +kernel
theorem tyX9_ok : ∀ k, k < 3 → parseFieldDescriptor (TX9 k).2.2.1 = some (tyX9 k) := by decide +kernel
abbrev cX9_init : ByteArray := prog_6_method_1_code
def yX9_init : MethodName := ⟨RX9, "<init>", "(ILShaveOfAnother$Sum;LShaveOfAnother$Sum;)V"⟩
def dkwX9_init_0 : List UInt8 := [42, 183, 0, 1, 42, 27, 181, 0, 7, 42, 44, 181, 0, 13, 42, 45, 181, 0, 17, 177]
abbrev dktX9_init_0 : List UInt8 := dkwX9_init_0 ++ []
theorem dksX9_init_0 : cX9_init.data.toList.drop 0 = dktX9_init_0 := by decide +kernel
theorem dX9_init_0 : decode cX9_init 0 = .ok (.aload_n 0, 1) := dk_42 (dk_at dksX9_init_0 0 rfl rfl)
theorem dX9_init_1 : decode cX9_init 1 = .ok (.invokespecial 1, 3) := dk_183 0 1 (dk_at dksX9_init_0 1 rfl rfl)
theorem dX9_init_4 : decode cX9_init 4 = .ok (.aload_n 0, 1) := dk_42 (dk_at dksX9_init_0 4 rfl rfl)
theorem dX9_init_5 : decode cX9_init 5 = .ok (.iload_n 1, 1) := dk_27 (dk_at dksX9_init_0 5 rfl rfl)
theorem dX9_init_6 : decode cX9_init 6 = .ok (.putfield 7, 3) := dk_181 0 7 (dk_at dksX9_init_0 6 rfl rfl)
theorem dX9_init_9 : decode cX9_init 9 = .ok (.aload_n 0, 1) := dk_42 (dk_at dksX9_init_0 9 rfl rfl)
theorem dX9_init_10 : decode cX9_init 10 = .ok (.aload_n 2, 1) := dk_44 (dk_at dksX9_init_0 10 rfl rfl)
theorem dX9_init_11 : decode cX9_init 11 = .ok (.putfield 13, 3) := dk_181 0 13 (dk_at dksX9_init_0 11 rfl rfl)
theorem dX9_init_14 : decode cX9_init 14 = .ok (.aload_n 0, 1) := dk_42 (dk_at dksX9_init_0 14 rfl rfl)
theorem dX9_init_15 : decode cX9_init 15 = .ok (.aload_n 3, 1) := dk_45 (dk_at dksX9_init_0 15 rfl rfl)
theorem dX9_init_16 : decode cX9_init 16 = .ok (.putfield 17, 3) := dk_181 0 17 (dk_at dksX9_init_0 16 rfl rfl)
theorem dX9_init_19 : decode cX9_init 19 = .ok (.return_, 1) := dk_177 (dk_at dksX9_init_0 19 rfl rfl)
abbrev cX9_is : ByteArray := prog_6_method_2_code
def yX9_is : MethodName := ⟨RX9, "is", "([I)Z"⟩
def dkwX9_is_5 : List UInt8 := [32, 9, 148, 157, 0, 7, 4, 167, 0, 4, 3, 172, 32, 9, 148, 155, 0, 7, 4, 167, 0, 4, 3, 172]
abbrev dktX9_is_5 : List UInt8 := dkwX9_is_5 ++ []
def dkwX9_is_4 : List UInt8 := [32, 9, 148, 154, 0, 7, 4, 167, 0, 4, 3, 172, 32, 9, 148, 153, 0, 7, 4, 167, 0, 4, 3, 172]
abbrev dktX9_is_4 : List UInt8 := dkwX9_is_4 ++ dktX9_is_5
def dkwX9_is_3 : List UInt8 := [32, 9, 148, 156, 0, 7, 4, 167, 0, 4, 3, 172, 32, 9, 148, 158, 0, 7, 4, 167, 0, 4, 3, 172]
abbrev dktX9_is_3 : List UInt8 := dkwX9_is_3 ++ dktX9_is_4
def dkwX9_is_2 : List UInt8 := [171, 0, 0, 0, 0, 110, 0, 0, 0, 5, 0, 0, 0, 35, 0, 0, 0, 86, 0, 0, 0, 60, 0, 0, 0, 50, 0, 0, 0, 61, 0, 0, 0, 74, 0, 0, 0, 62, 0, 0, 0, 62, 0, 0, 1, 47, 0, 0, 0, 98]
abbrev dktX9_is_2 : List UInt8 := dkwX9_is_2 ++ dktX9_is_3
def dkwX9_is_1 : List UInt8 := [180, 0, 7]
abbrev dktX9_is_1 : List UInt8 := dkwX9_is_1 ++ dktX9_is_2
def dkwX9_is_0 : List UInt8 := [42, 180, 0, 13, 43, 185, 0, 20, 2, 0, 42, 180, 0, 17, 43, 185, 0, 20, 2, 0, 101, 65, 42]
abbrev dktX9_is_0 : List UInt8 := dkwX9_is_0 ++ dktX9_is_1
theorem dksX9_is_0 : cX9_is.data.toList.drop 0 = dktX9_is_0 := by decide +kernel
theorem dksX9_is_1 : cX9_is.data.toList.drop 23 = dktX9_is_1 := dk_seg dksX9_is_0 23 rfl rfl
theorem dksX9_is_2 : cX9_is.data.toList.drop 26 = dktX9_is_2 := dk_seg dksX9_is_1 3 rfl rfl
theorem dksX9_is_3 : cX9_is.data.toList.drop 76 = dktX9_is_3 := dk_seg dksX9_is_2 50 rfl rfl
theorem dksX9_is_4 : cX9_is.data.toList.drop 100 = dktX9_is_4 := dk_seg dksX9_is_3 24 rfl rfl
theorem dksX9_is_5 : cX9_is.data.toList.drop 124 = dktX9_is_5 := dk_seg dksX9_is_4 24 rfl rfl
theorem dX9_is_0 : decode cX9_is 0 = .ok (.aload_n 0, 1) := dk_42 (dk_at dksX9_is_0 0 rfl rfl)
theorem dX9_is_1 : decode cX9_is 1 = .ok (.getfield 13, 3) := dk_180 0 13 (dk_at dksX9_is_0 1 rfl rfl)
theorem dX9_is_4 : decode cX9_is 4 = .ok (.aload_n 1, 1) := dk_43 (dk_at dksX9_is_0 4 rfl rfl)
theorem dX9_is_5 : decode cX9_is 5 = .ok (.invokeinterface 20 2, 5) := by decide +kernel
theorem dX9_is_10 : decode cX9_is 10 = .ok (.aload_n 0, 1) := dk_42 (dk_at dksX9_is_0 10 rfl rfl)
theorem dX9_is_11 : decode cX9_is 11 = .ok (.getfield 17, 3) := dk_180 0 17 (dk_at dksX9_is_0 11 rfl rfl)
theorem dX9_is_14 : decode cX9_is 14 = .ok (.aload_n 1, 1) := dk_43 (dk_at dksX9_is_0 14 rfl rfl)
theorem dX9_is_15 : decode cX9_is 15 = .ok (.invokeinterface 20 2, 5) := by decide +kernel
theorem dX9_is_20 : decode cX9_is 20 = .ok (.lsub, 1) := dk_101 (dk_at dksX9_is_0 20 rfl rfl)
theorem dX9_is_21 : decode cX9_is 21 = .ok (.lstore_n 2, 1) := dk_65 (dk_at dksX9_is_0 21 rfl rfl)
theorem dX9_is_22 : decode cX9_is 22 = .ok (.aload_n 0, 1) := dk_42 (dk_at dksX9_is_0 22 rfl rfl)
theorem dX9_is_23 : decode cX9_is 23 = .ok (.getfield 7, 3) := dk_180 0 7 (dk_at dksX9_is_1 0 rfl rfl)
theorem dX9_is_26 : decode cX9_is 26 = .ok (.lookupswitch 110 #[(35, 86), (60, 50), (61, 74), (62, 62), (303, 98)], 50) := by decide +kernel
theorem dX9_is_76 : decode cX9_is 76 = .ok (.lload_n 2, 1) := dk_32 (dk_at dksX9_is_3 0 rfl rfl)
theorem dX9_is_77 : decode cX9_is 77 = .ok (.lconst 0, 1) := dk_9 (dk_at dksX9_is_3 1 rfl rfl)
theorem dX9_is_78 : decode cX9_is 78 = .ok (.lcmp, 1) := dk_148 (dk_at dksX9_is_3 2 rfl rfl)
theorem dX9_is_79 : decode cX9_is 79 = .ok (.ifCond .ge 7, 3) := dk_156 0 7 (dk_at dksX9_is_3 3 rfl rfl)
theorem dX9_is_82 : decode cX9_is 82 = .ok (.iconst 1, 1) := dk_4 (dk_at dksX9_is_3 6 rfl rfl)
theorem dX9_is_83 : decode cX9_is 83 = .ok (.goto 4, 3) := dk_167 0 4 (dk_at dksX9_is_3 7 rfl rfl)
theorem dX9_is_86 : decode cX9_is 86 = .ok (.iconst 0, 1) := dk_3 (dk_at dksX9_is_3 10 rfl rfl)
theorem dX9_is_87 : decode cX9_is 87 = .ok (.ireturn, 1) := dk_172 (dk_at dksX9_is_3 11 rfl rfl)
theorem dX9_is_88 : decode cX9_is 88 = .ok (.lload_n 2, 1) := dk_32 (dk_at dksX9_is_3 12 rfl rfl)
theorem dX9_is_89 : decode cX9_is 89 = .ok (.lconst 0, 1) := dk_9 (dk_at dksX9_is_3 13 rfl rfl)
theorem dX9_is_90 : decode cX9_is 90 = .ok (.lcmp, 1) := dk_148 (dk_at dksX9_is_3 14 rfl rfl)
theorem dX9_is_91 : decode cX9_is 91 = .ok (.ifCond .le 7, 3) := dk_158 0 7 (dk_at dksX9_is_3 15 rfl rfl)
theorem dX9_is_94 : decode cX9_is 94 = .ok (.iconst 1, 1) := dk_4 (dk_at dksX9_is_3 18 rfl rfl)
theorem dX9_is_95 : decode cX9_is 95 = .ok (.goto 4, 3) := dk_167 0 4 (dk_at dksX9_is_3 19 rfl rfl)
theorem dX9_is_98 : decode cX9_is 98 = .ok (.iconst 0, 1) := dk_3 (dk_at dksX9_is_3 22 rfl rfl)
theorem dX9_is_99 : decode cX9_is 99 = .ok (.ireturn, 1) := dk_172 (dk_at dksX9_is_3 23 rfl rfl)
theorem dX9_is_100 : decode cX9_is 100 = .ok (.lload_n 2, 1) := dk_32 (dk_at dksX9_is_4 0 rfl rfl)
theorem dX9_is_101 : decode cX9_is 101 = .ok (.lconst 0, 1) := dk_9 (dk_at dksX9_is_4 1 rfl rfl)
theorem dX9_is_102 : decode cX9_is 102 = .ok (.lcmp, 1) := dk_148 (dk_at dksX9_is_4 2 rfl rfl)
theorem dX9_is_103 : decode cX9_is 103 = .ok (.ifCond .ne 7, 3) := dk_154 0 7 (dk_at dksX9_is_4 3 rfl rfl)
theorem dX9_is_106 : decode cX9_is 106 = .ok (.iconst 1, 1) := dk_4 (dk_at dksX9_is_4 6 rfl rfl)
theorem dX9_is_107 : decode cX9_is 107 = .ok (.goto 4, 3) := dk_167 0 4 (dk_at dksX9_is_4 7 rfl rfl)
theorem dX9_is_110 : decode cX9_is 110 = .ok (.iconst 0, 1) := dk_3 (dk_at dksX9_is_4 10 rfl rfl)
theorem dX9_is_111 : decode cX9_is 111 = .ok (.ireturn, 1) := dk_172 (dk_at dksX9_is_4 11 rfl rfl)
theorem dX9_is_112 : decode cX9_is 112 = .ok (.lload_n 2, 1) := dk_32 (dk_at dksX9_is_4 12 rfl rfl)
theorem dX9_is_113 : decode cX9_is 113 = .ok (.lconst 0, 1) := dk_9 (dk_at dksX9_is_4 13 rfl rfl)
theorem dX9_is_114 : decode cX9_is 114 = .ok (.lcmp, 1) := dk_148 (dk_at dksX9_is_4 14 rfl rfl)
theorem dX9_is_115 : decode cX9_is 115 = .ok (.ifCond .eq 7, 3) := dk_153 0 7 (dk_at dksX9_is_4 15 rfl rfl)
theorem dX9_is_118 : decode cX9_is 118 = .ok (.iconst 1, 1) := dk_4 (dk_at dksX9_is_4 18 rfl rfl)
theorem dX9_is_119 : decode cX9_is 119 = .ok (.goto 4, 3) := dk_167 0 4 (dk_at dksX9_is_4 19 rfl rfl)
theorem dX9_is_122 : decode cX9_is 122 = .ok (.iconst 0, 1) := dk_3 (dk_at dksX9_is_4 22 rfl rfl)
theorem dX9_is_123 : decode cX9_is 123 = .ok (.ireturn, 1) := dk_172 (dk_at dksX9_is_4 23 rfl rfl)
theorem dX9_is_124 : decode cX9_is 124 = .ok (.lload_n 2, 1) := dk_32 (dk_at dksX9_is_5 0 rfl rfl)
theorem dX9_is_125 : decode cX9_is 125 = .ok (.lconst 0, 1) := dk_9 (dk_at dksX9_is_5 1 rfl rfl)
theorem dX9_is_126 : decode cX9_is 126 = .ok (.lcmp, 1) := dk_148 (dk_at dksX9_is_5 2 rfl rfl)
theorem dX9_is_127 : decode cX9_is 127 = .ok (.ifCond .gt 7, 3) := dk_157 0 7 (dk_at dksX9_is_5 3 rfl rfl)
theorem dX9_is_130 : decode cX9_is 130 = .ok (.iconst 1, 1) := dk_4 (dk_at dksX9_is_5 6 rfl rfl)
theorem dX9_is_131 : decode cX9_is 131 = .ok (.goto 4, 3) := dk_167 0 4 (dk_at dksX9_is_5 7 rfl rfl)
theorem dX9_is_134 : decode cX9_is 134 = .ok (.iconst 0, 1) := dk_3 (dk_at dksX9_is_5 10 rfl rfl)
theorem dX9_is_135 : decode cX9_is 135 = .ok (.ireturn, 1) := dk_172 (dk_at dksX9_is_5 11 rfl rfl)
theorem dX9_is_136 : decode cX9_is 136 = .ok (.lload_n 2, 1) := dk_32 (dk_at dksX9_is_5 12 rfl rfl)
theorem dX9_is_137 : decode cX9_is 137 = .ok (.lconst 0, 1) := dk_9 (dk_at dksX9_is_5 13 rfl rfl)
theorem dX9_is_138 : decode cX9_is 138 = .ok (.lcmp, 1) := dk_148 (dk_at dksX9_is_5 14 rfl rfl)
theorem dX9_is_139 : decode cX9_is 139 = .ok (.ifCond .lt 7, 3) := dk_155 0 7 (dk_at dksX9_is_5 15 rfl rfl)
theorem dX9_is_142 : decode cX9_is 142 = .ok (.iconst 1, 1) := dk_4 (dk_at dksX9_is_5 18 rfl rfl)
theorem dX9_is_143 : decode cX9_is 143 = .ok (.goto 4, 3) := dk_167 0 4 (dk_at dksX9_is_5 19 rfl rfl)
theorem dX9_is_146 : decode cX9_is 146 = .ok (.iconst 0, 1) := dk_3 (dk_at dksX9_is_5 22 rfl rfl)
theorem dX9_is_147 : decode cX9_is 147 = .ok (.ireturn, 1) := dk_172 (dk_at dksX9_is_5 23 rfl rfl)
theorem q146 : (Jvm.Cond.initialized "ShaveOfAnother$Compared") ∈ lw_all := lw_g (lw_at lw_m1 23 rfl) rfl
theorem q615 : (Jvm.Cond.instantiable "ShaveOfAnother$Compared" (3 : Nat)) ∈ lw_all := lw_g (lw_at lw_m3 12 rfl) rfl
theorem q617 : (Jvm.Cond.instanceMethod ({ cls := "ShaveOfAnother$Compared", name := "<init>", desc := "(ILShaveOfAnother$Sum;LShaveOfAnother$Sum;)V" } : Jvm.MethodName)) ∈ lw_all := lw_g (lw_at lw_m3 14 rfl) rfl
theorem q618 : (Jvm.Cond.code ({ cls := "ShaveOfAnother$Compared", name := "<init>", desc := "(ILShaveOfAnother$Sum;LShaveOfAnother$Sum;)V" } : Jvm.MethodName) prog_6_method_1_code (4 : Nat) (Option.none : Option Jvm.ClassFile.FieldType)) ∈ lw_all := lw_g (lw_at lw_m3 15 rfl) rfl
theorem q619 : (Jvm.Cond.methodLink "ShaveOfAnother$Compared" (1 : Nat) ({ cls := "java/lang/Record", name := "<init>", desc := "()V" } : Jvm.MethodName)) ∈ lw_all := lw_g (lw_at lw_m3 16 rfl) rfl
theorem q620 : (Jvm.Cond.fieldLink "ShaveOfAnother$Compared" (7 : Nat) "ShaveOfAnother$Compared" "sign" "I") ∈ lw_all := lw_g (lw_at lw_m3 17 rfl) rfl
theorem q621 : (Jvm.Cond.fieldLink "ShaveOfAnother$Compared" (13 : Nat) "ShaveOfAnother$Compared" "a" "LShaveOfAnother$Sum;") ∈ lw_all := lw_g (lw_at lw_m3 18 rfl) rfl
theorem q622 : (Jvm.Cond.fieldLink "ShaveOfAnother$Compared" (17 : Nat) "ShaveOfAnother$Compared" "b" "LShaveOfAnother$Sum;") ∈ lw_all := lw_g (lw_at lw_m3 19 rfl) rfl
theorem q623 : (Jvm.Cond.laysFinal "ShaveOfAnother$Compared" "ShaveOfAnother$Compared" "sign" "I") ∈ lw_all := lw_g (lw_at lw_m3 20 rfl) rfl
theorem q624 : (Jvm.Cond.soleField "ShaveOfAnother$Compared" "sign") ∈ lw_all := lw_g (lw_at lw_m3 21 rfl) rfl
theorem q625 : (Jvm.Cond.laysFinal "ShaveOfAnother$Compared" "ShaveOfAnother$Compared" "a" "LShaveOfAnother$Sum;") ∈ lw_all := lw_g (lw_at lw_m3 22 rfl) rfl
theorem q626 : (Jvm.Cond.soleField "ShaveOfAnother$Compared" "a") ∈ lw_all := lw_g (lw_at lw_m3 23 rfl) rfl
theorem q627 : (Jvm.Cond.laysFinal "ShaveOfAnother$Compared" "ShaveOfAnother$Compared" "b" "LShaveOfAnother$Sum;") ∈ lw_all := lw_g (lw_at lw_m3 24 rfl) rfl
theorem q628 : (Jvm.Cond.soleField "ShaveOfAnother$Compared" "b") ∈ lw_all := lw_g (lw_at lw_m3 25 rfl) rfl
theorem q629 : (Jvm.Cond.superclass "ShaveOfAnother$Compared" "java/lang/Record") ∈ lw_all := lw_g (lw_at lw_m3 26 rfl) rfl
theorem q666 : (Jvm.Cond.selects "ShaveOfAnother$Compared" ({ cls := "java/lang/Object", name := "getClass", desc := "()Ljava/lang/Class;" } : Jvm.MethodName) ({ cls := "java/lang/Object", name := "getClass", desc := "()Ljava/lang/Class;" } : Jvm.MethodName)) ∈ lw_all := lw_g (lw_at lw_m3 63 rfl) rfl
theorem q944 : (Jvm.Cond.castable "ShaveOfAnother$Compared" "ShaveOfAnother$Asked") ∈ lw_tbl := lw_at lw_m4 101 rfl
theorem q945 : (Jvm.Cond.selects "ShaveOfAnother$Compared" ({ cls := "ShaveOfAnother$Asked", name := "is", desc := "([I)Z" } : Jvm.MethodName) ({ cls := "ShaveOfAnother$Compared", name := "is", desc := "([I)Z" } : Jvm.MethodName)) ∈ lw_all := lw_g (lw_at lw_m4 102 rfl) rfl
theorem q946 : (Jvm.Cond.unhidden "ShaveOfAnother$Compared" "is" "([I)Z") ∈ lw_tbl := lw_at lw_m4 103 rfl
theorem q947 : (Jvm.Cond.instanceMethod ({ cls := "ShaveOfAnother$Compared", name := "is", desc := "([I)Z" } : Jvm.MethodName)) ∈ lw_all := lw_g (lw_at lw_m4 104 rfl) rfl
theorem q948 : (Jvm.Cond.publicMethod ({ cls := "ShaveOfAnother$Compared", name := "is", desc := "([I)Z" } : Jvm.MethodName)) ∈ lw_tbl := lw_at lw_m4 105 rfl
theorem q949 : (Jvm.Cond.code ({ cls := "ShaveOfAnother$Compared", name := "is", desc := "([I)Z" } : Jvm.MethodName) prog_6_method_2_code (4 : Nat) (Option.some Jvm.ClassFile.FieldType.boolean)) ∈ lw_all := lw_g (lw_at lw_m4 106 rfl) rfl
theorem q950 : (Jvm.Cond.interfaceEntry "ShaveOfAnother$Compared" (20 : Nat)) ∈ lw_tbl := lw_at lw_m4 107 rfl
theorem q951 : (Jvm.Cond.methodLink "ShaveOfAnother$Compared" (20 : Nat) ({ cls := "ShaveOfAnother$Sum", name := "of", desc := "([I)J" } : Jvm.MethodName)) ∈ lw_all := lw_g (lw_at lw_m4 108 rfl) rfl
theorem q2057 : (Jvm.Cond.castable "ShaveOfAnother$Compared" "java/lang/Object") ∈ lw_tbl := lw_at lw_m9 14 rfl
theorem in_X9 : ∀ w ∈ wsX90, w ∈ lw_all := lw_in wsX90 [623, 625, 627] (by decide +kernel) (by decide +kernel)

/-! the law's own entry -/
set_option maxRecDepth 100000
abbrev cL_law : ByteArray := code
def dkwL_law_61 : List UInt8 := [167, 249, 177, 4, 172]
abbrev dktL_law_61 : List UInt8 := dkwL_law_61 ++ []
def dkwL_law_60 : List UInt8 := [4, 96, 46, 182, 0, 229, 44, 42, 29, 4, 96, 46, 182, 0, 232, 159, 0, 5, 3, 172, 132, 3, 6]
abbrev dktL_law_60 : List UInt8 := dkwL_law_60 ++ dktL_law_61
def dkwL_law_59 : List UInt8 := [182, 0, 224, 159, 0, 41, 3, 172, 43, 182, 0, 225, 44, 182, 0, 228, 159, 0, 28, 3, 172, 43, 42, 29]
abbrev dktL_law_59 : List UInt8 := dkwL_law_59 ++ dktL_law_60
def dkwL_law_58 : List UInt8 := [182, 0, 217, 44, 42, 29, 4, 96, 46, 182, 0, 220, 159, 0, 54, 3, 172, 43, 182, 0, 221, 44]
abbrev dktL_law_58 : List UInt8 := dkwL_law_58 ++ dktL_law_59
def dkwL_law_57 : List UInt8 := [159, 0, 90, 3, 172, 43, 182, 0, 213, 44, 182, 0, 216, 159, 0, 77, 3, 172, 43, 42, 29, 4, 96, 46]
abbrev dktL_law_57 : List UInt8 := dkwL_law_57 ++ dktL_law_58
def dkwL_law_56 : List UInt8 := [3, 172, 43, 182, 0, 205, 44, 182, 0, 208, 159, 0, 103, 3, 172, 43, 182, 0, 209, 44, 182, 0, 212]
abbrev dktL_law_56 : List UInt8 := dkwL_law_56 ++ dktL_law_57
def dkwL_law_55 : List UInt8 := [43, 182, 0, 197, 44, 182, 0, 200, 159, 0, 129, 3, 172, 43, 182, 0, 201, 44, 182, 0, 204, 159, 0, 116]
abbrev dktL_law_55 : List UInt8 := dkwL_law_55 ++ dktL_law_56
def dkwL_law_54 : List UInt8 := [5, 96, 46, 182, 0, 192, 159, 0, 155, 3, 172, 43, 182, 0, 193, 44, 182, 0, 196, 159, 0, 142, 3, 172]
abbrev dktL_law_54 : List UInt8 := dkwL_law_54 ++ dktL_law_55
def dkwL_law_53 : List UInt8 := [3, 172, 43, 42, 29, 4, 96, 46, 42, 29, 5, 96, 46, 182, 0, 189, 44, 42, 29, 4, 96, 46, 42, 29]
abbrev dktL_law_53 : List UInt8 := dkwL_law_53 ++ dktL_law_54
def dkwL_law_52 : List UInt8 := [29, 5, 96, 46, 42, 29, 6, 96, 46, 153, 0, 7, 4, 167, 0, 4, 3, 182, 0, 188, 148, 153, 0, 188]
abbrev dktL_law_52 : List UInt8 := dkwL_law_52 ++ dktL_law_53
def dkwL_law_51 : List UInt8 := [46, 42, 29, 6, 96, 46, 153, 0, 7, 4, 167, 0, 4, 3, 182, 0, 184, 44, 42, 29, 4, 96, 46, 42]
abbrev dktL_law_51 : List UInt8 := dkwL_law_51 ++ dktL_law_52
def dkwL_law_50 : List UInt8 := [46, 42, 29, 5, 96, 46, 182, 0, 183, 159, 0, 248, 3, 172, 43, 42, 29, 4, 96, 46, 42, 29, 5, 96]
abbrev dktL_law_50 : List UInt8 := dkwL_law_50 ++ dktL_law_51
def dkwL_law_49 : List UInt8 := [159, 1, 25, 3, 172, 43, 42, 29, 4, 96, 46, 42, 29, 5, 96, 46, 182, 0, 180, 44, 42, 29, 4, 96]
abbrev dktL_law_49 : List UInt8 := dkwL_law_49 ++ dktL_law_50
def dkwL_law_48 : List UInt8 := [159, 1, 48, 3, 172, 43, 42, 29, 4, 96, 46, 182, 0, 176, 44, 42, 29, 4, 96, 46, 182, 0, 179]
abbrev dktL_law_48 : List UInt8 := dkwL_law_48 ++ dktL_law_49
def dkwL_law_47 : List UInt8 := [96, 46, 42, 29, 5, 96, 46, 182, 0, 172, 44, 42, 29, 4, 96, 46, 42, 29, 5, 96, 46, 182, 0, 175]
abbrev dktL_law_47 : List UInt8 := dkwL_law_47 ++ dktL_law_48
def dkwL_law_46 : List UInt8 := [96, 46, 42, 29, 5, 96, 46, 42, 29, 6, 96, 46, 182, 0, 171, 159, 1, 81, 3, 172, 43, 42, 29, 4]
abbrev dktL_law_46 : List UInt8 := dkwL_law_46 ++ dktL_law_47
def dkwL_law_45 : List UInt8 := [172, 43, 42, 29, 4, 96, 46, 42, 29, 5, 96, 46, 42, 29, 6, 96, 46, 182, 0, 168, 44, 42, 29, 4]
abbrev dktL_law_45 : List UInt8 := dkwL_law_45 ++ dktL_law_46
def dkwL_law_44 : List UInt8 := [5, 96, 46, 182, 0, 164, 44, 42, 29, 4, 96, 46, 42, 29, 5, 96, 46, 182, 0, 167, 159, 1, 124, 3]
abbrev dktL_law_44 : List UInt8 := dkwL_law_44 ++ dktL_law_45
def dkwL_law_43 : List UInt8 := [5, 96, 46, 42, 29, 6, 96, 46, 182, 0, 163, 159, 1, 157, 3, 172, 43, 42, 29, 4, 96, 46, 42, 29]
abbrev dktL_law_43 : List UInt8 := dkwL_law_43 ++ dktL_law_44
def dkwL_law_42 : List UInt8 := [4, 96, 46, 42, 29, 5, 96, 46, 42, 29, 6, 96, 46, 182, 0, 159, 44, 42, 29, 4, 96, 46, 42, 29]
abbrev dktL_law_42 : List UInt8 := dkwL_law_42 ++ dktL_law_43
def dkwL_law_41 : List UInt8 := [29, 4, 96, 46, 182, 0, 155, 44, 42, 29, 4, 96, 46, 182, 0, 158, 159, 1, 200, 3, 172, 43, 42, 29]
abbrev dktL_law_41 : List UInt8 := dkwL_law_41 ++ dktL_law_42
def dkwL_law_40 : List UInt8 := [182, 0, 151, 44, 42, 29, 4, 96, 46, 42, 29, 5, 96, 46, 182, 0, 154, 159, 1, 223, 3, 172, 43, 42]
abbrev dktL_law_40 : List UInt8 := dkwL_law_40 ++ dktL_law_41
def dkwL_law_39 : List UInt8 := [42, 29, 4, 96, 46, 182, 0, 150, 159, 2, 0, 3, 172, 43, 42, 29, 4, 96, 46, 42, 29, 5, 96, 46]
abbrev dktL_law_39 : List UInt8 := dkwL_law_39 ++ dktL_law_40
def dkwL_law_38 : List UInt8 := [46, 42, 29, 5, 96, 46, 182, 0, 146, 159, 2, 23, 3, 172, 43, 42, 29, 4, 96, 46, 182, 0, 147, 44]
abbrev dktL_law_38 : List UInt8 := dkwL_law_38 ++ dktL_law_39
def dkwL_law_37 : List UInt8 := [159, 2, 56, 3, 172, 43, 42, 29, 4, 96, 46, 42, 29, 5, 96, 46, 182, 0, 143, 44, 42, 29, 4, 96]
abbrev dktL_law_37 : List UInt8 := dkwL_law_37 ++ dktL_law_38
def dkwL_law_36 : List UInt8 := [159, 2, 79, 3, 172, 43, 42, 29, 4, 96, 46, 182, 0, 139, 44, 42, 29, 4, 96, 46, 182, 0, 142]
abbrev dktL_law_36 : List UInt8 := dkwL_law_36 ++ dktL_law_37
def dkwL_law_35 : List UInt8 := [42, 29, 5, 96, 46, 182, 0, 135, 44, 42, 29, 4, 96, 46, 42, 29, 5, 96, 46, 182, 0, 138]
abbrev dktL_law_35 : List UInt8 := dkwL_law_35 ++ dktL_law_36
def dkwL_law_34 : List UInt8 := [42, 29, 4, 96, 46, 42, 29, 5, 96, 46, 182, 0, 134, 159, 2, 112, 3, 172, 43, 42, 29, 4, 96, 46]
abbrev dktL_law_34 : List UInt8 := dkwL_law_34 ++ dktL_law_35
def dkwL_law_33 : List UInt8 := [44, 182, 0, 130, 159, 2, 145, 3, 172, 43, 42, 29, 4, 96, 46, 42, 29, 5, 96, 46, 182, 0, 131, 44]
abbrev dktL_law_33 : List UInt8 := dkwL_law_33 ++ dktL_law_34
def dkwL_law_32 : List UInt8 := [4, 96, 46, 182, 0, 123, 44, 42, 29, 4, 96, 46, 182, 0, 126, 159, 2, 158, 3, 172, 43, 182, 0, 127]
abbrev dktL_law_32 : List UInt8 := dkwL_law_32 ++ dktL_law_33
def dkwL_law_31 : List UInt8 := [182, 0, 118, 159, 2, 194, 3, 172, 43, 182, 0, 119, 44, 182, 0, 122, 159, 2, 181, 3, 172, 43, 42, 29]
abbrev dktL_law_31 : List UInt8 := dkwL_law_31 ++ dktL_law_32
def dkwL_law_30 : List UInt8 := [29, 4, 96, 46, 42, 29, 5, 96, 46, 182, 0, 114, 159, 2, 207, 3, 172, 43, 182, 0, 115, 44]
abbrev dktL_law_30 : List UInt8 := dkwL_law_30 ++ dktL_law_31
def dkwL_law_29 : List UInt8 := [182, 0, 110, 159, 2, 240, 3, 172, 43, 42, 29, 4, 96, 46, 42, 29, 5, 96, 46, 182, 0, 111, 44, 42]
abbrev dktL_law_29 : List UInt8 := dkwL_law_29 ++ dktL_law_30
def dkwL_law_28 : List UInt8 := [182, 0, 106, 148, 153, 3, 7, 3, 172, 43, 42, 29, 4, 96, 46, 182, 0, 107, 44, 42, 29, 4, 96, 46]
abbrev dktL_law_28 : List UInt8 := dkwL_law_28 ++ dktL_law_29
def dkwL_law_27 : List UInt8 := [29, 4, 96, 46, 42, 29, 5, 96, 46, 182, 0, 101, 159, 3, 21, 3, 172, 43, 182, 0, 102, 44]
abbrev dktL_law_27 : List UInt8 := dkwL_law_27 ++ dktL_law_28
def dkwL_law_26 : List UInt8 := [182, 0, 97, 159, 3, 54, 3, 172, 43, 42, 29, 4, 96, 46, 42, 29, 5, 96, 46, 182, 0, 98, 44, 42]
abbrev dktL_law_26 : List UInt8 := dkwL_law_26 ++ dktL_law_27
def dkwL_law_25 : List UInt8 := [29, 4, 96, 46, 42, 29, 5, 96, 46, 133, 16, 32, 121, 42, 29, 6, 96, 46, 133, 20, 0, 91, 127, 129]
abbrev dktL_law_25 : List UInt8 := dkwL_law_25 ++ dktL_law_26
def dkwL_law_24 : List UInt8 := [29, 5, 96, 46, 133, 16, 32, 121, 42, 29, 6, 96, 46, 133, 20, 0, 91, 127, 129, 182, 0, 93, 44, 42]
abbrev dktL_law_24 : List UInt8 := dkwL_law_24 ++ dktL_law_25
def dkwL_law_23 : List UInt8 := [29, 4, 96, 46, 42, 29, 5, 96, 46, 182, 0, 90, 159, 3, 117, 3, 172, 43, 42, 29, 4, 96, 46, 42]
abbrev dktL_law_23 : List UInt8 := dkwL_law_23 ++ dktL_law_24
def dkwL_law_22 : List UInt8 := [182, 0, 86, 159, 3, 150, 3, 172, 43, 42, 29, 4, 96, 46, 42, 29, 5, 96, 46, 182, 0, 87, 44, 42]
abbrev dktL_law_22 : List UInt8 := dkwL_law_22 ++ dktL_law_23
def dkwL_law_21 : List UInt8 := [29, 4, 96, 46, 42, 29, 5, 96, 46, 182, 0, 83, 44, 42, 29, 4, 96, 46, 42, 29, 5, 96, 46]
abbrev dktL_law_21 : List UInt8 := dkwL_law_21 ++ dktL_law_22
def dkwL_law_20 : List UInt8 := [42, 29, 4, 96, 46, 182, 0, 79, 44, 42, 29, 4, 96, 46, 182, 0, 82, 159, 3, 183, 3, 172, 43, 42]
abbrev dktL_law_20 : List UInt8 := dkwL_law_20 ++ dktL_law_21
def dkwL_law_19 : List UInt8 := [43, 42, 29, 4, 96, 46, 182, 0, 75, 44, 42, 29, 4, 96, 46, 182, 0, 78, 159, 3, 206, 3, 172, 43]
abbrev dktL_law_19 : List UInt8 := dkwL_law_19 ++ dktL_law_20
def dkwL_law_18 : List UInt8 := [96, 46, 182, 0, 71, 44, 42, 29, 4, 96, 46, 42, 29, 5, 96, 46, 182, 0, 74, 159, 3, 229, 3, 172]
abbrev dktL_law_18 : List UInt8 := dkwL_law_18 ++ dktL_law_19
def dkwL_law_17 : List UInt8 := [3, 172, 43, 182, 0, 67, 44, 182, 0, 70, 159, 4, 6, 3, 172, 43, 42, 29, 4, 96, 46, 42, 29, 5]
abbrev dktL_law_17 : List UInt8 := dkwL_law_17 ++ dktL_law_18
def dkwL_law_16 : List UInt8 := [29, 5, 96, 46, 182, 0, 63, 44, 42, 29, 4, 96, 46, 42, 29, 5, 96, 46, 182, 0, 66, 159, 4, 19]
abbrev dktL_law_16 : List UInt8 := dkwL_law_16 ++ dktL_law_17
def dkwL_law_15 : List UInt8 := [182, 0, 59, 44, 42, 29, 4, 96, 46, 182, 0, 62, 159, 4, 52, 3, 172, 43, 42, 29, 4, 96, 46, 42]
abbrev dktL_law_15 : List UInt8 := dkwL_law_15 ++ dktL_law_16
def dkwL_law_14 : List UInt8 := [182, 0, 55, 44, 42, 29, 4, 96, 46, 182, 0, 58, 159, 4, 75, 3, 172, 43, 42, 29, 4, 96, 46]
abbrev dktL_law_14 : List UInt8 := dkwL_law_14 ++ dktL_law_15
def dkwL_law_13 : List UInt8 := [182, 0, 51, 44, 42, 29, 4, 96, 46, 182, 0, 54, 159, 4, 98, 3, 172, 43, 42, 29, 4, 96, 46]
abbrev dktL_law_13 : List UInt8 := dkwL_law_13 ++ dktL_law_14
def dkwL_law_12 : List UInt8 := [46, 182, 0, 47, 44, 42, 29, 4, 96, 46, 182, 0, 50, 159, 4, 121, 3, 172, 43, 42, 29, 4, 96, 46]
abbrev dktL_law_12 : List UInt8 := dkwL_law_12 ++ dktL_law_13
def dkwL_law_11 : List UInt8 := [96, 46, 182, 0, 42, 44, 42, 29, 4, 96, 46, 182, 0, 46, 159, 4, 144, 3, 172, 43, 42, 29, 4, 96]
abbrev dktL_law_11 : List UInt8 := dkwL_law_11 ++ dktL_law_12
def dkwL_law_10 : List UInt8 := [4, 96, 46, 182, 0, 38, 44, 42, 29, 4, 96, 46, 182, 0, 41, 159, 4, 167, 3, 172, 43, 42, 29, 4]
abbrev dktL_law_10 : List UInt8 := dkwL_law_10 ++ dktL_law_11
def dkwL_law_9 : List UInt8 := [182, 0, 32, 159, 4, 203, 3, 172, 43, 182, 0, 33, 44, 182, 0, 37, 159, 4, 190, 3, 172, 43, 42, 29]
abbrev dktL_law_9 : List UInt8 := dkwL_law_9 ++ dktL_law_10
def dkwL_law_8 : List UInt8 := [46, 182, 0, 27, 159, 4, 226, 3, 172, 43, 42, 29, 4, 96, 46, 182, 0, 28, 44, 42, 29, 4, 96, 46]
abbrev dktL_law_8 : List UInt8 := dkwL_law_8 ++ dktL_law_9
def dkwL_law_7 : List UInt8 := [42, 29, 4, 96, 46, 42, 29, 5, 96, 46, 42, 29, 6, 96, 46, 42, 29, 7, 96, 46, 42, 29, 8, 96]
abbrev dktL_law_7 : List UInt8 := dkwL_law_7 ++ dktL_law_8
def dkwL_law_6 : List UInt8 := [42, 29, 5, 96, 46, 42, 29, 6, 96, 46, 42, 29, 7, 96, 46, 42, 29, 8, 96, 46, 182, 0, 23, 44]
abbrev dktL_law_6 : List UInt8 := dkwL_law_6 ++ dktL_law_7
def dkwL_law_5 : List UInt8 := [42, 29, 4, 96, 46, 42, 29, 5, 96, 46, 182, 0, 22, 159, 5, 33, 3, 172, 43, 42, 29, 4, 96, 46]
abbrev dktL_law_5 : List UInt8 := dkwL_law_5 ++ dktL_law_6
def dkwL_law_4 : List UInt8 := [46, 182, 0, 17, 159, 5, 66, 3, 172, 43, 42, 29, 4, 96, 46, 42, 29, 5, 96, 46, 182, 0, 18, 44]
abbrev dktL_law_4 : List UInt8 := dkwL_law_4 ++ dktL_law_5
def dkwL_law_3 : List UInt8 := [43, 42, 29, 4, 96, 46, 42, 29, 5, 96, 46, 182, 0, 13, 44, 42, 29, 4, 96, 46, 42, 29, 5, 96]
abbrev dktL_law_3 : List UInt8 := dkwL_law_3 ++ dktL_law_4
def dkwL_law_2 : List UInt8 := [170, 0, 0, 0, 0, 6, 61, 0, 0, 0, 0, 0, 0, 0, 51, 0, 0, 0, 223, 0, 0, 1, 0, 0, 0, 1, 33, 0, 0, 1, 96, 0, 0, 1, 119, 0, 0, 1, 132, 0, 0, 1, 155, 0, 0, 1, 178, 0, 0, 1, 201, 0, 0, 1, 224, 0, 0, 1, 247, 0, 0, 2, 14, 0, 0, 2, 47, 0, 0, 2, 60, 0, 0, 2, 93, 0, 0, 2, 116, 0, 0, 2, 139, 0, 0, 2, 172, 0, 0, 2, 205, 0, 0, 3, 12, 0, 0, 3, 45, 0, 0, 3, 59, 0, 0, 3, 82, 0, 0, 3, 115, 0, 0, 3, 128, 0, 0, 3, 141, 0, 0, 3, 164, 0, 0, 3, 177, 0, 0, 3, 210, 0, 0, 3, 243, 0, 0, 4, 10, 0, 0, 4, 43, 0, 0, 4, 66, 0, 0, 4, 99, 0, 0, 4, 122, 0, 0, 4, 165, 0, 0, 4, 198, 0, 0, 4, 241, 0, 0, 5, 18, 0, 0, 5, 41, 0, 0, 5, 74, 0, 0, 5, 134, 0, 0, 5, 167, 0, 0, 5, 180, 0, 0, 5, 193, 0, 0, 5, 206, 0, 0, 5, 219, 0, 0, 5, 232, 0, 0, 5, 245, 0, 0, 6, 12, 0, 0, 6, 25, 0, 0, 6, 38]
abbrev dktL_law_2 : List UInt8 := dkwL_law_2 ++ dktL_law_3
def dkwL_law_1 : List UInt8 := [163, 6, 76, 42, 29, 46, 16, 63, 126]
abbrev dktL_law_1 : List UInt8 := dkwL_law_1 ++ dktL_law_2
def dkwL_law_0 : List UInt8 := [187, 0, 7, 89, 183, 0, 9, 76, 187, 0, 10, 89, 183, 0, 12, 77, 3, 62, 29, 42, 190, 16, 6, 100]
abbrev dktL_law_0 : List UInt8 := dkwL_law_0 ++ dktL_law_1
theorem dksL_law_0 : cL_law.data.toList.drop 0 = dktL_law_0 := by decide +kernel
theorem dksL_law_1 : cL_law.data.toList.drop 24 = dktL_law_1 := dk_seg dksL_law_0 24 rfl rfl
theorem dksL_law_2 : cL_law.data.toList.drop 33 = dktL_law_2 := dk_seg dksL_law_1 9 rfl rfl
theorem dksL_law_3 : cL_law.data.toList.drop 256 = dktL_law_3 := dk_seg dksL_law_2 223 rfl rfl
theorem dksL_law_4 : cL_law.data.toList.drop 280 = dktL_law_4 := dk_seg dksL_law_3 24 rfl rfl
theorem dksL_law_5 : cL_law.data.toList.drop 304 = dktL_law_5 := dk_seg dksL_law_4 24 rfl rfl
theorem dksL_law_6 : cL_law.data.toList.drop 328 = dktL_law_6 := dk_seg dksL_law_5 24 rfl rfl
theorem dksL_law_7 : cL_law.data.toList.drop 352 = dktL_law_7 := dk_seg dksL_law_6 24 rfl rfl
theorem dksL_law_8 : cL_law.data.toList.drop 376 = dktL_law_8 := dk_seg dksL_law_7 24 rfl rfl
theorem dksL_law_9 : cL_law.data.toList.drop 400 = dktL_law_9 := dk_seg dksL_law_8 24 rfl rfl
theorem dksL_law_10 : cL_law.data.toList.drop 424 = dktL_law_10 := dk_seg dksL_law_9 24 rfl rfl
theorem dksL_law_11 : cL_law.data.toList.drop 448 = dktL_law_11 := dk_seg dksL_law_10 24 rfl rfl
theorem dksL_law_12 : cL_law.data.toList.drop 472 = dktL_law_12 := dk_seg dksL_law_11 24 rfl rfl
theorem dksL_law_13 : cL_law.data.toList.drop 496 = dktL_law_13 := dk_seg dksL_law_12 24 rfl rfl
theorem dksL_law_14 : cL_law.data.toList.drop 519 = dktL_law_14 := dk_seg dksL_law_13 23 rfl rfl
theorem dksL_law_15 : cL_law.data.toList.drop 542 = dktL_law_15 := dk_seg dksL_law_14 23 rfl rfl
theorem dksL_law_16 : cL_law.data.toList.drop 566 = dktL_law_16 := dk_seg dksL_law_15 24 rfl rfl
theorem dksL_law_17 : cL_law.data.toList.drop 590 = dktL_law_17 := dk_seg dksL_law_16 24 rfl rfl
theorem dksL_law_18 : cL_law.data.toList.drop 614 = dktL_law_18 := dk_seg dksL_law_17 24 rfl rfl
theorem dksL_law_19 : cL_law.data.toList.drop 638 = dktL_law_19 := dk_seg dksL_law_18 24 rfl rfl
theorem dksL_law_20 : cL_law.data.toList.drop 662 = dktL_law_20 := dk_seg dksL_law_19 24 rfl rfl
theorem dksL_law_21 : cL_law.data.toList.drop 686 = dktL_law_21 := dk_seg dksL_law_20 24 rfl rfl
theorem dksL_law_22 : cL_law.data.toList.drop 709 = dktL_law_22 := dk_seg dksL_law_21 23 rfl rfl
theorem dksL_law_23 : cL_law.data.toList.drop 733 = dktL_law_23 := dk_seg dksL_law_22 24 rfl rfl
theorem dksL_law_24 : cL_law.data.toList.drop 757 = dktL_law_24 := dk_seg dksL_law_23 24 rfl rfl
theorem dksL_law_25 : cL_law.data.toList.drop 781 = dktL_law_25 := dk_seg dksL_law_24 24 rfl rfl
theorem dksL_law_26 : cL_law.data.toList.drop 805 = dktL_law_26 := dk_seg dksL_law_25 24 rfl rfl
theorem dksL_law_27 : cL_law.data.toList.drop 829 = dktL_law_27 := dk_seg dksL_law_26 24 rfl rfl
theorem dksL_law_28 : cL_law.data.toList.drop 851 = dktL_law_28 := dk_seg dksL_law_27 22 rfl rfl
theorem dksL_law_29 : cL_law.data.toList.drop 875 = dktL_law_29 := dk_seg dksL_law_28 24 rfl rfl
theorem dksL_law_30 : cL_law.data.toList.drop 899 = dktL_law_30 := dk_seg dksL_law_29 24 rfl rfl
theorem dksL_law_31 : cL_law.data.toList.drop 921 = dktL_law_31 := dk_seg dksL_law_30 22 rfl rfl
theorem dksL_law_32 : cL_law.data.toList.drop 945 = dktL_law_32 := dk_seg dksL_law_31 24 rfl rfl
theorem dksL_law_33 : cL_law.data.toList.drop 969 = dktL_law_33 := dk_seg dksL_law_32 24 rfl rfl
theorem dksL_law_34 : cL_law.data.toList.drop 993 = dktL_law_34 := dk_seg dksL_law_33 24 rfl rfl
theorem dksL_law_35 : cL_law.data.toList.drop 1017 = dktL_law_35 := dk_seg dksL_law_34 24 rfl rfl
theorem dksL_law_36 : cL_law.data.toList.drop 1039 = dktL_law_36 := dk_seg dksL_law_35 22 rfl rfl
theorem dksL_law_37 : cL_law.data.toList.drop 1062 = dktL_law_37 := dk_seg dksL_law_36 23 rfl rfl
theorem dksL_law_38 : cL_law.data.toList.drop 1086 = dktL_law_38 := dk_seg dksL_law_37 24 rfl rfl
theorem dksL_law_39 : cL_law.data.toList.drop 1110 = dktL_law_39 := dk_seg dksL_law_38 24 rfl rfl
theorem dksL_law_40 : cL_law.data.toList.drop 1134 = dktL_law_40 := dk_seg dksL_law_39 24 rfl rfl
theorem dksL_law_41 : cL_law.data.toList.drop 1158 = dktL_law_41 := dk_seg dksL_law_40 24 rfl rfl
theorem dksL_law_42 : cL_law.data.toList.drop 1182 = dktL_law_42 := dk_seg dksL_law_41 24 rfl rfl
theorem dksL_law_43 : cL_law.data.toList.drop 1206 = dktL_law_43 := dk_seg dksL_law_42 24 rfl rfl
theorem dksL_law_44 : cL_law.data.toList.drop 1230 = dktL_law_44 := dk_seg dksL_law_43 24 rfl rfl
theorem dksL_law_45 : cL_law.data.toList.drop 1254 = dktL_law_45 := dk_seg dksL_law_44 24 rfl rfl
theorem dksL_law_46 : cL_law.data.toList.drop 1278 = dktL_law_46 := dk_seg dksL_law_45 24 rfl rfl
theorem dksL_law_47 : cL_law.data.toList.drop 1302 = dktL_law_47 := dk_seg dksL_law_46 24 rfl rfl
theorem dksL_law_48 : cL_law.data.toList.drop 1326 = dktL_law_48 := dk_seg dksL_law_47 24 rfl rfl
theorem dksL_law_49 : cL_law.data.toList.drop 1349 = dktL_law_49 := dk_seg dksL_law_48 23 rfl rfl
theorem dksL_law_50 : cL_law.data.toList.drop 1373 = dktL_law_50 := dk_seg dksL_law_49 24 rfl rfl
theorem dksL_law_51 : cL_law.data.toList.drop 1397 = dktL_law_51 := dk_seg dksL_law_50 24 rfl rfl
theorem dksL_law_52 : cL_law.data.toList.drop 1421 = dktL_law_52 := dk_seg dksL_law_51 24 rfl rfl
theorem dksL_law_53 : cL_law.data.toList.drop 1445 = dktL_law_53 := dk_seg dksL_law_52 24 rfl rfl
theorem dksL_law_54 : cL_law.data.toList.drop 1469 = dktL_law_54 := dk_seg dksL_law_53 24 rfl rfl
theorem dksL_law_55 : cL_law.data.toList.drop 1493 = dktL_law_55 := dk_seg dksL_law_54 24 rfl rfl
theorem dksL_law_56 : cL_law.data.toList.drop 1517 = dktL_law_56 := dk_seg dksL_law_55 24 rfl rfl
theorem dksL_law_57 : cL_law.data.toList.drop 1540 = dktL_law_57 := dk_seg dksL_law_56 23 rfl rfl
theorem dksL_law_58 : cL_law.data.toList.drop 1564 = dktL_law_58 := dk_seg dksL_law_57 24 rfl rfl
theorem dksL_law_59 : cL_law.data.toList.drop 1586 = dktL_law_59 := dk_seg dksL_law_58 22 rfl rfl
theorem dksL_law_60 : cL_law.data.toList.drop 1610 = dktL_law_60 := dk_seg dksL_law_59 24 rfl rfl
theorem dksL_law_61 : cL_law.data.toList.drop 1633 = dktL_law_61 := dk_seg dksL_law_60 23 rfl rfl
theorem dL_law_0 : decode cL_law 0 = .ok (.new 7, 3) := dk_187 0 7 (dk_at dksL_law_0 0 rfl rfl)
theorem dL_law_3 : decode cL_law 3 = .ok (.dup, 1) := dk_89 (dk_at dksL_law_0 3 rfl rfl)
theorem dL_law_4 : decode cL_law 4 = .ok (.invokespecial 9, 3) := dk_183 0 9 (dk_at dksL_law_0 4 rfl rfl)
theorem dL_law_7 : decode cL_law 7 = .ok (.astore_n 1, 1) := dk_76 (dk_at dksL_law_0 7 rfl rfl)
theorem dL_law_8 : decode cL_law 8 = .ok (.new 10, 3) := dk_187 0 10 (dk_at dksL_law_0 8 rfl rfl)
theorem dL_law_11 : decode cL_law 11 = .ok (.dup, 1) := dk_89 (dk_at dksL_law_0 11 rfl rfl)
theorem dL_law_12 : decode cL_law 12 = .ok (.invokespecial 12, 3) := dk_183 0 12 (dk_at dksL_law_0 12 rfl rfl)
theorem dL_law_15 : decode cL_law 15 = .ok (.astore_n 2, 1) := dk_77 (dk_at dksL_law_0 15 rfl rfl)
theorem dL_law_16 : decode cL_law 16 = .ok (.iconst 0, 1) := dk_3 (dk_at dksL_law_0 16 rfl rfl)
theorem dL_law_17 : decode cL_law 17 = .ok (.istore_n 3, 1) := dk_62 (dk_at dksL_law_0 17 rfl rfl)
theorem dL_law_18 : decode cL_law 18 = .ok (.iload_n 3, 1) := dk_29 (dk_at dksL_law_0 18 rfl rfl)
theorem dL_law_19 : decode cL_law 19 = .ok (.aload_n 0, 1) := dk_42 (dk_at dksL_law_0 19 rfl rfl)
theorem dL_law_20 : decode cL_law 20 = .ok (.arraylength, 1) := dk_190 (dk_at dksL_law_0 20 rfl rfl)
theorem dL_law_21 : decode cL_law 21 = .ok (.bipush 6, 2) := dk_16 6 (dk_at dksL_law_0 21 rfl rfl)
theorem dL_law_23 : decode cL_law 23 = .ok (.isub, 1) := dk_100 (dk_at dksL_law_0 23 rfl rfl)
theorem dL_law_24 : decode cL_law 24 = .ok (.if_icmp .gt 1612, 3) := dk_163 6 76 (dk_at dksL_law_1 0 rfl rfl)
theorem dL_law_27 : decode cL_law 27 = .ok (.aload_n 0, 1) := dk_42 (dk_at dksL_law_1 3 rfl rfl)
theorem dL_law_28 : decode cL_law 28 = .ok (.iload_n 3, 1) := dk_29 (dk_at dksL_law_1 4 rfl rfl)
theorem dL_law_29 : decode cL_law 29 = .ok (.iaload, 1) := dk_46 (dk_at dksL_law_1 5 rfl rfl)
theorem dL_law_30 : decode cL_law 30 = .ok (.bipush 63, 2) := dk_16 63 (dk_at dksL_law_1 6 rfl rfl)
theorem dL_law_32 : decode cL_law 32 = .ok (.iand, 1) := dk_126 (dk_at dksL_law_1 8 rfl rfl)
theorem dL_law_33 : decode cL_law 33 = .ok (.tableswitch 1597 0 51 #[223, 256, 289, 352, 375, 388, 411, 434, 457, 480, 503, 526, 559, 572, 605, 628, 651, 684, 717, 780, 813, 827, 850, 883, 896, 909, 932, 945, 978, 1011, 1034, 1067, 1090, 1123, 1146, 1189, 1222, 1265, 1298, 1321, 1354, 1414, 1447, 1460, 1473, 1486, 1499, 1512, 1525, 1548, 1561, 1574], 223) := by decide +kernel
theorem dL_law_256 : decode cL_law 256 = .ok (.aload_n 1, 1) := dk_43 (dk_at dksL_law_3 0 rfl rfl)
theorem dL_law_257 : decode cL_law 257 = .ok (.aload_n 0, 1) := dk_42 (dk_at dksL_law_3 1 rfl rfl)
theorem dL_law_258 : decode cL_law 258 = .ok (.iload_n 3, 1) := dk_29 (dk_at dksL_law_3 2 rfl rfl)
theorem dL_law_259 : decode cL_law 259 = .ok (.iconst 1, 1) := dk_4 (dk_at dksL_law_3 3 rfl rfl)
theorem dL_law_260 : decode cL_law 260 = .ok (.iadd, 1) := dk_96 (dk_at dksL_law_3 4 rfl rfl)
theorem dL_law_261 : decode cL_law 261 = .ok (.iaload, 1) := dk_46 (dk_at dksL_law_3 5 rfl rfl)
theorem dL_law_262 : decode cL_law 262 = .ok (.aload_n 0, 1) := dk_42 (dk_at dksL_law_3 6 rfl rfl)
theorem dL_law_263 : decode cL_law 263 = .ok (.iload_n 3, 1) := dk_29 (dk_at dksL_law_3 7 rfl rfl)
theorem dL_law_264 : decode cL_law 264 = .ok (.iconst 2, 1) := dk_5 (dk_at dksL_law_3 8 rfl rfl)
theorem dL_law_265 : decode cL_law 265 = .ok (.iadd, 1) := dk_96 (dk_at dksL_law_3 9 rfl rfl)
theorem dL_law_266 : decode cL_law 266 = .ok (.iaload, 1) := dk_46 (dk_at dksL_law_3 10 rfl rfl)
theorem dL_law_267 : decode cL_law 267 = .ok (.invokevirtual 13, 3) := dk_182 0 13 (dk_at dksL_law_3 11 rfl rfl)
theorem dL_law_270 : decode cL_law 270 = .ok (.aload_n 2, 1) := dk_44 (dk_at dksL_law_3 14 rfl rfl)
theorem dL_law_271 : decode cL_law 271 = .ok (.aload_n 0, 1) := dk_42 (dk_at dksL_law_3 15 rfl rfl)
theorem dL_law_272 : decode cL_law 272 = .ok (.iload_n 3, 1) := dk_29 (dk_at dksL_law_3 16 rfl rfl)
theorem dL_law_273 : decode cL_law 273 = .ok (.iconst 1, 1) := dk_4 (dk_at dksL_law_3 17 rfl rfl)
theorem dL_law_274 : decode cL_law 274 = .ok (.iadd, 1) := dk_96 (dk_at dksL_law_3 18 rfl rfl)
theorem dL_law_275 : decode cL_law 275 = .ok (.iaload, 1) := dk_46 (dk_at dksL_law_3 19 rfl rfl)
theorem dL_law_276 : decode cL_law 276 = .ok (.aload_n 0, 1) := dk_42 (dk_at dksL_law_3 20 rfl rfl)
theorem dL_law_277 : decode cL_law 277 = .ok (.iload_n 3, 1) := dk_29 (dk_at dksL_law_3 21 rfl rfl)
theorem dL_law_278 : decode cL_law 278 = .ok (.iconst 2, 1) := dk_5 (dk_at dksL_law_3 22 rfl rfl)
theorem dL_law_279 : decode cL_law 279 = .ok (.iadd, 1) := dk_96 (dk_at dksL_law_3 23 rfl rfl)
theorem dL_law_280 : decode cL_law 280 = .ok (.iaload, 1) := dk_46 (dk_at dksL_law_4 0 rfl rfl)
theorem dL_law_281 : decode cL_law 281 = .ok (.invokevirtual 17, 3) := dk_182 0 17 (dk_at dksL_law_4 1 rfl rfl)
theorem dL_law_284 : decode cL_law 284 = .ok (.if_icmp .eq 1346, 3) := dk_159 5 66 (dk_at dksL_law_4 4 rfl rfl)
theorem dL_law_287 : decode cL_law 287 = .ok (.iconst 0, 1) := dk_3 (dk_at dksL_law_4 7 rfl rfl)
theorem dL_law_288 : decode cL_law 288 = .ok (.ireturn, 1) := dk_172 (dk_at dksL_law_4 8 rfl rfl)
theorem dL_law_289 : decode cL_law 289 = .ok (.aload_n 1, 1) := dk_43 (dk_at dksL_law_4 9 rfl rfl)
theorem dL_law_290 : decode cL_law 290 = .ok (.aload_n 0, 1) := dk_42 (dk_at dksL_law_4 10 rfl rfl)
theorem dL_law_291 : decode cL_law 291 = .ok (.iload_n 3, 1) := dk_29 (dk_at dksL_law_4 11 rfl rfl)
theorem dL_law_292 : decode cL_law 292 = .ok (.iconst 1, 1) := dk_4 (dk_at dksL_law_4 12 rfl rfl)
theorem dL_law_293 : decode cL_law 293 = .ok (.iadd, 1) := dk_96 (dk_at dksL_law_4 13 rfl rfl)
theorem dL_law_294 : decode cL_law 294 = .ok (.iaload, 1) := dk_46 (dk_at dksL_law_4 14 rfl rfl)
theorem dL_law_295 : decode cL_law 295 = .ok (.aload_n 0, 1) := dk_42 (dk_at dksL_law_4 15 rfl rfl)
theorem dL_law_296 : decode cL_law 296 = .ok (.iload_n 3, 1) := dk_29 (dk_at dksL_law_4 16 rfl rfl)
theorem dL_law_297 : decode cL_law 297 = .ok (.iconst 2, 1) := dk_5 (dk_at dksL_law_4 17 rfl rfl)
theorem dL_law_298 : decode cL_law 298 = .ok (.iadd, 1) := dk_96 (dk_at dksL_law_4 18 rfl rfl)
theorem dL_law_299 : decode cL_law 299 = .ok (.iaload, 1) := dk_46 (dk_at dksL_law_4 19 rfl rfl)
theorem dL_law_300 : decode cL_law 300 = .ok (.invokevirtual 18, 3) := dk_182 0 18 (dk_at dksL_law_4 20 rfl rfl)
theorem dL_law_303 : decode cL_law 303 = .ok (.aload_n 2, 1) := dk_44 (dk_at dksL_law_4 23 rfl rfl)
theorem dL_law_304 : decode cL_law 304 = .ok (.aload_n 0, 1) := dk_42 (dk_at dksL_law_5 0 rfl rfl)
theorem dL_law_305 : decode cL_law 305 = .ok (.iload_n 3, 1) := dk_29 (dk_at dksL_law_5 1 rfl rfl)
theorem dL_law_306 : decode cL_law 306 = .ok (.iconst 1, 1) := dk_4 (dk_at dksL_law_5 2 rfl rfl)
theorem dL_law_307 : decode cL_law 307 = .ok (.iadd, 1) := dk_96 (dk_at dksL_law_5 3 rfl rfl)
theorem dL_law_308 : decode cL_law 308 = .ok (.iaload, 1) := dk_46 (dk_at dksL_law_5 4 rfl rfl)
theorem dL_law_309 : decode cL_law 309 = .ok (.aload_n 0, 1) := dk_42 (dk_at dksL_law_5 5 rfl rfl)
theorem dL_law_310 : decode cL_law 310 = .ok (.iload_n 3, 1) := dk_29 (dk_at dksL_law_5 6 rfl rfl)
theorem dL_law_311 : decode cL_law 311 = .ok (.iconst 2, 1) := dk_5 (dk_at dksL_law_5 7 rfl rfl)
theorem dL_law_312 : decode cL_law 312 = .ok (.iadd, 1) := dk_96 (dk_at dksL_law_5 8 rfl rfl)
theorem dL_law_313 : decode cL_law 313 = .ok (.iaload, 1) := dk_46 (dk_at dksL_law_5 9 rfl rfl)
theorem dL_law_314 : decode cL_law 314 = .ok (.invokevirtual 22, 3) := dk_182 0 22 (dk_at dksL_law_5 10 rfl rfl)
theorem dL_law_317 : decode cL_law 317 = .ok (.if_icmp .eq 1313, 3) := dk_159 5 33 (dk_at dksL_law_5 13 rfl rfl)
theorem dL_law_320 : decode cL_law 320 = .ok (.iconst 0, 1) := dk_3 (dk_at dksL_law_5 16 rfl rfl)
theorem dL_law_321 : decode cL_law 321 = .ok (.ireturn, 1) := dk_172 (dk_at dksL_law_5 17 rfl rfl)
theorem dL_law_322 : decode cL_law 322 = .ok (.aload_n 1, 1) := dk_43 (dk_at dksL_law_5 18 rfl rfl)
theorem dL_law_323 : decode cL_law 323 = .ok (.aload_n 0, 1) := dk_42 (dk_at dksL_law_5 19 rfl rfl)
theorem dL_law_324 : decode cL_law 324 = .ok (.iload_n 3, 1) := dk_29 (dk_at dksL_law_5 20 rfl rfl)
theorem dL_law_325 : decode cL_law 325 = .ok (.iconst 1, 1) := dk_4 (dk_at dksL_law_5 21 rfl rfl)
theorem dL_law_326 : decode cL_law 326 = .ok (.iadd, 1) := dk_96 (dk_at dksL_law_5 22 rfl rfl)
theorem dL_law_327 : decode cL_law 327 = .ok (.iaload, 1) := dk_46 (dk_at dksL_law_5 23 rfl rfl)
theorem dL_law_328 : decode cL_law 328 = .ok (.aload_n 0, 1) := dk_42 (dk_at dksL_law_6 0 rfl rfl)
theorem dL_law_329 : decode cL_law 329 = .ok (.iload_n 3, 1) := dk_29 (dk_at dksL_law_6 1 rfl rfl)
theorem dL_law_330 : decode cL_law 330 = .ok (.iconst 2, 1) := dk_5 (dk_at dksL_law_6 2 rfl rfl)
theorem dL_law_331 : decode cL_law 331 = .ok (.iadd, 1) := dk_96 (dk_at dksL_law_6 3 rfl rfl)
theorem dL_law_332 : decode cL_law 332 = .ok (.iaload, 1) := dk_46 (dk_at dksL_law_6 4 rfl rfl)
theorem dL_law_333 : decode cL_law 333 = .ok (.aload_n 0, 1) := dk_42 (dk_at dksL_law_6 5 rfl rfl)
theorem dL_law_334 : decode cL_law 334 = .ok (.iload_n 3, 1) := dk_29 (dk_at dksL_law_6 6 rfl rfl)
theorem dL_law_335 : decode cL_law 335 = .ok (.iconst 3, 1) := dk_6 (dk_at dksL_law_6 7 rfl rfl)
theorem dL_law_336 : decode cL_law 336 = .ok (.iadd, 1) := dk_96 (dk_at dksL_law_6 8 rfl rfl)
theorem dL_law_337 : decode cL_law 337 = .ok (.iaload, 1) := dk_46 (dk_at dksL_law_6 9 rfl rfl)
theorem dL_law_338 : decode cL_law 338 = .ok (.aload_n 0, 1) := dk_42 (dk_at dksL_law_6 10 rfl rfl)
theorem dL_law_339 : decode cL_law 339 = .ok (.iload_n 3, 1) := dk_29 (dk_at dksL_law_6 11 rfl rfl)
theorem dL_law_340 : decode cL_law 340 = .ok (.iconst 4, 1) := dk_7 (dk_at dksL_law_6 12 rfl rfl)
theorem dL_law_341 : decode cL_law 341 = .ok (.iadd, 1) := dk_96 (dk_at dksL_law_6 13 rfl rfl)
theorem dL_law_342 : decode cL_law 342 = .ok (.iaload, 1) := dk_46 (dk_at dksL_law_6 14 rfl rfl)
theorem dL_law_343 : decode cL_law 343 = .ok (.aload_n 0, 1) := dk_42 (dk_at dksL_law_6 15 rfl rfl)
theorem dL_law_344 : decode cL_law 344 = .ok (.iload_n 3, 1) := dk_29 (dk_at dksL_law_6 16 rfl rfl)
theorem dL_law_345 : decode cL_law 345 = .ok (.iconst 5, 1) := dk_8 (dk_at dksL_law_6 17 rfl rfl)
theorem dL_law_346 : decode cL_law 346 = .ok (.iadd, 1) := dk_96 (dk_at dksL_law_6 18 rfl rfl)
theorem dL_law_347 : decode cL_law 347 = .ok (.iaload, 1) := dk_46 (dk_at dksL_law_6 19 rfl rfl)
theorem dL_law_348 : decode cL_law 348 = .ok (.invokevirtual 23, 3) := dk_182 0 23 (dk_at dksL_law_6 20 rfl rfl)
theorem dL_law_351 : decode cL_law 351 = .ok (.aload_n 2, 1) := dk_44 (dk_at dksL_law_6 23 rfl rfl)
theorem dL_law_352 : decode cL_law 352 = .ok (.aload_n 0, 1) := dk_42 (dk_at dksL_law_7 0 rfl rfl)
theorem dL_law_353 : decode cL_law 353 = .ok (.iload_n 3, 1) := dk_29 (dk_at dksL_law_7 1 rfl rfl)
theorem dL_law_354 : decode cL_law 354 = .ok (.iconst 1, 1) := dk_4 (dk_at dksL_law_7 2 rfl rfl)
theorem dL_law_355 : decode cL_law 355 = .ok (.iadd, 1) := dk_96 (dk_at dksL_law_7 3 rfl rfl)
theorem dL_law_356 : decode cL_law 356 = .ok (.iaload, 1) := dk_46 (dk_at dksL_law_7 4 rfl rfl)
theorem dL_law_357 : decode cL_law 357 = .ok (.aload_n 0, 1) := dk_42 (dk_at dksL_law_7 5 rfl rfl)
theorem dL_law_358 : decode cL_law 358 = .ok (.iload_n 3, 1) := dk_29 (dk_at dksL_law_7 6 rfl rfl)
theorem dL_law_359 : decode cL_law 359 = .ok (.iconst 2, 1) := dk_5 (dk_at dksL_law_7 7 rfl rfl)
theorem dL_law_360 : decode cL_law 360 = .ok (.iadd, 1) := dk_96 (dk_at dksL_law_7 8 rfl rfl)
theorem dL_law_361 : decode cL_law 361 = .ok (.iaload, 1) := dk_46 (dk_at dksL_law_7 9 rfl rfl)
theorem dL_law_362 : decode cL_law 362 = .ok (.aload_n 0, 1) := dk_42 (dk_at dksL_law_7 10 rfl rfl)
theorem dL_law_363 : decode cL_law 363 = .ok (.iload_n 3, 1) := dk_29 (dk_at dksL_law_7 11 rfl rfl)
theorem dL_law_364 : decode cL_law 364 = .ok (.iconst 3, 1) := dk_6 (dk_at dksL_law_7 12 rfl rfl)
theorem dL_law_365 : decode cL_law 365 = .ok (.iadd, 1) := dk_96 (dk_at dksL_law_7 13 rfl rfl)
theorem dL_law_366 : decode cL_law 366 = .ok (.iaload, 1) := dk_46 (dk_at dksL_law_7 14 rfl rfl)
theorem dL_law_367 : decode cL_law 367 = .ok (.aload_n 0, 1) := dk_42 (dk_at dksL_law_7 15 rfl rfl)
theorem dL_law_368 : decode cL_law 368 = .ok (.iload_n 3, 1) := dk_29 (dk_at dksL_law_7 16 rfl rfl)
theorem dL_law_369 : decode cL_law 369 = .ok (.iconst 4, 1) := dk_7 (dk_at dksL_law_7 17 rfl rfl)
theorem dL_law_370 : decode cL_law 370 = .ok (.iadd, 1) := dk_96 (dk_at dksL_law_7 18 rfl rfl)
theorem dL_law_371 : decode cL_law 371 = .ok (.iaload, 1) := dk_46 (dk_at dksL_law_7 19 rfl rfl)
theorem dL_law_372 : decode cL_law 372 = .ok (.aload_n 0, 1) := dk_42 (dk_at dksL_law_7 20 rfl rfl)
theorem dL_law_373 : decode cL_law 373 = .ok (.iload_n 3, 1) := dk_29 (dk_at dksL_law_7 21 rfl rfl)
theorem dL_law_374 : decode cL_law 374 = .ok (.iconst 5, 1) := dk_8 (dk_at dksL_law_7 22 rfl rfl)
theorem dL_law_375 : decode cL_law 375 = .ok (.iadd, 1) := dk_96 (dk_at dksL_law_7 23 rfl rfl)
theorem dL_law_376 : decode cL_law 376 = .ok (.iaload, 1) := dk_46 (dk_at dksL_law_8 0 rfl rfl)
theorem dL_law_377 : decode cL_law 377 = .ok (.invokevirtual 27, 3) := dk_182 0 27 (dk_at dksL_law_8 1 rfl rfl)
theorem dL_law_380 : decode cL_law 380 = .ok (.if_icmp .eq 1250, 3) := dk_159 4 226 (dk_at dksL_law_8 4 rfl rfl)
theorem dL_law_383 : decode cL_law 383 = .ok (.iconst 0, 1) := dk_3 (dk_at dksL_law_8 7 rfl rfl)
theorem dL_law_384 : decode cL_law 384 = .ok (.ireturn, 1) := dk_172 (dk_at dksL_law_8 8 rfl rfl)
theorem dL_law_385 : decode cL_law 385 = .ok (.aload_n 1, 1) := dk_43 (dk_at dksL_law_8 9 rfl rfl)
theorem dL_law_386 : decode cL_law 386 = .ok (.aload_n 0, 1) := dk_42 (dk_at dksL_law_8 10 rfl rfl)
theorem dL_law_387 : decode cL_law 387 = .ok (.iload_n 3, 1) := dk_29 (dk_at dksL_law_8 11 rfl rfl)
theorem dL_law_388 : decode cL_law 388 = .ok (.iconst 1, 1) := dk_4 (dk_at dksL_law_8 12 rfl rfl)
theorem dL_law_389 : decode cL_law 389 = .ok (.iadd, 1) := dk_96 (dk_at dksL_law_8 13 rfl rfl)
theorem dL_law_390 : decode cL_law 390 = .ok (.iaload, 1) := dk_46 (dk_at dksL_law_8 14 rfl rfl)
theorem dL_law_391 : decode cL_law 391 = .ok (.invokevirtual 28, 3) := dk_182 0 28 (dk_at dksL_law_8 15 rfl rfl)
theorem dL_law_394 : decode cL_law 394 = .ok (.aload_n 2, 1) := dk_44 (dk_at dksL_law_8 18 rfl rfl)
theorem dL_law_395 : decode cL_law 395 = .ok (.aload_n 0, 1) := dk_42 (dk_at dksL_law_8 19 rfl rfl)
theorem dL_law_396 : decode cL_law 396 = .ok (.iload_n 3, 1) := dk_29 (dk_at dksL_law_8 20 rfl rfl)
theorem dL_law_397 : decode cL_law 397 = .ok (.iconst 1, 1) := dk_4 (dk_at dksL_law_8 21 rfl rfl)
theorem dL_law_398 : decode cL_law 398 = .ok (.iadd, 1) := dk_96 (dk_at dksL_law_8 22 rfl rfl)
theorem dL_law_399 : decode cL_law 399 = .ok (.iaload, 1) := dk_46 (dk_at dksL_law_8 23 rfl rfl)
theorem dL_law_400 : decode cL_law 400 = .ok (.invokevirtual 32, 3) := dk_182 0 32 (dk_at dksL_law_9 0 rfl rfl)
theorem dL_law_403 : decode cL_law 403 = .ok (.if_icmp .eq 1227, 3) := dk_159 4 203 (dk_at dksL_law_9 3 rfl rfl)
theorem dL_law_406 : decode cL_law 406 = .ok (.iconst 0, 1) := dk_3 (dk_at dksL_law_9 6 rfl rfl)
theorem dL_law_407 : decode cL_law 407 = .ok (.ireturn, 1) := dk_172 (dk_at dksL_law_9 7 rfl rfl)
theorem dL_law_408 : decode cL_law 408 = .ok (.aload_n 1, 1) := dk_43 (dk_at dksL_law_9 8 rfl rfl)
theorem dL_law_409 : decode cL_law 409 = .ok (.invokevirtual 33, 3) := dk_182 0 33 (dk_at dksL_law_9 9 rfl rfl)
theorem dL_law_412 : decode cL_law 412 = .ok (.aload_n 2, 1) := dk_44 (dk_at dksL_law_9 12 rfl rfl)
theorem dL_law_413 : decode cL_law 413 = .ok (.invokevirtual 37, 3) := dk_182 0 37 (dk_at dksL_law_9 13 rfl rfl)
theorem dL_law_416 : decode cL_law 416 = .ok (.if_icmp .eq 1214, 3) := dk_159 4 190 (dk_at dksL_law_9 16 rfl rfl)
theorem dL_law_419 : decode cL_law 419 = .ok (.iconst 0, 1) := dk_3 (dk_at dksL_law_9 19 rfl rfl)
theorem dL_law_420 : decode cL_law 420 = .ok (.ireturn, 1) := dk_172 (dk_at dksL_law_9 20 rfl rfl)
theorem dL_law_421 : decode cL_law 421 = .ok (.aload_n 1, 1) := dk_43 (dk_at dksL_law_9 21 rfl rfl)
theorem dL_law_422 : decode cL_law 422 = .ok (.aload_n 0, 1) := dk_42 (dk_at dksL_law_9 22 rfl rfl)
theorem dL_law_423 : decode cL_law 423 = .ok (.iload_n 3, 1) := dk_29 (dk_at dksL_law_9 23 rfl rfl)
theorem dL_law_424 : decode cL_law 424 = .ok (.iconst 1, 1) := dk_4 (dk_at dksL_law_10 0 rfl rfl)
theorem dL_law_425 : decode cL_law 425 = .ok (.iadd, 1) := dk_96 (dk_at dksL_law_10 1 rfl rfl)
theorem dL_law_426 : decode cL_law 426 = .ok (.iaload, 1) := dk_46 (dk_at dksL_law_10 2 rfl rfl)
theorem dL_law_427 : decode cL_law 427 = .ok (.invokevirtual 38, 3) := dk_182 0 38 (dk_at dksL_law_10 3 rfl rfl)
theorem dL_law_430 : decode cL_law 430 = .ok (.aload_n 2, 1) := dk_44 (dk_at dksL_law_10 6 rfl rfl)
theorem dL_law_431 : decode cL_law 431 = .ok (.aload_n 0, 1) := dk_42 (dk_at dksL_law_10 7 rfl rfl)
theorem dL_law_432 : decode cL_law 432 = .ok (.iload_n 3, 1) := dk_29 (dk_at dksL_law_10 8 rfl rfl)
theorem dL_law_433 : decode cL_law 433 = .ok (.iconst 1, 1) := dk_4 (dk_at dksL_law_10 9 rfl rfl)
theorem dL_law_434 : decode cL_law 434 = .ok (.iadd, 1) := dk_96 (dk_at dksL_law_10 10 rfl rfl)
theorem dL_law_435 : decode cL_law 435 = .ok (.iaload, 1) := dk_46 (dk_at dksL_law_10 11 rfl rfl)
theorem dL_law_436 : decode cL_law 436 = .ok (.invokevirtual 41, 3) := dk_182 0 41 (dk_at dksL_law_10 12 rfl rfl)
theorem dL_law_439 : decode cL_law 439 = .ok (.if_icmp .eq 1191, 3) := dk_159 4 167 (dk_at dksL_law_10 15 rfl rfl)
theorem dL_law_442 : decode cL_law 442 = .ok (.iconst 0, 1) := dk_3 (dk_at dksL_law_10 18 rfl rfl)
theorem dL_law_443 : decode cL_law 443 = .ok (.ireturn, 1) := dk_172 (dk_at dksL_law_10 19 rfl rfl)
theorem dL_law_444 : decode cL_law 444 = .ok (.aload_n 1, 1) := dk_43 (dk_at dksL_law_10 20 rfl rfl)
theorem dL_law_445 : decode cL_law 445 = .ok (.aload_n 0, 1) := dk_42 (dk_at dksL_law_10 21 rfl rfl)
theorem dL_law_446 : decode cL_law 446 = .ok (.iload_n 3, 1) := dk_29 (dk_at dksL_law_10 22 rfl rfl)
theorem dL_law_447 : decode cL_law 447 = .ok (.iconst 1, 1) := dk_4 (dk_at dksL_law_10 23 rfl rfl)
theorem dL_law_448 : decode cL_law 448 = .ok (.iadd, 1) := dk_96 (dk_at dksL_law_11 0 rfl rfl)
theorem dL_law_449 : decode cL_law 449 = .ok (.iaload, 1) := dk_46 (dk_at dksL_law_11 1 rfl rfl)
theorem dL_law_450 : decode cL_law 450 = .ok (.invokevirtual 42, 3) := dk_182 0 42 (dk_at dksL_law_11 2 rfl rfl)
theorem dL_law_453 : decode cL_law 453 = .ok (.aload_n 2, 1) := dk_44 (dk_at dksL_law_11 5 rfl rfl)
theorem dL_law_454 : decode cL_law 454 = .ok (.aload_n 0, 1) := dk_42 (dk_at dksL_law_11 6 rfl rfl)
theorem dL_law_455 : decode cL_law 455 = .ok (.iload_n 3, 1) := dk_29 (dk_at dksL_law_11 7 rfl rfl)
theorem dL_law_456 : decode cL_law 456 = .ok (.iconst 1, 1) := dk_4 (dk_at dksL_law_11 8 rfl rfl)
theorem dL_law_457 : decode cL_law 457 = .ok (.iadd, 1) := dk_96 (dk_at dksL_law_11 9 rfl rfl)
theorem dL_law_458 : decode cL_law 458 = .ok (.iaload, 1) := dk_46 (dk_at dksL_law_11 10 rfl rfl)
theorem dL_law_459 : decode cL_law 459 = .ok (.invokevirtual 46, 3) := dk_182 0 46 (dk_at dksL_law_11 11 rfl rfl)
theorem dL_law_462 : decode cL_law 462 = .ok (.if_icmp .eq 1168, 3) := dk_159 4 144 (dk_at dksL_law_11 14 rfl rfl)
theorem dL_law_465 : decode cL_law 465 = .ok (.iconst 0, 1) := dk_3 (dk_at dksL_law_11 17 rfl rfl)
theorem dL_law_466 : decode cL_law 466 = .ok (.ireturn, 1) := dk_172 (dk_at dksL_law_11 18 rfl rfl)
theorem dL_law_467 : decode cL_law 467 = .ok (.aload_n 1, 1) := dk_43 (dk_at dksL_law_11 19 rfl rfl)
theorem dL_law_468 : decode cL_law 468 = .ok (.aload_n 0, 1) := dk_42 (dk_at dksL_law_11 20 rfl rfl)
theorem dL_law_469 : decode cL_law 469 = .ok (.iload_n 3, 1) := dk_29 (dk_at dksL_law_11 21 rfl rfl)
theorem dL_law_470 : decode cL_law 470 = .ok (.iconst 1, 1) := dk_4 (dk_at dksL_law_11 22 rfl rfl)
theorem dL_law_471 : decode cL_law 471 = .ok (.iadd, 1) := dk_96 (dk_at dksL_law_11 23 rfl rfl)
theorem dL_law_472 : decode cL_law 472 = .ok (.iaload, 1) := dk_46 (dk_at dksL_law_12 0 rfl rfl)
theorem dL_law_473 : decode cL_law 473 = .ok (.invokevirtual 47, 3) := dk_182 0 47 (dk_at dksL_law_12 1 rfl rfl)
theorem dL_law_476 : decode cL_law 476 = .ok (.aload_n 2, 1) := dk_44 (dk_at dksL_law_12 4 rfl rfl)
theorem dL_law_477 : decode cL_law 477 = .ok (.aload_n 0, 1) := dk_42 (dk_at dksL_law_12 5 rfl rfl)
theorem dL_law_478 : decode cL_law 478 = .ok (.iload_n 3, 1) := dk_29 (dk_at dksL_law_12 6 rfl rfl)
theorem dL_law_479 : decode cL_law 479 = .ok (.iconst 1, 1) := dk_4 (dk_at dksL_law_12 7 rfl rfl)
theorem dL_law_480 : decode cL_law 480 = .ok (.iadd, 1) := dk_96 (dk_at dksL_law_12 8 rfl rfl)
theorem dL_law_481 : decode cL_law 481 = .ok (.iaload, 1) := dk_46 (dk_at dksL_law_12 9 rfl rfl)
theorem dL_law_482 : decode cL_law 482 = .ok (.invokevirtual 50, 3) := dk_182 0 50 (dk_at dksL_law_12 10 rfl rfl)
theorem dL_law_485 : decode cL_law 485 = .ok (.if_icmp .eq 1145, 3) := dk_159 4 121 (dk_at dksL_law_12 13 rfl rfl)
theorem dL_law_488 : decode cL_law 488 = .ok (.iconst 0, 1) := dk_3 (dk_at dksL_law_12 16 rfl rfl)
theorem dL_law_489 : decode cL_law 489 = .ok (.ireturn, 1) := dk_172 (dk_at dksL_law_12 17 rfl rfl)
theorem dL_law_490 : decode cL_law 490 = .ok (.aload_n 1, 1) := dk_43 (dk_at dksL_law_12 18 rfl rfl)
theorem dL_law_491 : decode cL_law 491 = .ok (.aload_n 0, 1) := dk_42 (dk_at dksL_law_12 19 rfl rfl)
theorem dL_law_492 : decode cL_law 492 = .ok (.iload_n 3, 1) := dk_29 (dk_at dksL_law_12 20 rfl rfl)
theorem dL_law_493 : decode cL_law 493 = .ok (.iconst 1, 1) := dk_4 (dk_at dksL_law_12 21 rfl rfl)
theorem dL_law_494 : decode cL_law 494 = .ok (.iadd, 1) := dk_96 (dk_at dksL_law_12 22 rfl rfl)
theorem dL_law_495 : decode cL_law 495 = .ok (.iaload, 1) := dk_46 (dk_at dksL_law_12 23 rfl rfl)
theorem dL_law_496 : decode cL_law 496 = .ok (.invokevirtual 51, 3) := dk_182 0 51 (dk_at dksL_law_13 0 rfl rfl)
theorem dL_law_499 : decode cL_law 499 = .ok (.aload_n 2, 1) := dk_44 (dk_at dksL_law_13 3 rfl rfl)
theorem dL_law_500 : decode cL_law 500 = .ok (.aload_n 0, 1) := dk_42 (dk_at dksL_law_13 4 rfl rfl)
theorem dL_law_501 : decode cL_law 501 = .ok (.iload_n 3, 1) := dk_29 (dk_at dksL_law_13 5 rfl rfl)
theorem dL_law_502 : decode cL_law 502 = .ok (.iconst 1, 1) := dk_4 (dk_at dksL_law_13 6 rfl rfl)
theorem dL_law_503 : decode cL_law 503 = .ok (.iadd, 1) := dk_96 (dk_at dksL_law_13 7 rfl rfl)
theorem dL_law_504 : decode cL_law 504 = .ok (.iaload, 1) := dk_46 (dk_at dksL_law_13 8 rfl rfl)
theorem dL_law_505 : decode cL_law 505 = .ok (.invokevirtual 54, 3) := dk_182 0 54 (dk_at dksL_law_13 9 rfl rfl)
theorem dL_law_508 : decode cL_law 508 = .ok (.if_icmp .eq 1122, 3) := dk_159 4 98 (dk_at dksL_law_13 12 rfl rfl)
theorem dL_law_511 : decode cL_law 511 = .ok (.iconst 0, 1) := dk_3 (dk_at dksL_law_13 15 rfl rfl)
theorem dL_law_512 : decode cL_law 512 = .ok (.ireturn, 1) := dk_172 (dk_at dksL_law_13 16 rfl rfl)
theorem dL_law_513 : decode cL_law 513 = .ok (.aload_n 1, 1) := dk_43 (dk_at dksL_law_13 17 rfl rfl)
theorem dL_law_514 : decode cL_law 514 = .ok (.aload_n 0, 1) := dk_42 (dk_at dksL_law_13 18 rfl rfl)
theorem dL_law_515 : decode cL_law 515 = .ok (.iload_n 3, 1) := dk_29 (dk_at dksL_law_13 19 rfl rfl)
theorem dL_law_516 : decode cL_law 516 = .ok (.iconst 1, 1) := dk_4 (dk_at dksL_law_13 20 rfl rfl)
theorem dL_law_517 : decode cL_law 517 = .ok (.iadd, 1) := dk_96 (dk_at dksL_law_13 21 rfl rfl)
theorem dL_law_518 : decode cL_law 518 = .ok (.iaload, 1) := dk_46 (dk_at dksL_law_13 22 rfl rfl)
theorem dL_law_519 : decode cL_law 519 = .ok (.invokevirtual 55, 3) := dk_182 0 55 (dk_at dksL_law_14 0 rfl rfl)
theorem dL_law_522 : decode cL_law 522 = .ok (.aload_n 2, 1) := dk_44 (dk_at dksL_law_14 3 rfl rfl)
theorem dL_law_523 : decode cL_law 523 = .ok (.aload_n 0, 1) := dk_42 (dk_at dksL_law_14 4 rfl rfl)
theorem dL_law_524 : decode cL_law 524 = .ok (.iload_n 3, 1) := dk_29 (dk_at dksL_law_14 5 rfl rfl)
theorem dL_law_525 : decode cL_law 525 = .ok (.iconst 1, 1) := dk_4 (dk_at dksL_law_14 6 rfl rfl)
theorem dL_law_526 : decode cL_law 526 = .ok (.iadd, 1) := dk_96 (dk_at dksL_law_14 7 rfl rfl)
theorem dL_law_527 : decode cL_law 527 = .ok (.iaload, 1) := dk_46 (dk_at dksL_law_14 8 rfl rfl)
theorem dL_law_528 : decode cL_law 528 = .ok (.invokevirtual 58, 3) := dk_182 0 58 (dk_at dksL_law_14 9 rfl rfl)
theorem dL_law_531 : decode cL_law 531 = .ok (.if_icmp .eq 1099, 3) := dk_159 4 75 (dk_at dksL_law_14 12 rfl rfl)
theorem dL_law_534 : decode cL_law 534 = .ok (.iconst 0, 1) := dk_3 (dk_at dksL_law_14 15 rfl rfl)
theorem dL_law_535 : decode cL_law 535 = .ok (.ireturn, 1) := dk_172 (dk_at dksL_law_14 16 rfl rfl)
theorem dL_law_536 : decode cL_law 536 = .ok (.aload_n 1, 1) := dk_43 (dk_at dksL_law_14 17 rfl rfl)
theorem dL_law_537 : decode cL_law 537 = .ok (.aload_n 0, 1) := dk_42 (dk_at dksL_law_14 18 rfl rfl)
theorem dL_law_538 : decode cL_law 538 = .ok (.iload_n 3, 1) := dk_29 (dk_at dksL_law_14 19 rfl rfl)
theorem dL_law_539 : decode cL_law 539 = .ok (.iconst 1, 1) := dk_4 (dk_at dksL_law_14 20 rfl rfl)
theorem dL_law_540 : decode cL_law 540 = .ok (.iadd, 1) := dk_96 (dk_at dksL_law_14 21 rfl rfl)
theorem dL_law_541 : decode cL_law 541 = .ok (.iaload, 1) := dk_46 (dk_at dksL_law_14 22 rfl rfl)
theorem dL_law_542 : decode cL_law 542 = .ok (.invokevirtual 59, 3) := dk_182 0 59 (dk_at dksL_law_15 0 rfl rfl)
theorem dL_law_545 : decode cL_law 545 = .ok (.aload_n 2, 1) := dk_44 (dk_at dksL_law_15 3 rfl rfl)
theorem dL_law_546 : decode cL_law 546 = .ok (.aload_n 0, 1) := dk_42 (dk_at dksL_law_15 4 rfl rfl)
theorem dL_law_547 : decode cL_law 547 = .ok (.iload_n 3, 1) := dk_29 (dk_at dksL_law_15 5 rfl rfl)
theorem dL_law_548 : decode cL_law 548 = .ok (.iconst 1, 1) := dk_4 (dk_at dksL_law_15 6 rfl rfl)
theorem dL_law_549 : decode cL_law 549 = .ok (.iadd, 1) := dk_96 (dk_at dksL_law_15 7 rfl rfl)
theorem dL_law_550 : decode cL_law 550 = .ok (.iaload, 1) := dk_46 (dk_at dksL_law_15 8 rfl rfl)
theorem dL_law_551 : decode cL_law 551 = .ok (.invokevirtual 62, 3) := dk_182 0 62 (dk_at dksL_law_15 9 rfl rfl)
theorem dL_law_554 : decode cL_law 554 = .ok (.if_icmp .eq 1076, 3) := dk_159 4 52 (dk_at dksL_law_15 12 rfl rfl)
theorem dL_law_557 : decode cL_law 557 = .ok (.iconst 0, 1) := dk_3 (dk_at dksL_law_15 15 rfl rfl)
theorem dL_law_558 : decode cL_law 558 = .ok (.ireturn, 1) := dk_172 (dk_at dksL_law_15 16 rfl rfl)
theorem dL_law_559 : decode cL_law 559 = .ok (.aload_n 1, 1) := dk_43 (dk_at dksL_law_15 17 rfl rfl)
theorem dL_law_560 : decode cL_law 560 = .ok (.aload_n 0, 1) := dk_42 (dk_at dksL_law_15 18 rfl rfl)
theorem dL_law_561 : decode cL_law 561 = .ok (.iload_n 3, 1) := dk_29 (dk_at dksL_law_15 19 rfl rfl)
theorem dL_law_562 : decode cL_law 562 = .ok (.iconst 1, 1) := dk_4 (dk_at dksL_law_15 20 rfl rfl)
theorem dL_law_563 : decode cL_law 563 = .ok (.iadd, 1) := dk_96 (dk_at dksL_law_15 21 rfl rfl)
theorem dL_law_564 : decode cL_law 564 = .ok (.iaload, 1) := dk_46 (dk_at dksL_law_15 22 rfl rfl)
theorem dL_law_565 : decode cL_law 565 = .ok (.aload_n 0, 1) := dk_42 (dk_at dksL_law_15 23 rfl rfl)
theorem dL_law_566 : decode cL_law 566 = .ok (.iload_n 3, 1) := dk_29 (dk_at dksL_law_16 0 rfl rfl)
theorem dL_law_567 : decode cL_law 567 = .ok (.iconst 2, 1) := dk_5 (dk_at dksL_law_16 1 rfl rfl)
theorem dL_law_568 : decode cL_law 568 = .ok (.iadd, 1) := dk_96 (dk_at dksL_law_16 2 rfl rfl)
theorem dL_law_569 : decode cL_law 569 = .ok (.iaload, 1) := dk_46 (dk_at dksL_law_16 3 rfl rfl)
theorem dL_law_570 : decode cL_law 570 = .ok (.invokevirtual 63, 3) := dk_182 0 63 (dk_at dksL_law_16 4 rfl rfl)
theorem dL_law_573 : decode cL_law 573 = .ok (.aload_n 2, 1) := dk_44 (dk_at dksL_law_16 7 rfl rfl)
theorem dL_law_574 : decode cL_law 574 = .ok (.aload_n 0, 1) := dk_42 (dk_at dksL_law_16 8 rfl rfl)
theorem dL_law_575 : decode cL_law 575 = .ok (.iload_n 3, 1) := dk_29 (dk_at dksL_law_16 9 rfl rfl)
theorem dL_law_576 : decode cL_law 576 = .ok (.iconst 1, 1) := dk_4 (dk_at dksL_law_16 10 rfl rfl)
theorem dL_law_577 : decode cL_law 577 = .ok (.iadd, 1) := dk_96 (dk_at dksL_law_16 11 rfl rfl)
theorem dL_law_578 : decode cL_law 578 = .ok (.iaload, 1) := dk_46 (dk_at dksL_law_16 12 rfl rfl)
theorem dL_law_579 : decode cL_law 579 = .ok (.aload_n 0, 1) := dk_42 (dk_at dksL_law_16 13 rfl rfl)
theorem dL_law_580 : decode cL_law 580 = .ok (.iload_n 3, 1) := dk_29 (dk_at dksL_law_16 14 rfl rfl)
theorem dL_law_581 : decode cL_law 581 = .ok (.iconst 2, 1) := dk_5 (dk_at dksL_law_16 15 rfl rfl)
theorem dL_law_582 : decode cL_law 582 = .ok (.iadd, 1) := dk_96 (dk_at dksL_law_16 16 rfl rfl)
theorem dL_law_583 : decode cL_law 583 = .ok (.iaload, 1) := dk_46 (dk_at dksL_law_16 17 rfl rfl)
theorem dL_law_584 : decode cL_law 584 = .ok (.invokevirtual 66, 3) := dk_182 0 66 (dk_at dksL_law_16 18 rfl rfl)
theorem dL_law_587 : decode cL_law 587 = .ok (.if_icmp .eq 1043, 3) := dk_159 4 19 (dk_at dksL_law_16 21 rfl rfl)
theorem dL_law_590 : decode cL_law 590 = .ok (.iconst 0, 1) := dk_3 (dk_at dksL_law_17 0 rfl rfl)
theorem dL_law_591 : decode cL_law 591 = .ok (.ireturn, 1) := dk_172 (dk_at dksL_law_17 1 rfl rfl)
theorem dL_law_592 : decode cL_law 592 = .ok (.aload_n 1, 1) := dk_43 (dk_at dksL_law_17 2 rfl rfl)
theorem dL_law_593 : decode cL_law 593 = .ok (.invokevirtual 67, 3) := dk_182 0 67 (dk_at dksL_law_17 3 rfl rfl)
theorem dL_law_596 : decode cL_law 596 = .ok (.aload_n 2, 1) := dk_44 (dk_at dksL_law_17 6 rfl rfl)
theorem dL_law_597 : decode cL_law 597 = .ok (.invokevirtual 70, 3) := dk_182 0 70 (dk_at dksL_law_17 7 rfl rfl)
theorem dL_law_600 : decode cL_law 600 = .ok (.if_icmp .eq 1030, 3) := dk_159 4 6 (dk_at dksL_law_17 10 rfl rfl)
theorem dL_law_603 : decode cL_law 603 = .ok (.iconst 0, 1) := dk_3 (dk_at dksL_law_17 13 rfl rfl)
theorem dL_law_604 : decode cL_law 604 = .ok (.ireturn, 1) := dk_172 (dk_at dksL_law_17 14 rfl rfl)
theorem dL_law_605 : decode cL_law 605 = .ok (.aload_n 1, 1) := dk_43 (dk_at dksL_law_17 15 rfl rfl)
theorem dL_law_606 : decode cL_law 606 = .ok (.aload_n 0, 1) := dk_42 (dk_at dksL_law_17 16 rfl rfl)
theorem dL_law_607 : decode cL_law 607 = .ok (.iload_n 3, 1) := dk_29 (dk_at dksL_law_17 17 rfl rfl)
theorem dL_law_608 : decode cL_law 608 = .ok (.iconst 1, 1) := dk_4 (dk_at dksL_law_17 18 rfl rfl)
theorem dL_law_609 : decode cL_law 609 = .ok (.iadd, 1) := dk_96 (dk_at dksL_law_17 19 rfl rfl)
theorem dL_law_610 : decode cL_law 610 = .ok (.iaload, 1) := dk_46 (dk_at dksL_law_17 20 rfl rfl)
theorem dL_law_611 : decode cL_law 611 = .ok (.aload_n 0, 1) := dk_42 (dk_at dksL_law_17 21 rfl rfl)
theorem dL_law_612 : decode cL_law 612 = .ok (.iload_n 3, 1) := dk_29 (dk_at dksL_law_17 22 rfl rfl)
theorem dL_law_613 : decode cL_law 613 = .ok (.iconst 2, 1) := dk_5 (dk_at dksL_law_17 23 rfl rfl)
theorem dL_law_614 : decode cL_law 614 = .ok (.iadd, 1) := dk_96 (dk_at dksL_law_18 0 rfl rfl)
theorem dL_law_615 : decode cL_law 615 = .ok (.iaload, 1) := dk_46 (dk_at dksL_law_18 1 rfl rfl)
theorem dL_law_616 : decode cL_law 616 = .ok (.invokevirtual 71, 3) := dk_182 0 71 (dk_at dksL_law_18 2 rfl rfl)
theorem dL_law_619 : decode cL_law 619 = .ok (.aload_n 2, 1) := dk_44 (dk_at dksL_law_18 5 rfl rfl)
theorem dL_law_620 : decode cL_law 620 = .ok (.aload_n 0, 1) := dk_42 (dk_at dksL_law_18 6 rfl rfl)
theorem dL_law_621 : decode cL_law 621 = .ok (.iload_n 3, 1) := dk_29 (dk_at dksL_law_18 7 rfl rfl)
theorem dL_law_622 : decode cL_law 622 = .ok (.iconst 1, 1) := dk_4 (dk_at dksL_law_18 8 rfl rfl)
theorem dL_law_623 : decode cL_law 623 = .ok (.iadd, 1) := dk_96 (dk_at dksL_law_18 9 rfl rfl)
theorem dL_law_624 : decode cL_law 624 = .ok (.iaload, 1) := dk_46 (dk_at dksL_law_18 10 rfl rfl)
theorem dL_law_625 : decode cL_law 625 = .ok (.aload_n 0, 1) := dk_42 (dk_at dksL_law_18 11 rfl rfl)
theorem dL_law_626 : decode cL_law 626 = .ok (.iload_n 3, 1) := dk_29 (dk_at dksL_law_18 12 rfl rfl)
theorem dL_law_627 : decode cL_law 627 = .ok (.iconst 2, 1) := dk_5 (dk_at dksL_law_18 13 rfl rfl)
theorem dL_law_628 : decode cL_law 628 = .ok (.iadd, 1) := dk_96 (dk_at dksL_law_18 14 rfl rfl)
theorem dL_law_629 : decode cL_law 629 = .ok (.iaload, 1) := dk_46 (dk_at dksL_law_18 15 rfl rfl)
theorem dL_law_630 : decode cL_law 630 = .ok (.invokevirtual 74, 3) := dk_182 0 74 (dk_at dksL_law_18 16 rfl rfl)
theorem dL_law_633 : decode cL_law 633 = .ok (.if_icmp .eq 997, 3) := dk_159 3 229 (dk_at dksL_law_18 19 rfl rfl)
theorem dL_law_636 : decode cL_law 636 = .ok (.iconst 0, 1) := dk_3 (dk_at dksL_law_18 22 rfl rfl)
theorem dL_law_637 : decode cL_law 637 = .ok (.ireturn, 1) := dk_172 (dk_at dksL_law_18 23 rfl rfl)
theorem dL_law_638 : decode cL_law 638 = .ok (.aload_n 1, 1) := dk_43 (dk_at dksL_law_19 0 rfl rfl)
theorem dL_law_639 : decode cL_law 639 = .ok (.aload_n 0, 1) := dk_42 (dk_at dksL_law_19 1 rfl rfl)
theorem dL_law_640 : decode cL_law 640 = .ok (.iload_n 3, 1) := dk_29 (dk_at dksL_law_19 2 rfl rfl)
theorem dL_law_641 : decode cL_law 641 = .ok (.iconst 1, 1) := dk_4 (dk_at dksL_law_19 3 rfl rfl)
theorem dL_law_642 : decode cL_law 642 = .ok (.iadd, 1) := dk_96 (dk_at dksL_law_19 4 rfl rfl)
theorem dL_law_643 : decode cL_law 643 = .ok (.iaload, 1) := dk_46 (dk_at dksL_law_19 5 rfl rfl)
theorem dL_law_644 : decode cL_law 644 = .ok (.invokevirtual 75, 3) := dk_182 0 75 (dk_at dksL_law_19 6 rfl rfl)
theorem dL_law_647 : decode cL_law 647 = .ok (.aload_n 2, 1) := dk_44 (dk_at dksL_law_19 9 rfl rfl)
theorem dL_law_648 : decode cL_law 648 = .ok (.aload_n 0, 1) := dk_42 (dk_at dksL_law_19 10 rfl rfl)
theorem dL_law_649 : decode cL_law 649 = .ok (.iload_n 3, 1) := dk_29 (dk_at dksL_law_19 11 rfl rfl)
theorem dL_law_650 : decode cL_law 650 = .ok (.iconst 1, 1) := dk_4 (dk_at dksL_law_19 12 rfl rfl)
theorem dL_law_651 : decode cL_law 651 = .ok (.iadd, 1) := dk_96 (dk_at dksL_law_19 13 rfl rfl)
theorem dL_law_652 : decode cL_law 652 = .ok (.iaload, 1) := dk_46 (dk_at dksL_law_19 14 rfl rfl)
theorem dL_law_653 : decode cL_law 653 = .ok (.invokevirtual 78, 3) := dk_182 0 78 (dk_at dksL_law_19 15 rfl rfl)
theorem dL_law_656 : decode cL_law 656 = .ok (.if_icmp .eq 974, 3) := dk_159 3 206 (dk_at dksL_law_19 18 rfl rfl)
theorem dL_law_659 : decode cL_law 659 = .ok (.iconst 0, 1) := dk_3 (dk_at dksL_law_19 21 rfl rfl)
theorem dL_law_660 : decode cL_law 660 = .ok (.ireturn, 1) := dk_172 (dk_at dksL_law_19 22 rfl rfl)
theorem dL_law_661 : decode cL_law 661 = .ok (.aload_n 1, 1) := dk_43 (dk_at dksL_law_19 23 rfl rfl)
theorem dL_law_662 : decode cL_law 662 = .ok (.aload_n 0, 1) := dk_42 (dk_at dksL_law_20 0 rfl rfl)
theorem dL_law_663 : decode cL_law 663 = .ok (.iload_n 3, 1) := dk_29 (dk_at dksL_law_20 1 rfl rfl)
theorem dL_law_664 : decode cL_law 664 = .ok (.iconst 1, 1) := dk_4 (dk_at dksL_law_20 2 rfl rfl)
theorem dL_law_665 : decode cL_law 665 = .ok (.iadd, 1) := dk_96 (dk_at dksL_law_20 3 rfl rfl)
theorem dL_law_666 : decode cL_law 666 = .ok (.iaload, 1) := dk_46 (dk_at dksL_law_20 4 rfl rfl)
theorem dL_law_667 : decode cL_law 667 = .ok (.invokevirtual 79, 3) := dk_182 0 79 (dk_at dksL_law_20 5 rfl rfl)
theorem dL_law_670 : decode cL_law 670 = .ok (.aload_n 2, 1) := dk_44 (dk_at dksL_law_20 8 rfl rfl)
theorem dL_law_671 : decode cL_law 671 = .ok (.aload_n 0, 1) := dk_42 (dk_at dksL_law_20 9 rfl rfl)
theorem dL_law_672 : decode cL_law 672 = .ok (.iload_n 3, 1) := dk_29 (dk_at dksL_law_20 10 rfl rfl)
theorem dL_law_673 : decode cL_law 673 = .ok (.iconst 1, 1) := dk_4 (dk_at dksL_law_20 11 rfl rfl)
theorem dL_law_674 : decode cL_law 674 = .ok (.iadd, 1) := dk_96 (dk_at dksL_law_20 12 rfl rfl)
theorem dL_law_675 : decode cL_law 675 = .ok (.iaload, 1) := dk_46 (dk_at dksL_law_20 13 rfl rfl)
theorem dL_law_676 : decode cL_law 676 = .ok (.invokevirtual 82, 3) := dk_182 0 82 (dk_at dksL_law_20 14 rfl rfl)
theorem dL_law_679 : decode cL_law 679 = .ok (.if_icmp .eq 951, 3) := dk_159 3 183 (dk_at dksL_law_20 17 rfl rfl)
theorem dL_law_682 : decode cL_law 682 = .ok (.iconst 0, 1) := dk_3 (dk_at dksL_law_20 20 rfl rfl)
theorem dL_law_683 : decode cL_law 683 = .ok (.ireturn, 1) := dk_172 (dk_at dksL_law_20 21 rfl rfl)
theorem dL_law_684 : decode cL_law 684 = .ok (.aload_n 1, 1) := dk_43 (dk_at dksL_law_20 22 rfl rfl)
theorem dL_law_685 : decode cL_law 685 = .ok (.aload_n 0, 1) := dk_42 (dk_at dksL_law_20 23 rfl rfl)
theorem dL_law_686 : decode cL_law 686 = .ok (.iload_n 3, 1) := dk_29 (dk_at dksL_law_21 0 rfl rfl)
theorem dL_law_687 : decode cL_law 687 = .ok (.iconst 1, 1) := dk_4 (dk_at dksL_law_21 1 rfl rfl)
theorem dL_law_688 : decode cL_law 688 = .ok (.iadd, 1) := dk_96 (dk_at dksL_law_21 2 rfl rfl)
theorem dL_law_689 : decode cL_law 689 = .ok (.iaload, 1) := dk_46 (dk_at dksL_law_21 3 rfl rfl)
theorem dL_law_690 : decode cL_law 690 = .ok (.aload_n 0, 1) := dk_42 (dk_at dksL_law_21 4 rfl rfl)
theorem dL_law_691 : decode cL_law 691 = .ok (.iload_n 3, 1) := dk_29 (dk_at dksL_law_21 5 rfl rfl)
theorem dL_law_692 : decode cL_law 692 = .ok (.iconst 2, 1) := dk_5 (dk_at dksL_law_21 6 rfl rfl)
theorem dL_law_693 : decode cL_law 693 = .ok (.iadd, 1) := dk_96 (dk_at dksL_law_21 7 rfl rfl)
theorem dL_law_694 : decode cL_law 694 = .ok (.iaload, 1) := dk_46 (dk_at dksL_law_21 8 rfl rfl)
theorem dL_law_695 : decode cL_law 695 = .ok (.invokevirtual 83, 3) := dk_182 0 83 (dk_at dksL_law_21 9 rfl rfl)
theorem dL_law_698 : decode cL_law 698 = .ok (.aload_n 2, 1) := dk_44 (dk_at dksL_law_21 12 rfl rfl)
theorem dL_law_699 : decode cL_law 699 = .ok (.aload_n 0, 1) := dk_42 (dk_at dksL_law_21 13 rfl rfl)
theorem dL_law_700 : decode cL_law 700 = .ok (.iload_n 3, 1) := dk_29 (dk_at dksL_law_21 14 rfl rfl)
theorem dL_law_701 : decode cL_law 701 = .ok (.iconst 1, 1) := dk_4 (dk_at dksL_law_21 15 rfl rfl)
theorem dL_law_702 : decode cL_law 702 = .ok (.iadd, 1) := dk_96 (dk_at dksL_law_21 16 rfl rfl)
theorem dL_law_703 : decode cL_law 703 = .ok (.iaload, 1) := dk_46 (dk_at dksL_law_21 17 rfl rfl)
theorem dL_law_704 : decode cL_law 704 = .ok (.aload_n 0, 1) := dk_42 (dk_at dksL_law_21 18 rfl rfl)
theorem dL_law_705 : decode cL_law 705 = .ok (.iload_n 3, 1) := dk_29 (dk_at dksL_law_21 19 rfl rfl)
theorem dL_law_706 : decode cL_law 706 = .ok (.iconst 2, 1) := dk_5 (dk_at dksL_law_21 20 rfl rfl)
theorem dL_law_707 : decode cL_law 707 = .ok (.iadd, 1) := dk_96 (dk_at dksL_law_21 21 rfl rfl)
theorem dL_law_708 : decode cL_law 708 = .ok (.iaload, 1) := dk_46 (dk_at dksL_law_21 22 rfl rfl)
theorem dL_law_709 : decode cL_law 709 = .ok (.invokevirtual 86, 3) := dk_182 0 86 (dk_at dksL_law_22 0 rfl rfl)
theorem dL_law_712 : decode cL_law 712 = .ok (.if_icmp .eq 918, 3) := dk_159 3 150 (dk_at dksL_law_22 3 rfl rfl)
theorem dL_law_715 : decode cL_law 715 = .ok (.iconst 0, 1) := dk_3 (dk_at dksL_law_22 6 rfl rfl)
theorem dL_law_716 : decode cL_law 716 = .ok (.ireturn, 1) := dk_172 (dk_at dksL_law_22 7 rfl rfl)
theorem dL_law_717 : decode cL_law 717 = .ok (.aload_n 1, 1) := dk_43 (dk_at dksL_law_22 8 rfl rfl)
theorem dL_law_718 : decode cL_law 718 = .ok (.aload_n 0, 1) := dk_42 (dk_at dksL_law_22 9 rfl rfl)
theorem dL_law_719 : decode cL_law 719 = .ok (.iload_n 3, 1) := dk_29 (dk_at dksL_law_22 10 rfl rfl)
theorem dL_law_720 : decode cL_law 720 = .ok (.iconst 1, 1) := dk_4 (dk_at dksL_law_22 11 rfl rfl)
theorem dL_law_721 : decode cL_law 721 = .ok (.iadd, 1) := dk_96 (dk_at dksL_law_22 12 rfl rfl)
theorem dL_law_722 : decode cL_law 722 = .ok (.iaload, 1) := dk_46 (dk_at dksL_law_22 13 rfl rfl)
theorem dL_law_723 : decode cL_law 723 = .ok (.aload_n 0, 1) := dk_42 (dk_at dksL_law_22 14 rfl rfl)
theorem dL_law_724 : decode cL_law 724 = .ok (.iload_n 3, 1) := dk_29 (dk_at dksL_law_22 15 rfl rfl)
theorem dL_law_725 : decode cL_law 725 = .ok (.iconst 2, 1) := dk_5 (dk_at dksL_law_22 16 rfl rfl)
theorem dL_law_726 : decode cL_law 726 = .ok (.iadd, 1) := dk_96 (dk_at dksL_law_22 17 rfl rfl)
theorem dL_law_727 : decode cL_law 727 = .ok (.iaload, 1) := dk_46 (dk_at dksL_law_22 18 rfl rfl)
theorem dL_law_728 : decode cL_law 728 = .ok (.invokevirtual 87, 3) := dk_182 0 87 (dk_at dksL_law_22 19 rfl rfl)
theorem dL_law_731 : decode cL_law 731 = .ok (.aload_n 2, 1) := dk_44 (dk_at dksL_law_22 22 rfl rfl)
theorem dL_law_732 : decode cL_law 732 = .ok (.aload_n 0, 1) := dk_42 (dk_at dksL_law_22 23 rfl rfl)
theorem dL_law_733 : decode cL_law 733 = .ok (.iload_n 3, 1) := dk_29 (dk_at dksL_law_23 0 rfl rfl)
theorem dL_law_734 : decode cL_law 734 = .ok (.iconst 1, 1) := dk_4 (dk_at dksL_law_23 1 rfl rfl)
theorem dL_law_735 : decode cL_law 735 = .ok (.iadd, 1) := dk_96 (dk_at dksL_law_23 2 rfl rfl)
theorem dL_law_736 : decode cL_law 736 = .ok (.iaload, 1) := dk_46 (dk_at dksL_law_23 3 rfl rfl)
theorem dL_law_737 : decode cL_law 737 = .ok (.aload_n 0, 1) := dk_42 (dk_at dksL_law_23 4 rfl rfl)
theorem dL_law_738 : decode cL_law 738 = .ok (.iload_n 3, 1) := dk_29 (dk_at dksL_law_23 5 rfl rfl)
theorem dL_law_739 : decode cL_law 739 = .ok (.iconst 2, 1) := dk_5 (dk_at dksL_law_23 6 rfl rfl)
theorem dL_law_740 : decode cL_law 740 = .ok (.iadd, 1) := dk_96 (dk_at dksL_law_23 7 rfl rfl)
theorem dL_law_741 : decode cL_law 741 = .ok (.iaload, 1) := dk_46 (dk_at dksL_law_23 8 rfl rfl)
theorem dL_law_742 : decode cL_law 742 = .ok (.invokevirtual 90, 3) := dk_182 0 90 (dk_at dksL_law_23 9 rfl rfl)
theorem dL_law_745 : decode cL_law 745 = .ok (.if_icmp .eq 885, 3) := dk_159 3 117 (dk_at dksL_law_23 12 rfl rfl)
theorem dL_law_748 : decode cL_law 748 = .ok (.iconst 0, 1) := dk_3 (dk_at dksL_law_23 15 rfl rfl)
theorem dL_law_749 : decode cL_law 749 = .ok (.ireturn, 1) := dk_172 (dk_at dksL_law_23 16 rfl rfl)
theorem dL_law_750 : decode cL_law 750 = .ok (.aload_n 1, 1) := dk_43 (dk_at dksL_law_23 17 rfl rfl)
theorem dL_law_751 : decode cL_law 751 = .ok (.aload_n 0, 1) := dk_42 (dk_at dksL_law_23 18 rfl rfl)
theorem dL_law_752 : decode cL_law 752 = .ok (.iload_n 3, 1) := dk_29 (dk_at dksL_law_23 19 rfl rfl)
theorem dL_law_753 : decode cL_law 753 = .ok (.iconst 1, 1) := dk_4 (dk_at dksL_law_23 20 rfl rfl)
theorem dL_law_754 : decode cL_law 754 = .ok (.iadd, 1) := dk_96 (dk_at dksL_law_23 21 rfl rfl)
theorem dL_law_755 : decode cL_law 755 = .ok (.iaload, 1) := dk_46 (dk_at dksL_law_23 22 rfl rfl)
theorem dL_law_756 : decode cL_law 756 = .ok (.aload_n 0, 1) := dk_42 (dk_at dksL_law_23 23 rfl rfl)
theorem dL_law_757 : decode cL_law 757 = .ok (.iload_n 3, 1) := dk_29 (dk_at dksL_law_24 0 rfl rfl)
theorem dL_law_758 : decode cL_law 758 = .ok (.iconst 2, 1) := dk_5 (dk_at dksL_law_24 1 rfl rfl)
theorem dL_law_759 : decode cL_law 759 = .ok (.iadd, 1) := dk_96 (dk_at dksL_law_24 2 rfl rfl)
theorem dL_law_760 : decode cL_law 760 = .ok (.iaload, 1) := dk_46 (dk_at dksL_law_24 3 rfl rfl)
theorem dL_law_761 : decode cL_law 761 = .ok (.i2l, 1) := dk_133 (dk_at dksL_law_24 4 rfl rfl)
theorem dL_law_762 : decode cL_law 762 = .ok (.bipush 32, 2) := dk_16 32 (dk_at dksL_law_24 5 rfl rfl)
theorem dL_law_764 : decode cL_law 764 = .ok (.lshl, 1) := dk_121 (dk_at dksL_law_24 7 rfl rfl)
theorem dL_law_765 : decode cL_law 765 = .ok (.aload_n 0, 1) := dk_42 (dk_at dksL_law_24 8 rfl rfl)
theorem dL_law_766 : decode cL_law 766 = .ok (.iload_n 3, 1) := dk_29 (dk_at dksL_law_24 9 rfl rfl)
theorem dL_law_767 : decode cL_law 767 = .ok (.iconst 3, 1) := dk_6 (dk_at dksL_law_24 10 rfl rfl)
theorem dL_law_768 : decode cL_law 768 = .ok (.iadd, 1) := dk_96 (dk_at dksL_law_24 11 rfl rfl)
theorem dL_law_769 : decode cL_law 769 = .ok (.iaload, 1) := dk_46 (dk_at dksL_law_24 12 rfl rfl)
theorem dL_law_770 : decode cL_law 770 = .ok (.i2l, 1) := dk_133 (dk_at dksL_law_24 13 rfl rfl)
theorem dL_law_771 : decode cL_law 771 = .ok (.ldc2_w 91, 3) := dk_20 0 91 (dk_at dksL_law_24 14 rfl rfl)
theorem dL_law_774 : decode cL_law 774 = .ok (.land, 1) := dk_127 (dk_at dksL_law_24 17 rfl rfl)
theorem dL_law_775 : decode cL_law 775 = .ok (.lor, 1) := dk_129 (dk_at dksL_law_24 18 rfl rfl)
theorem dL_law_776 : decode cL_law 776 = .ok (.invokevirtual 93, 3) := dk_182 0 93 (dk_at dksL_law_24 19 rfl rfl)
theorem dL_law_779 : decode cL_law 779 = .ok (.aload_n 2, 1) := dk_44 (dk_at dksL_law_24 22 rfl rfl)
theorem dL_law_780 : decode cL_law 780 = .ok (.aload_n 0, 1) := dk_42 (dk_at dksL_law_24 23 rfl rfl)
theorem dL_law_781 : decode cL_law 781 = .ok (.iload_n 3, 1) := dk_29 (dk_at dksL_law_25 0 rfl rfl)
theorem dL_law_782 : decode cL_law 782 = .ok (.iconst 1, 1) := dk_4 (dk_at dksL_law_25 1 rfl rfl)
theorem dL_law_783 : decode cL_law 783 = .ok (.iadd, 1) := dk_96 (dk_at dksL_law_25 2 rfl rfl)
theorem dL_law_784 : decode cL_law 784 = .ok (.iaload, 1) := dk_46 (dk_at dksL_law_25 3 rfl rfl)
theorem dL_law_785 : decode cL_law 785 = .ok (.aload_n 0, 1) := dk_42 (dk_at dksL_law_25 4 rfl rfl)
theorem dL_law_786 : decode cL_law 786 = .ok (.iload_n 3, 1) := dk_29 (dk_at dksL_law_25 5 rfl rfl)
theorem dL_law_787 : decode cL_law 787 = .ok (.iconst 2, 1) := dk_5 (dk_at dksL_law_25 6 rfl rfl)
theorem dL_law_788 : decode cL_law 788 = .ok (.iadd, 1) := dk_96 (dk_at dksL_law_25 7 rfl rfl)
theorem dL_law_789 : decode cL_law 789 = .ok (.iaload, 1) := dk_46 (dk_at dksL_law_25 8 rfl rfl)
theorem dL_law_790 : decode cL_law 790 = .ok (.i2l, 1) := dk_133 (dk_at dksL_law_25 9 rfl rfl)
theorem dL_law_791 : decode cL_law 791 = .ok (.bipush 32, 2) := dk_16 32 (dk_at dksL_law_25 10 rfl rfl)
theorem dL_law_793 : decode cL_law 793 = .ok (.lshl, 1) := dk_121 (dk_at dksL_law_25 12 rfl rfl)
theorem dL_law_794 : decode cL_law 794 = .ok (.aload_n 0, 1) := dk_42 (dk_at dksL_law_25 13 rfl rfl)
theorem dL_law_795 : decode cL_law 795 = .ok (.iload_n 3, 1) := dk_29 (dk_at dksL_law_25 14 rfl rfl)
theorem dL_law_796 : decode cL_law 796 = .ok (.iconst 3, 1) := dk_6 (dk_at dksL_law_25 15 rfl rfl)
theorem dL_law_797 : decode cL_law 797 = .ok (.iadd, 1) := dk_96 (dk_at dksL_law_25 16 rfl rfl)
theorem dL_law_798 : decode cL_law 798 = .ok (.iaload, 1) := dk_46 (dk_at dksL_law_25 17 rfl rfl)
theorem dL_law_799 : decode cL_law 799 = .ok (.i2l, 1) := dk_133 (dk_at dksL_law_25 18 rfl rfl)
theorem dL_law_800 : decode cL_law 800 = .ok (.ldc2_w 91, 3) := dk_20 0 91 (dk_at dksL_law_25 19 rfl rfl)
theorem dL_law_803 : decode cL_law 803 = .ok (.land, 1) := dk_127 (dk_at dksL_law_25 22 rfl rfl)
theorem dL_law_804 : decode cL_law 804 = .ok (.lor, 1) := dk_129 (dk_at dksL_law_25 23 rfl rfl)
theorem dL_law_805 : decode cL_law 805 = .ok (.invokevirtual 97, 3) := dk_182 0 97 (dk_at dksL_law_26 0 rfl rfl)
theorem dL_law_808 : decode cL_law 808 = .ok (.if_icmp .eq 822, 3) := dk_159 3 54 (dk_at dksL_law_26 3 rfl rfl)
theorem dL_law_811 : decode cL_law 811 = .ok (.iconst 0, 1) := dk_3 (dk_at dksL_law_26 6 rfl rfl)
theorem dL_law_812 : decode cL_law 812 = .ok (.ireturn, 1) := dk_172 (dk_at dksL_law_26 7 rfl rfl)
theorem dL_law_813 : decode cL_law 813 = .ok (.aload_n 1, 1) := dk_43 (dk_at dksL_law_26 8 rfl rfl)
theorem dL_law_814 : decode cL_law 814 = .ok (.aload_n 0, 1) := dk_42 (dk_at dksL_law_26 9 rfl rfl)
theorem dL_law_815 : decode cL_law 815 = .ok (.iload_n 3, 1) := dk_29 (dk_at dksL_law_26 10 rfl rfl)
theorem dL_law_816 : decode cL_law 816 = .ok (.iconst 1, 1) := dk_4 (dk_at dksL_law_26 11 rfl rfl)
theorem dL_law_817 : decode cL_law 817 = .ok (.iadd, 1) := dk_96 (dk_at dksL_law_26 12 rfl rfl)
theorem dL_law_818 : decode cL_law 818 = .ok (.iaload, 1) := dk_46 (dk_at dksL_law_26 13 rfl rfl)
theorem dL_law_819 : decode cL_law 819 = .ok (.aload_n 0, 1) := dk_42 (dk_at dksL_law_26 14 rfl rfl)
theorem dL_law_820 : decode cL_law 820 = .ok (.iload_n 3, 1) := dk_29 (dk_at dksL_law_26 15 rfl rfl)
theorem dL_law_821 : decode cL_law 821 = .ok (.iconst 2, 1) := dk_5 (dk_at dksL_law_26 16 rfl rfl)
theorem dL_law_822 : decode cL_law 822 = .ok (.iadd, 1) := dk_96 (dk_at dksL_law_26 17 rfl rfl)
theorem dL_law_823 : decode cL_law 823 = .ok (.iaload, 1) := dk_46 (dk_at dksL_law_26 18 rfl rfl)
theorem dL_law_824 : decode cL_law 824 = .ok (.invokevirtual 98, 3) := dk_182 0 98 (dk_at dksL_law_26 19 rfl rfl)
theorem dL_law_827 : decode cL_law 827 = .ok (.aload_n 2, 1) := dk_44 (dk_at dksL_law_26 22 rfl rfl)
theorem dL_law_828 : decode cL_law 828 = .ok (.aload_n 0, 1) := dk_42 (dk_at dksL_law_26 23 rfl rfl)
theorem dL_law_829 : decode cL_law 829 = .ok (.iload_n 3, 1) := dk_29 (dk_at dksL_law_27 0 rfl rfl)
theorem dL_law_830 : decode cL_law 830 = .ok (.iconst 1, 1) := dk_4 (dk_at dksL_law_27 1 rfl rfl)
theorem dL_law_831 : decode cL_law 831 = .ok (.iadd, 1) := dk_96 (dk_at dksL_law_27 2 rfl rfl)
theorem dL_law_832 : decode cL_law 832 = .ok (.iaload, 1) := dk_46 (dk_at dksL_law_27 3 rfl rfl)
theorem dL_law_833 : decode cL_law 833 = .ok (.aload_n 0, 1) := dk_42 (dk_at dksL_law_27 4 rfl rfl)
theorem dL_law_834 : decode cL_law 834 = .ok (.iload_n 3, 1) := dk_29 (dk_at dksL_law_27 5 rfl rfl)
theorem dL_law_835 : decode cL_law 835 = .ok (.iconst 2, 1) := dk_5 (dk_at dksL_law_27 6 rfl rfl)
theorem dL_law_836 : decode cL_law 836 = .ok (.iadd, 1) := dk_96 (dk_at dksL_law_27 7 rfl rfl)
theorem dL_law_837 : decode cL_law 837 = .ok (.iaload, 1) := dk_46 (dk_at dksL_law_27 8 rfl rfl)
theorem dL_law_838 : decode cL_law 838 = .ok (.invokevirtual 101, 3) := dk_182 0 101 (dk_at dksL_law_27 9 rfl rfl)
theorem dL_law_841 : decode cL_law 841 = .ok (.if_icmp .eq 789, 3) := dk_159 3 21 (dk_at dksL_law_27 12 rfl rfl)
theorem dL_law_844 : decode cL_law 844 = .ok (.iconst 0, 1) := dk_3 (dk_at dksL_law_27 15 rfl rfl)
theorem dL_law_845 : decode cL_law 845 = .ok (.ireturn, 1) := dk_172 (dk_at dksL_law_27 16 rfl rfl)
theorem dL_law_846 : decode cL_law 846 = .ok (.aload_n 1, 1) := dk_43 (dk_at dksL_law_27 17 rfl rfl)
theorem dL_law_847 : decode cL_law 847 = .ok (.invokevirtual 102, 3) := dk_182 0 102 (dk_at dksL_law_27 18 rfl rfl)
theorem dL_law_850 : decode cL_law 850 = .ok (.aload_n 2, 1) := dk_44 (dk_at dksL_law_27 21 rfl rfl)
theorem dL_law_851 : decode cL_law 851 = .ok (.invokevirtual 106, 3) := dk_182 0 106 (dk_at dksL_law_28 0 rfl rfl)
theorem dL_law_854 : decode cL_law 854 = .ok (.lcmp, 1) := dk_148 (dk_at dksL_law_28 3 rfl rfl)
theorem dL_law_855 : decode cL_law 855 = .ok (.ifCond .eq 775, 3) := dk_153 3 7 (dk_at dksL_law_28 4 rfl rfl)
theorem dL_law_858 : decode cL_law 858 = .ok (.iconst 0, 1) := dk_3 (dk_at dksL_law_28 7 rfl rfl)
theorem dL_law_859 : decode cL_law 859 = .ok (.ireturn, 1) := dk_172 (dk_at dksL_law_28 8 rfl rfl)
theorem dL_law_860 : decode cL_law 860 = .ok (.aload_n 1, 1) := dk_43 (dk_at dksL_law_28 9 rfl rfl)
theorem dL_law_861 : decode cL_law 861 = .ok (.aload_n 0, 1) := dk_42 (dk_at dksL_law_28 10 rfl rfl)
theorem dL_law_862 : decode cL_law 862 = .ok (.iload_n 3, 1) := dk_29 (dk_at dksL_law_28 11 rfl rfl)
theorem dL_law_863 : decode cL_law 863 = .ok (.iconst 1, 1) := dk_4 (dk_at dksL_law_28 12 rfl rfl)
theorem dL_law_864 : decode cL_law 864 = .ok (.iadd, 1) := dk_96 (dk_at dksL_law_28 13 rfl rfl)
theorem dL_law_865 : decode cL_law 865 = .ok (.iaload, 1) := dk_46 (dk_at dksL_law_28 14 rfl rfl)
theorem dL_law_866 : decode cL_law 866 = .ok (.invokevirtual 107, 3) := dk_182 0 107 (dk_at dksL_law_28 15 rfl rfl)
theorem dL_law_869 : decode cL_law 869 = .ok (.aload_n 2, 1) := dk_44 (dk_at dksL_law_28 18 rfl rfl)
theorem dL_law_870 : decode cL_law 870 = .ok (.aload_n 0, 1) := dk_42 (dk_at dksL_law_28 19 rfl rfl)
theorem dL_law_871 : decode cL_law 871 = .ok (.iload_n 3, 1) := dk_29 (dk_at dksL_law_28 20 rfl rfl)
theorem dL_law_872 : decode cL_law 872 = .ok (.iconst 1, 1) := dk_4 (dk_at dksL_law_28 21 rfl rfl)
theorem dL_law_873 : decode cL_law 873 = .ok (.iadd, 1) := dk_96 (dk_at dksL_law_28 22 rfl rfl)
theorem dL_law_874 : decode cL_law 874 = .ok (.iaload, 1) := dk_46 (dk_at dksL_law_28 23 rfl rfl)
theorem dL_law_875 : decode cL_law 875 = .ok (.invokevirtual 110, 3) := dk_182 0 110 (dk_at dksL_law_29 0 rfl rfl)
theorem dL_law_878 : decode cL_law 878 = .ok (.if_icmp .eq 752, 3) := dk_159 2 240 (dk_at dksL_law_29 3 rfl rfl)
theorem dL_law_881 : decode cL_law 881 = .ok (.iconst 0, 1) := dk_3 (dk_at dksL_law_29 6 rfl rfl)
theorem dL_law_882 : decode cL_law 882 = .ok (.ireturn, 1) := dk_172 (dk_at dksL_law_29 7 rfl rfl)
theorem dL_law_883 : decode cL_law 883 = .ok (.aload_n 1, 1) := dk_43 (dk_at dksL_law_29 8 rfl rfl)
theorem dL_law_884 : decode cL_law 884 = .ok (.aload_n 0, 1) := dk_42 (dk_at dksL_law_29 9 rfl rfl)
theorem dL_law_885 : decode cL_law 885 = .ok (.iload_n 3, 1) := dk_29 (dk_at dksL_law_29 10 rfl rfl)
theorem dL_law_886 : decode cL_law 886 = .ok (.iconst 1, 1) := dk_4 (dk_at dksL_law_29 11 rfl rfl)
theorem dL_law_887 : decode cL_law 887 = .ok (.iadd, 1) := dk_96 (dk_at dksL_law_29 12 rfl rfl)
theorem dL_law_888 : decode cL_law 888 = .ok (.iaload, 1) := dk_46 (dk_at dksL_law_29 13 rfl rfl)
theorem dL_law_889 : decode cL_law 889 = .ok (.aload_n 0, 1) := dk_42 (dk_at dksL_law_29 14 rfl rfl)
theorem dL_law_890 : decode cL_law 890 = .ok (.iload_n 3, 1) := dk_29 (dk_at dksL_law_29 15 rfl rfl)
theorem dL_law_891 : decode cL_law 891 = .ok (.iconst 2, 1) := dk_5 (dk_at dksL_law_29 16 rfl rfl)
theorem dL_law_892 : decode cL_law 892 = .ok (.iadd, 1) := dk_96 (dk_at dksL_law_29 17 rfl rfl)
theorem dL_law_893 : decode cL_law 893 = .ok (.iaload, 1) := dk_46 (dk_at dksL_law_29 18 rfl rfl)
theorem dL_law_894 : decode cL_law 894 = .ok (.invokevirtual 111, 3) := dk_182 0 111 (dk_at dksL_law_29 19 rfl rfl)
theorem dL_law_897 : decode cL_law 897 = .ok (.aload_n 2, 1) := dk_44 (dk_at dksL_law_29 22 rfl rfl)
theorem dL_law_898 : decode cL_law 898 = .ok (.aload_n 0, 1) := dk_42 (dk_at dksL_law_29 23 rfl rfl)
theorem dL_law_899 : decode cL_law 899 = .ok (.iload_n 3, 1) := dk_29 (dk_at dksL_law_30 0 rfl rfl)
theorem dL_law_900 : decode cL_law 900 = .ok (.iconst 1, 1) := dk_4 (dk_at dksL_law_30 1 rfl rfl)
theorem dL_law_901 : decode cL_law 901 = .ok (.iadd, 1) := dk_96 (dk_at dksL_law_30 2 rfl rfl)
theorem dL_law_902 : decode cL_law 902 = .ok (.iaload, 1) := dk_46 (dk_at dksL_law_30 3 rfl rfl)
theorem dL_law_903 : decode cL_law 903 = .ok (.aload_n 0, 1) := dk_42 (dk_at dksL_law_30 4 rfl rfl)
theorem dL_law_904 : decode cL_law 904 = .ok (.iload_n 3, 1) := dk_29 (dk_at dksL_law_30 5 rfl rfl)
theorem dL_law_905 : decode cL_law 905 = .ok (.iconst 2, 1) := dk_5 (dk_at dksL_law_30 6 rfl rfl)
theorem dL_law_906 : decode cL_law 906 = .ok (.iadd, 1) := dk_96 (dk_at dksL_law_30 7 rfl rfl)
theorem dL_law_907 : decode cL_law 907 = .ok (.iaload, 1) := dk_46 (dk_at dksL_law_30 8 rfl rfl)
theorem dL_law_908 : decode cL_law 908 = .ok (.invokevirtual 114, 3) := dk_182 0 114 (dk_at dksL_law_30 9 rfl rfl)
theorem dL_law_911 : decode cL_law 911 = .ok (.if_icmp .eq 719, 3) := dk_159 2 207 (dk_at dksL_law_30 12 rfl rfl)
theorem dL_law_914 : decode cL_law 914 = .ok (.iconst 0, 1) := dk_3 (dk_at dksL_law_30 15 rfl rfl)
theorem dL_law_915 : decode cL_law 915 = .ok (.ireturn, 1) := dk_172 (dk_at dksL_law_30 16 rfl rfl)
theorem dL_law_916 : decode cL_law 916 = .ok (.aload_n 1, 1) := dk_43 (dk_at dksL_law_30 17 rfl rfl)
theorem dL_law_917 : decode cL_law 917 = .ok (.invokevirtual 115, 3) := dk_182 0 115 (dk_at dksL_law_30 18 rfl rfl)
theorem dL_law_920 : decode cL_law 920 = .ok (.aload_n 2, 1) := dk_44 (dk_at dksL_law_30 21 rfl rfl)
theorem dL_law_921 : decode cL_law 921 = .ok (.invokevirtual 118, 3) := dk_182 0 118 (dk_at dksL_law_31 0 rfl rfl)
theorem dL_law_924 : decode cL_law 924 = .ok (.if_icmp .eq 706, 3) := dk_159 2 194 (dk_at dksL_law_31 3 rfl rfl)
theorem dL_law_927 : decode cL_law 927 = .ok (.iconst 0, 1) := dk_3 (dk_at dksL_law_31 6 rfl rfl)
theorem dL_law_928 : decode cL_law 928 = .ok (.ireturn, 1) := dk_172 (dk_at dksL_law_31 7 rfl rfl)
theorem dL_law_929 : decode cL_law 929 = .ok (.aload_n 1, 1) := dk_43 (dk_at dksL_law_31 8 rfl rfl)
theorem dL_law_930 : decode cL_law 930 = .ok (.invokevirtual 119, 3) := dk_182 0 119 (dk_at dksL_law_31 9 rfl rfl)
theorem dL_law_933 : decode cL_law 933 = .ok (.aload_n 2, 1) := dk_44 (dk_at dksL_law_31 12 rfl rfl)
theorem dL_law_934 : decode cL_law 934 = .ok (.invokevirtual 122, 3) := dk_182 0 122 (dk_at dksL_law_31 13 rfl rfl)
theorem dL_law_937 : decode cL_law 937 = .ok (.if_icmp .eq 693, 3) := dk_159 2 181 (dk_at dksL_law_31 16 rfl rfl)
theorem dL_law_940 : decode cL_law 940 = .ok (.iconst 0, 1) := dk_3 (dk_at dksL_law_31 19 rfl rfl)
theorem dL_law_941 : decode cL_law 941 = .ok (.ireturn, 1) := dk_172 (dk_at dksL_law_31 20 rfl rfl)
theorem dL_law_942 : decode cL_law 942 = .ok (.aload_n 1, 1) := dk_43 (dk_at dksL_law_31 21 rfl rfl)
theorem dL_law_943 : decode cL_law 943 = .ok (.aload_n 0, 1) := dk_42 (dk_at dksL_law_31 22 rfl rfl)
theorem dL_law_944 : decode cL_law 944 = .ok (.iload_n 3, 1) := dk_29 (dk_at dksL_law_31 23 rfl rfl)
theorem dL_law_945 : decode cL_law 945 = .ok (.iconst 1, 1) := dk_4 (dk_at dksL_law_32 0 rfl rfl)
theorem dL_law_946 : decode cL_law 946 = .ok (.iadd, 1) := dk_96 (dk_at dksL_law_32 1 rfl rfl)
theorem dL_law_947 : decode cL_law 947 = .ok (.iaload, 1) := dk_46 (dk_at dksL_law_32 2 rfl rfl)
theorem dL_law_948 : decode cL_law 948 = .ok (.invokevirtual 123, 3) := dk_182 0 123 (dk_at dksL_law_32 3 rfl rfl)
theorem dL_law_951 : decode cL_law 951 = .ok (.aload_n 2, 1) := dk_44 (dk_at dksL_law_32 6 rfl rfl)
theorem dL_law_952 : decode cL_law 952 = .ok (.aload_n 0, 1) := dk_42 (dk_at dksL_law_32 7 rfl rfl)
theorem dL_law_953 : decode cL_law 953 = .ok (.iload_n 3, 1) := dk_29 (dk_at dksL_law_32 8 rfl rfl)
theorem dL_law_954 : decode cL_law 954 = .ok (.iconst 1, 1) := dk_4 (dk_at dksL_law_32 9 rfl rfl)
theorem dL_law_955 : decode cL_law 955 = .ok (.iadd, 1) := dk_96 (dk_at dksL_law_32 10 rfl rfl)
theorem dL_law_956 : decode cL_law 956 = .ok (.iaload, 1) := dk_46 (dk_at dksL_law_32 11 rfl rfl)
theorem dL_law_957 : decode cL_law 957 = .ok (.invokevirtual 126, 3) := dk_182 0 126 (dk_at dksL_law_32 12 rfl rfl)
theorem dL_law_960 : decode cL_law 960 = .ok (.if_icmp .eq 670, 3) := dk_159 2 158 (dk_at dksL_law_32 15 rfl rfl)
theorem dL_law_963 : decode cL_law 963 = .ok (.iconst 0, 1) := dk_3 (dk_at dksL_law_32 18 rfl rfl)
theorem dL_law_964 : decode cL_law 964 = .ok (.ireturn, 1) := dk_172 (dk_at dksL_law_32 19 rfl rfl)
theorem dL_law_965 : decode cL_law 965 = .ok (.aload_n 1, 1) := dk_43 (dk_at dksL_law_32 20 rfl rfl)
theorem dL_law_966 : decode cL_law 966 = .ok (.invokevirtual 127, 3) := dk_182 0 127 (dk_at dksL_law_32 21 rfl rfl)
theorem dL_law_969 : decode cL_law 969 = .ok (.aload_n 2, 1) := dk_44 (dk_at dksL_law_33 0 rfl rfl)
theorem dL_law_970 : decode cL_law 970 = .ok (.invokevirtual 130, 3) := dk_182 0 130 (dk_at dksL_law_33 1 rfl rfl)
theorem dL_law_973 : decode cL_law 973 = .ok (.if_icmp .eq 657, 3) := dk_159 2 145 (dk_at dksL_law_33 4 rfl rfl)
theorem dL_law_976 : decode cL_law 976 = .ok (.iconst 0, 1) := dk_3 (dk_at dksL_law_33 7 rfl rfl)
theorem dL_law_977 : decode cL_law 977 = .ok (.ireturn, 1) := dk_172 (dk_at dksL_law_33 8 rfl rfl)
theorem dL_law_978 : decode cL_law 978 = .ok (.aload_n 1, 1) := dk_43 (dk_at dksL_law_33 9 rfl rfl)
theorem dL_law_979 : decode cL_law 979 = .ok (.aload_n 0, 1) := dk_42 (dk_at dksL_law_33 10 rfl rfl)
theorem dL_law_980 : decode cL_law 980 = .ok (.iload_n 3, 1) := dk_29 (dk_at dksL_law_33 11 rfl rfl)
theorem dL_law_981 : decode cL_law 981 = .ok (.iconst 1, 1) := dk_4 (dk_at dksL_law_33 12 rfl rfl)
theorem dL_law_982 : decode cL_law 982 = .ok (.iadd, 1) := dk_96 (dk_at dksL_law_33 13 rfl rfl)
theorem dL_law_983 : decode cL_law 983 = .ok (.iaload, 1) := dk_46 (dk_at dksL_law_33 14 rfl rfl)
theorem dL_law_984 : decode cL_law 984 = .ok (.aload_n 0, 1) := dk_42 (dk_at dksL_law_33 15 rfl rfl)
theorem dL_law_985 : decode cL_law 985 = .ok (.iload_n 3, 1) := dk_29 (dk_at dksL_law_33 16 rfl rfl)
theorem dL_law_986 : decode cL_law 986 = .ok (.iconst 2, 1) := dk_5 (dk_at dksL_law_33 17 rfl rfl)
theorem dL_law_987 : decode cL_law 987 = .ok (.iadd, 1) := dk_96 (dk_at dksL_law_33 18 rfl rfl)
theorem dL_law_988 : decode cL_law 988 = .ok (.iaload, 1) := dk_46 (dk_at dksL_law_33 19 rfl rfl)
theorem dL_law_989 : decode cL_law 989 = .ok (.invokevirtual 131, 3) := dk_182 0 131 (dk_at dksL_law_33 20 rfl rfl)
theorem dL_law_992 : decode cL_law 992 = .ok (.aload_n 2, 1) := dk_44 (dk_at dksL_law_33 23 rfl rfl)
theorem dL_law_993 : decode cL_law 993 = .ok (.aload_n 0, 1) := dk_42 (dk_at dksL_law_34 0 rfl rfl)
theorem dL_law_994 : decode cL_law 994 = .ok (.iload_n 3, 1) := dk_29 (dk_at dksL_law_34 1 rfl rfl)
theorem dL_law_995 : decode cL_law 995 = .ok (.iconst 1, 1) := dk_4 (dk_at dksL_law_34 2 rfl rfl)
theorem dL_law_996 : decode cL_law 996 = .ok (.iadd, 1) := dk_96 (dk_at dksL_law_34 3 rfl rfl)
theorem dL_law_997 : decode cL_law 997 = .ok (.iaload, 1) := dk_46 (dk_at dksL_law_34 4 rfl rfl)
theorem dL_law_998 : decode cL_law 998 = .ok (.aload_n 0, 1) := dk_42 (dk_at dksL_law_34 5 rfl rfl)
theorem dL_law_999 : decode cL_law 999 = .ok (.iload_n 3, 1) := dk_29 (dk_at dksL_law_34 6 rfl rfl)
theorem dL_law_1000 : decode cL_law 1000 = .ok (.iconst 2, 1) := dk_5 (dk_at dksL_law_34 7 rfl rfl)
theorem dL_law_1001 : decode cL_law 1001 = .ok (.iadd, 1) := dk_96 (dk_at dksL_law_34 8 rfl rfl)
theorem dL_law_1002 : decode cL_law 1002 = .ok (.iaload, 1) := dk_46 (dk_at dksL_law_34 9 rfl rfl)
theorem dL_law_1003 : decode cL_law 1003 = .ok (.invokevirtual 134, 3) := dk_182 0 134 (dk_at dksL_law_34 10 rfl rfl)
theorem dL_law_1006 : decode cL_law 1006 = .ok (.if_icmp .eq 624, 3) := dk_159 2 112 (dk_at dksL_law_34 13 rfl rfl)
theorem dL_law_1009 : decode cL_law 1009 = .ok (.iconst 0, 1) := dk_3 (dk_at dksL_law_34 16 rfl rfl)
theorem dL_law_1010 : decode cL_law 1010 = .ok (.ireturn, 1) := dk_172 (dk_at dksL_law_34 17 rfl rfl)
theorem dL_law_1011 : decode cL_law 1011 = .ok (.aload_n 1, 1) := dk_43 (dk_at dksL_law_34 18 rfl rfl)
theorem dL_law_1012 : decode cL_law 1012 = .ok (.aload_n 0, 1) := dk_42 (dk_at dksL_law_34 19 rfl rfl)
theorem dL_law_1013 : decode cL_law 1013 = .ok (.iload_n 3, 1) := dk_29 (dk_at dksL_law_34 20 rfl rfl)
theorem dL_law_1014 : decode cL_law 1014 = .ok (.iconst 1, 1) := dk_4 (dk_at dksL_law_34 21 rfl rfl)
theorem dL_law_1015 : decode cL_law 1015 = .ok (.iadd, 1) := dk_96 (dk_at dksL_law_34 22 rfl rfl)
theorem dL_law_1016 : decode cL_law 1016 = .ok (.iaload, 1) := dk_46 (dk_at dksL_law_34 23 rfl rfl)
theorem dL_law_1017 : decode cL_law 1017 = .ok (.aload_n 0, 1) := dk_42 (dk_at dksL_law_35 0 rfl rfl)
theorem dL_law_1018 : decode cL_law 1018 = .ok (.iload_n 3, 1) := dk_29 (dk_at dksL_law_35 1 rfl rfl)
theorem dL_law_1019 : decode cL_law 1019 = .ok (.iconst 2, 1) := dk_5 (dk_at dksL_law_35 2 rfl rfl)
theorem dL_law_1020 : decode cL_law 1020 = .ok (.iadd, 1) := dk_96 (dk_at dksL_law_35 3 rfl rfl)
theorem dL_law_1021 : decode cL_law 1021 = .ok (.iaload, 1) := dk_46 (dk_at dksL_law_35 4 rfl rfl)
theorem dL_law_1022 : decode cL_law 1022 = .ok (.invokevirtual 135, 3) := dk_182 0 135 (dk_at dksL_law_35 5 rfl rfl)
theorem dL_law_1025 : decode cL_law 1025 = .ok (.aload_n 2, 1) := dk_44 (dk_at dksL_law_35 8 rfl rfl)
theorem dL_law_1026 : decode cL_law 1026 = .ok (.aload_n 0, 1) := dk_42 (dk_at dksL_law_35 9 rfl rfl)
theorem dL_law_1027 : decode cL_law 1027 = .ok (.iload_n 3, 1) := dk_29 (dk_at dksL_law_35 10 rfl rfl)
theorem dL_law_1028 : decode cL_law 1028 = .ok (.iconst 1, 1) := dk_4 (dk_at dksL_law_35 11 rfl rfl)
theorem dL_law_1029 : decode cL_law 1029 = .ok (.iadd, 1) := dk_96 (dk_at dksL_law_35 12 rfl rfl)
theorem dL_law_1030 : decode cL_law 1030 = .ok (.iaload, 1) := dk_46 (dk_at dksL_law_35 13 rfl rfl)
theorem dL_law_1031 : decode cL_law 1031 = .ok (.aload_n 0, 1) := dk_42 (dk_at dksL_law_35 14 rfl rfl)
theorem dL_law_1032 : decode cL_law 1032 = .ok (.iload_n 3, 1) := dk_29 (dk_at dksL_law_35 15 rfl rfl)
theorem dL_law_1033 : decode cL_law 1033 = .ok (.iconst 2, 1) := dk_5 (dk_at dksL_law_35 16 rfl rfl)
theorem dL_law_1034 : decode cL_law 1034 = .ok (.iadd, 1) := dk_96 (dk_at dksL_law_35 17 rfl rfl)
theorem dL_law_1035 : decode cL_law 1035 = .ok (.iaload, 1) := dk_46 (dk_at dksL_law_35 18 rfl rfl)
theorem dL_law_1036 : decode cL_law 1036 = .ok (.invokevirtual 138, 3) := dk_182 0 138 (dk_at dksL_law_35 19 rfl rfl)
theorem dL_law_1039 : decode cL_law 1039 = .ok (.if_icmp .eq 591, 3) := dk_159 2 79 (dk_at dksL_law_36 0 rfl rfl)
theorem dL_law_1042 : decode cL_law 1042 = .ok (.iconst 0, 1) := dk_3 (dk_at dksL_law_36 3 rfl rfl)
theorem dL_law_1043 : decode cL_law 1043 = .ok (.ireturn, 1) := dk_172 (dk_at dksL_law_36 4 rfl rfl)
theorem dL_law_1044 : decode cL_law 1044 = .ok (.aload_n 1, 1) := dk_43 (dk_at dksL_law_36 5 rfl rfl)
theorem dL_law_1045 : decode cL_law 1045 = .ok (.aload_n 0, 1) := dk_42 (dk_at dksL_law_36 6 rfl rfl)
theorem dL_law_1046 : decode cL_law 1046 = .ok (.iload_n 3, 1) := dk_29 (dk_at dksL_law_36 7 rfl rfl)
theorem dL_law_1047 : decode cL_law 1047 = .ok (.iconst 1, 1) := dk_4 (dk_at dksL_law_36 8 rfl rfl)
theorem dL_law_1048 : decode cL_law 1048 = .ok (.iadd, 1) := dk_96 (dk_at dksL_law_36 9 rfl rfl)
theorem dL_law_1049 : decode cL_law 1049 = .ok (.iaload, 1) := dk_46 (dk_at dksL_law_36 10 rfl rfl)
theorem dL_law_1050 : decode cL_law 1050 = .ok (.invokevirtual 139, 3) := dk_182 0 139 (dk_at dksL_law_36 11 rfl rfl)
theorem dL_law_1053 : decode cL_law 1053 = .ok (.aload_n 2, 1) := dk_44 (dk_at dksL_law_36 14 rfl rfl)
theorem dL_law_1054 : decode cL_law 1054 = .ok (.aload_n 0, 1) := dk_42 (dk_at dksL_law_36 15 rfl rfl)
theorem dL_law_1055 : decode cL_law 1055 = .ok (.iload_n 3, 1) := dk_29 (dk_at dksL_law_36 16 rfl rfl)
theorem dL_law_1056 : decode cL_law 1056 = .ok (.iconst 1, 1) := dk_4 (dk_at dksL_law_36 17 rfl rfl)
theorem dL_law_1057 : decode cL_law 1057 = .ok (.iadd, 1) := dk_96 (dk_at dksL_law_36 18 rfl rfl)
theorem dL_law_1058 : decode cL_law 1058 = .ok (.iaload, 1) := dk_46 (dk_at dksL_law_36 19 rfl rfl)
theorem dL_law_1059 : decode cL_law 1059 = .ok (.invokevirtual 142, 3) := dk_182 0 142 (dk_at dksL_law_36 20 rfl rfl)
theorem dL_law_1062 : decode cL_law 1062 = .ok (.if_icmp .eq 568, 3) := dk_159 2 56 (dk_at dksL_law_37 0 rfl rfl)
theorem dL_law_1065 : decode cL_law 1065 = .ok (.iconst 0, 1) := dk_3 (dk_at dksL_law_37 3 rfl rfl)
theorem dL_law_1066 : decode cL_law 1066 = .ok (.ireturn, 1) := dk_172 (dk_at dksL_law_37 4 rfl rfl)
theorem dL_law_1067 : decode cL_law 1067 = .ok (.aload_n 1, 1) := dk_43 (dk_at dksL_law_37 5 rfl rfl)
theorem dL_law_1068 : decode cL_law 1068 = .ok (.aload_n 0, 1) := dk_42 (dk_at dksL_law_37 6 rfl rfl)
theorem dL_law_1069 : decode cL_law 1069 = .ok (.iload_n 3, 1) := dk_29 (dk_at dksL_law_37 7 rfl rfl)
theorem dL_law_1070 : decode cL_law 1070 = .ok (.iconst 1, 1) := dk_4 (dk_at dksL_law_37 8 rfl rfl)
theorem dL_law_1071 : decode cL_law 1071 = .ok (.iadd, 1) := dk_96 (dk_at dksL_law_37 9 rfl rfl)
theorem dL_law_1072 : decode cL_law 1072 = .ok (.iaload, 1) := dk_46 (dk_at dksL_law_37 10 rfl rfl)
theorem dL_law_1073 : decode cL_law 1073 = .ok (.aload_n 0, 1) := dk_42 (dk_at dksL_law_37 11 rfl rfl)
theorem dL_law_1074 : decode cL_law 1074 = .ok (.iload_n 3, 1) := dk_29 (dk_at dksL_law_37 12 rfl rfl)
theorem dL_law_1075 : decode cL_law 1075 = .ok (.iconst 2, 1) := dk_5 (dk_at dksL_law_37 13 rfl rfl)
theorem dL_law_1076 : decode cL_law 1076 = .ok (.iadd, 1) := dk_96 (dk_at dksL_law_37 14 rfl rfl)
theorem dL_law_1077 : decode cL_law 1077 = .ok (.iaload, 1) := dk_46 (dk_at dksL_law_37 15 rfl rfl)
theorem dL_law_1078 : decode cL_law 1078 = .ok (.invokevirtual 143, 3) := dk_182 0 143 (dk_at dksL_law_37 16 rfl rfl)
theorem dL_law_1081 : decode cL_law 1081 = .ok (.aload_n 2, 1) := dk_44 (dk_at dksL_law_37 19 rfl rfl)
theorem dL_law_1082 : decode cL_law 1082 = .ok (.aload_n 0, 1) := dk_42 (dk_at dksL_law_37 20 rfl rfl)
theorem dL_law_1083 : decode cL_law 1083 = .ok (.iload_n 3, 1) := dk_29 (dk_at dksL_law_37 21 rfl rfl)
theorem dL_law_1084 : decode cL_law 1084 = .ok (.iconst 1, 1) := dk_4 (dk_at dksL_law_37 22 rfl rfl)
theorem dL_law_1085 : decode cL_law 1085 = .ok (.iadd, 1) := dk_96 (dk_at dksL_law_37 23 rfl rfl)
theorem dL_law_1086 : decode cL_law 1086 = .ok (.iaload, 1) := dk_46 (dk_at dksL_law_38 0 rfl rfl)
theorem dL_law_1087 : decode cL_law 1087 = .ok (.aload_n 0, 1) := dk_42 (dk_at dksL_law_38 1 rfl rfl)
theorem dL_law_1088 : decode cL_law 1088 = .ok (.iload_n 3, 1) := dk_29 (dk_at dksL_law_38 2 rfl rfl)
theorem dL_law_1089 : decode cL_law 1089 = .ok (.iconst 2, 1) := dk_5 (dk_at dksL_law_38 3 rfl rfl)
theorem dL_law_1090 : decode cL_law 1090 = .ok (.iadd, 1) := dk_96 (dk_at dksL_law_38 4 rfl rfl)
theorem dL_law_1091 : decode cL_law 1091 = .ok (.iaload, 1) := dk_46 (dk_at dksL_law_38 5 rfl rfl)
theorem dL_law_1092 : decode cL_law 1092 = .ok (.invokevirtual 146, 3) := dk_182 0 146 (dk_at dksL_law_38 6 rfl rfl)
theorem dL_law_1095 : decode cL_law 1095 = .ok (.if_icmp .eq 535, 3) := dk_159 2 23 (dk_at dksL_law_38 9 rfl rfl)
theorem dL_law_1098 : decode cL_law 1098 = .ok (.iconst 0, 1) := dk_3 (dk_at dksL_law_38 12 rfl rfl)
theorem dL_law_1099 : decode cL_law 1099 = .ok (.ireturn, 1) := dk_172 (dk_at dksL_law_38 13 rfl rfl)
theorem dL_law_1100 : decode cL_law 1100 = .ok (.aload_n 1, 1) := dk_43 (dk_at dksL_law_38 14 rfl rfl)
theorem dL_law_1101 : decode cL_law 1101 = .ok (.aload_n 0, 1) := dk_42 (dk_at dksL_law_38 15 rfl rfl)
theorem dL_law_1102 : decode cL_law 1102 = .ok (.iload_n 3, 1) := dk_29 (dk_at dksL_law_38 16 rfl rfl)
theorem dL_law_1103 : decode cL_law 1103 = .ok (.iconst 1, 1) := dk_4 (dk_at dksL_law_38 17 rfl rfl)
theorem dL_law_1104 : decode cL_law 1104 = .ok (.iadd, 1) := dk_96 (dk_at dksL_law_38 18 rfl rfl)
theorem dL_law_1105 : decode cL_law 1105 = .ok (.iaload, 1) := dk_46 (dk_at dksL_law_38 19 rfl rfl)
theorem dL_law_1106 : decode cL_law 1106 = .ok (.invokevirtual 147, 3) := dk_182 0 147 (dk_at dksL_law_38 20 rfl rfl)
theorem dL_law_1109 : decode cL_law 1109 = .ok (.aload_n 2, 1) := dk_44 (dk_at dksL_law_38 23 rfl rfl)
theorem dL_law_1110 : decode cL_law 1110 = .ok (.aload_n 0, 1) := dk_42 (dk_at dksL_law_39 0 rfl rfl)
theorem dL_law_1111 : decode cL_law 1111 = .ok (.iload_n 3, 1) := dk_29 (dk_at dksL_law_39 1 rfl rfl)
theorem dL_law_1112 : decode cL_law 1112 = .ok (.iconst 1, 1) := dk_4 (dk_at dksL_law_39 2 rfl rfl)
theorem dL_law_1113 : decode cL_law 1113 = .ok (.iadd, 1) := dk_96 (dk_at dksL_law_39 3 rfl rfl)
theorem dL_law_1114 : decode cL_law 1114 = .ok (.iaload, 1) := dk_46 (dk_at dksL_law_39 4 rfl rfl)
theorem dL_law_1115 : decode cL_law 1115 = .ok (.invokevirtual 150, 3) := dk_182 0 150 (dk_at dksL_law_39 5 rfl rfl)
theorem dL_law_1118 : decode cL_law 1118 = .ok (.if_icmp .eq 512, 3) := dk_159 2 0 (dk_at dksL_law_39 8 rfl rfl)
theorem dL_law_1121 : decode cL_law 1121 = .ok (.iconst 0, 1) := dk_3 (dk_at dksL_law_39 11 rfl rfl)
theorem dL_law_1122 : decode cL_law 1122 = .ok (.ireturn, 1) := dk_172 (dk_at dksL_law_39 12 rfl rfl)
theorem dL_law_1123 : decode cL_law 1123 = .ok (.aload_n 1, 1) := dk_43 (dk_at dksL_law_39 13 rfl rfl)
theorem dL_law_1124 : decode cL_law 1124 = .ok (.aload_n 0, 1) := dk_42 (dk_at dksL_law_39 14 rfl rfl)
theorem dL_law_1125 : decode cL_law 1125 = .ok (.iload_n 3, 1) := dk_29 (dk_at dksL_law_39 15 rfl rfl)
theorem dL_law_1126 : decode cL_law 1126 = .ok (.iconst 1, 1) := dk_4 (dk_at dksL_law_39 16 rfl rfl)
theorem dL_law_1127 : decode cL_law 1127 = .ok (.iadd, 1) := dk_96 (dk_at dksL_law_39 17 rfl rfl)
theorem dL_law_1128 : decode cL_law 1128 = .ok (.iaload, 1) := dk_46 (dk_at dksL_law_39 18 rfl rfl)
theorem dL_law_1129 : decode cL_law 1129 = .ok (.aload_n 0, 1) := dk_42 (dk_at dksL_law_39 19 rfl rfl)
theorem dL_law_1130 : decode cL_law 1130 = .ok (.iload_n 3, 1) := dk_29 (dk_at dksL_law_39 20 rfl rfl)
theorem dL_law_1131 : decode cL_law 1131 = .ok (.iconst 2, 1) := dk_5 (dk_at dksL_law_39 21 rfl rfl)
theorem dL_law_1132 : decode cL_law 1132 = .ok (.iadd, 1) := dk_96 (dk_at dksL_law_39 22 rfl rfl)
theorem dL_law_1133 : decode cL_law 1133 = .ok (.iaload, 1) := dk_46 (dk_at dksL_law_39 23 rfl rfl)
theorem dL_law_1134 : decode cL_law 1134 = .ok (.invokevirtual 151, 3) := dk_182 0 151 (dk_at dksL_law_40 0 rfl rfl)
theorem dL_law_1137 : decode cL_law 1137 = .ok (.aload_n 2, 1) := dk_44 (dk_at dksL_law_40 3 rfl rfl)
theorem dL_law_1138 : decode cL_law 1138 = .ok (.aload_n 0, 1) := dk_42 (dk_at dksL_law_40 4 rfl rfl)
theorem dL_law_1139 : decode cL_law 1139 = .ok (.iload_n 3, 1) := dk_29 (dk_at dksL_law_40 5 rfl rfl)
theorem dL_law_1140 : decode cL_law 1140 = .ok (.iconst 1, 1) := dk_4 (dk_at dksL_law_40 6 rfl rfl)
theorem dL_law_1141 : decode cL_law 1141 = .ok (.iadd, 1) := dk_96 (dk_at dksL_law_40 7 rfl rfl)
theorem dL_law_1142 : decode cL_law 1142 = .ok (.iaload, 1) := dk_46 (dk_at dksL_law_40 8 rfl rfl)
theorem dL_law_1143 : decode cL_law 1143 = .ok (.aload_n 0, 1) := dk_42 (dk_at dksL_law_40 9 rfl rfl)
theorem dL_law_1144 : decode cL_law 1144 = .ok (.iload_n 3, 1) := dk_29 (dk_at dksL_law_40 10 rfl rfl)
theorem dL_law_1145 : decode cL_law 1145 = .ok (.iconst 2, 1) := dk_5 (dk_at dksL_law_40 11 rfl rfl)
theorem dL_law_1146 : decode cL_law 1146 = .ok (.iadd, 1) := dk_96 (dk_at dksL_law_40 12 rfl rfl)
theorem dL_law_1147 : decode cL_law 1147 = .ok (.iaload, 1) := dk_46 (dk_at dksL_law_40 13 rfl rfl)
theorem dL_law_1148 : decode cL_law 1148 = .ok (.invokevirtual 154, 3) := dk_182 0 154 (dk_at dksL_law_40 14 rfl rfl)
theorem dL_law_1151 : decode cL_law 1151 = .ok (.if_icmp .eq 479, 3) := dk_159 1 223 (dk_at dksL_law_40 17 rfl rfl)
theorem dL_law_1154 : decode cL_law 1154 = .ok (.iconst 0, 1) := dk_3 (dk_at dksL_law_40 20 rfl rfl)
theorem dL_law_1155 : decode cL_law 1155 = .ok (.ireturn, 1) := dk_172 (dk_at dksL_law_40 21 rfl rfl)
theorem dL_law_1156 : decode cL_law 1156 = .ok (.aload_n 1, 1) := dk_43 (dk_at dksL_law_40 22 rfl rfl)
theorem dL_law_1157 : decode cL_law 1157 = .ok (.aload_n 0, 1) := dk_42 (dk_at dksL_law_40 23 rfl rfl)
theorem dL_law_1158 : decode cL_law 1158 = .ok (.iload_n 3, 1) := dk_29 (dk_at dksL_law_41 0 rfl rfl)
theorem dL_law_1159 : decode cL_law 1159 = .ok (.iconst 1, 1) := dk_4 (dk_at dksL_law_41 1 rfl rfl)
theorem dL_law_1160 : decode cL_law 1160 = .ok (.iadd, 1) := dk_96 (dk_at dksL_law_41 2 rfl rfl)
theorem dL_law_1161 : decode cL_law 1161 = .ok (.iaload, 1) := dk_46 (dk_at dksL_law_41 3 rfl rfl)
theorem dL_law_1162 : decode cL_law 1162 = .ok (.invokevirtual 155, 3) := dk_182 0 155 (dk_at dksL_law_41 4 rfl rfl)
theorem dL_law_1165 : decode cL_law 1165 = .ok (.aload_n 2, 1) := dk_44 (dk_at dksL_law_41 7 rfl rfl)
theorem dL_law_1166 : decode cL_law 1166 = .ok (.aload_n 0, 1) := dk_42 (dk_at dksL_law_41 8 rfl rfl)
theorem dL_law_1167 : decode cL_law 1167 = .ok (.iload_n 3, 1) := dk_29 (dk_at dksL_law_41 9 rfl rfl)
theorem dL_law_1168 : decode cL_law 1168 = .ok (.iconst 1, 1) := dk_4 (dk_at dksL_law_41 10 rfl rfl)
theorem dL_law_1169 : decode cL_law 1169 = .ok (.iadd, 1) := dk_96 (dk_at dksL_law_41 11 rfl rfl)
theorem dL_law_1170 : decode cL_law 1170 = .ok (.iaload, 1) := dk_46 (dk_at dksL_law_41 12 rfl rfl)
theorem dL_law_1171 : decode cL_law 1171 = .ok (.invokevirtual 158, 3) := dk_182 0 158 (dk_at dksL_law_41 13 rfl rfl)
theorem dL_law_1174 : decode cL_law 1174 = .ok (.if_icmp .eq 456, 3) := dk_159 1 200 (dk_at dksL_law_41 16 rfl rfl)
theorem dL_law_1177 : decode cL_law 1177 = .ok (.iconst 0, 1) := dk_3 (dk_at dksL_law_41 19 rfl rfl)
theorem dL_law_1178 : decode cL_law 1178 = .ok (.ireturn, 1) := dk_172 (dk_at dksL_law_41 20 rfl rfl)
theorem dL_law_1179 : decode cL_law 1179 = .ok (.aload_n 1, 1) := dk_43 (dk_at dksL_law_41 21 rfl rfl)
theorem dL_law_1180 : decode cL_law 1180 = .ok (.aload_n 0, 1) := dk_42 (dk_at dksL_law_41 22 rfl rfl)
theorem dL_law_1181 : decode cL_law 1181 = .ok (.iload_n 3, 1) := dk_29 (dk_at dksL_law_41 23 rfl rfl)
theorem dL_law_1182 : decode cL_law 1182 = .ok (.iconst 1, 1) := dk_4 (dk_at dksL_law_42 0 rfl rfl)
theorem dL_law_1183 : decode cL_law 1183 = .ok (.iadd, 1) := dk_96 (dk_at dksL_law_42 1 rfl rfl)
theorem dL_law_1184 : decode cL_law 1184 = .ok (.iaload, 1) := dk_46 (dk_at dksL_law_42 2 rfl rfl)
theorem dL_law_1185 : decode cL_law 1185 = .ok (.aload_n 0, 1) := dk_42 (dk_at dksL_law_42 3 rfl rfl)
theorem dL_law_1186 : decode cL_law 1186 = .ok (.iload_n 3, 1) := dk_29 (dk_at dksL_law_42 4 rfl rfl)
theorem dL_law_1187 : decode cL_law 1187 = .ok (.iconst 2, 1) := dk_5 (dk_at dksL_law_42 5 rfl rfl)
theorem dL_law_1188 : decode cL_law 1188 = .ok (.iadd, 1) := dk_96 (dk_at dksL_law_42 6 rfl rfl)
theorem dL_law_1189 : decode cL_law 1189 = .ok (.iaload, 1) := dk_46 (dk_at dksL_law_42 7 rfl rfl)
theorem dL_law_1190 : decode cL_law 1190 = .ok (.aload_n 0, 1) := dk_42 (dk_at dksL_law_42 8 rfl rfl)
theorem dL_law_1191 : decode cL_law 1191 = .ok (.iload_n 3, 1) := dk_29 (dk_at dksL_law_42 9 rfl rfl)
theorem dL_law_1192 : decode cL_law 1192 = .ok (.iconst 3, 1) := dk_6 (dk_at dksL_law_42 10 rfl rfl)
theorem dL_law_1193 : decode cL_law 1193 = .ok (.iadd, 1) := dk_96 (dk_at dksL_law_42 11 rfl rfl)
theorem dL_law_1194 : decode cL_law 1194 = .ok (.iaload, 1) := dk_46 (dk_at dksL_law_42 12 rfl rfl)
theorem dL_law_1195 : decode cL_law 1195 = .ok (.invokevirtual 159, 3) := dk_182 0 159 (dk_at dksL_law_42 13 rfl rfl)
theorem dL_law_1198 : decode cL_law 1198 = .ok (.aload_n 2, 1) := dk_44 (dk_at dksL_law_42 16 rfl rfl)
theorem dL_law_1199 : decode cL_law 1199 = .ok (.aload_n 0, 1) := dk_42 (dk_at dksL_law_42 17 rfl rfl)
theorem dL_law_1200 : decode cL_law 1200 = .ok (.iload_n 3, 1) := dk_29 (dk_at dksL_law_42 18 rfl rfl)
theorem dL_law_1201 : decode cL_law 1201 = .ok (.iconst 1, 1) := dk_4 (dk_at dksL_law_42 19 rfl rfl)
theorem dL_law_1202 : decode cL_law 1202 = .ok (.iadd, 1) := dk_96 (dk_at dksL_law_42 20 rfl rfl)
theorem dL_law_1203 : decode cL_law 1203 = .ok (.iaload, 1) := dk_46 (dk_at dksL_law_42 21 rfl rfl)
theorem dL_law_1204 : decode cL_law 1204 = .ok (.aload_n 0, 1) := dk_42 (dk_at dksL_law_42 22 rfl rfl)
theorem dL_law_1205 : decode cL_law 1205 = .ok (.iload_n 3, 1) := dk_29 (dk_at dksL_law_42 23 rfl rfl)
theorem dL_law_1206 : decode cL_law 1206 = .ok (.iconst 2, 1) := dk_5 (dk_at dksL_law_43 0 rfl rfl)
theorem dL_law_1207 : decode cL_law 1207 = .ok (.iadd, 1) := dk_96 (dk_at dksL_law_43 1 rfl rfl)
theorem dL_law_1208 : decode cL_law 1208 = .ok (.iaload, 1) := dk_46 (dk_at dksL_law_43 2 rfl rfl)
theorem dL_law_1209 : decode cL_law 1209 = .ok (.aload_n 0, 1) := dk_42 (dk_at dksL_law_43 3 rfl rfl)
theorem dL_law_1210 : decode cL_law 1210 = .ok (.iload_n 3, 1) := dk_29 (dk_at dksL_law_43 4 rfl rfl)
theorem dL_law_1211 : decode cL_law 1211 = .ok (.iconst 3, 1) := dk_6 (dk_at dksL_law_43 5 rfl rfl)
theorem dL_law_1212 : decode cL_law 1212 = .ok (.iadd, 1) := dk_96 (dk_at dksL_law_43 6 rfl rfl)
theorem dL_law_1213 : decode cL_law 1213 = .ok (.iaload, 1) := dk_46 (dk_at dksL_law_43 7 rfl rfl)
theorem dL_law_1214 : decode cL_law 1214 = .ok (.invokevirtual 163, 3) := dk_182 0 163 (dk_at dksL_law_43 8 rfl rfl)
theorem dL_law_1217 : decode cL_law 1217 = .ok (.if_icmp .eq 413, 3) := dk_159 1 157 (dk_at dksL_law_43 11 rfl rfl)
theorem dL_law_1220 : decode cL_law 1220 = .ok (.iconst 0, 1) := dk_3 (dk_at dksL_law_43 14 rfl rfl)
theorem dL_law_1221 : decode cL_law 1221 = .ok (.ireturn, 1) := dk_172 (dk_at dksL_law_43 15 rfl rfl)
theorem dL_law_1222 : decode cL_law 1222 = .ok (.aload_n 1, 1) := dk_43 (dk_at dksL_law_43 16 rfl rfl)
theorem dL_law_1223 : decode cL_law 1223 = .ok (.aload_n 0, 1) := dk_42 (dk_at dksL_law_43 17 rfl rfl)
theorem dL_law_1224 : decode cL_law 1224 = .ok (.iload_n 3, 1) := dk_29 (dk_at dksL_law_43 18 rfl rfl)
theorem dL_law_1225 : decode cL_law 1225 = .ok (.iconst 1, 1) := dk_4 (dk_at dksL_law_43 19 rfl rfl)
theorem dL_law_1226 : decode cL_law 1226 = .ok (.iadd, 1) := dk_96 (dk_at dksL_law_43 20 rfl rfl)
theorem dL_law_1227 : decode cL_law 1227 = .ok (.iaload, 1) := dk_46 (dk_at dksL_law_43 21 rfl rfl)
theorem dL_law_1228 : decode cL_law 1228 = .ok (.aload_n 0, 1) := dk_42 (dk_at dksL_law_43 22 rfl rfl)
theorem dL_law_1229 : decode cL_law 1229 = .ok (.iload_n 3, 1) := dk_29 (dk_at dksL_law_43 23 rfl rfl)
theorem dL_law_1230 : decode cL_law 1230 = .ok (.iconst 2, 1) := dk_5 (dk_at dksL_law_44 0 rfl rfl)
theorem dL_law_1231 : decode cL_law 1231 = .ok (.iadd, 1) := dk_96 (dk_at dksL_law_44 1 rfl rfl)
theorem dL_law_1232 : decode cL_law 1232 = .ok (.iaload, 1) := dk_46 (dk_at dksL_law_44 2 rfl rfl)
theorem dL_law_1233 : decode cL_law 1233 = .ok (.invokevirtual 164, 3) := dk_182 0 164 (dk_at dksL_law_44 3 rfl rfl)
theorem dL_law_1236 : decode cL_law 1236 = .ok (.aload_n 2, 1) := dk_44 (dk_at dksL_law_44 6 rfl rfl)
theorem dL_law_1237 : decode cL_law 1237 = .ok (.aload_n 0, 1) := dk_42 (dk_at dksL_law_44 7 rfl rfl)
theorem dL_law_1238 : decode cL_law 1238 = .ok (.iload_n 3, 1) := dk_29 (dk_at dksL_law_44 8 rfl rfl)
theorem dL_law_1239 : decode cL_law 1239 = .ok (.iconst 1, 1) := dk_4 (dk_at dksL_law_44 9 rfl rfl)
theorem dL_law_1240 : decode cL_law 1240 = .ok (.iadd, 1) := dk_96 (dk_at dksL_law_44 10 rfl rfl)
theorem dL_law_1241 : decode cL_law 1241 = .ok (.iaload, 1) := dk_46 (dk_at dksL_law_44 11 rfl rfl)
theorem dL_law_1242 : decode cL_law 1242 = .ok (.aload_n 0, 1) := dk_42 (dk_at dksL_law_44 12 rfl rfl)
theorem dL_law_1243 : decode cL_law 1243 = .ok (.iload_n 3, 1) := dk_29 (dk_at dksL_law_44 13 rfl rfl)
theorem dL_law_1244 : decode cL_law 1244 = .ok (.iconst 2, 1) := dk_5 (dk_at dksL_law_44 14 rfl rfl)
theorem dL_law_1245 : decode cL_law 1245 = .ok (.iadd, 1) := dk_96 (dk_at dksL_law_44 15 rfl rfl)
theorem dL_law_1246 : decode cL_law 1246 = .ok (.iaload, 1) := dk_46 (dk_at dksL_law_44 16 rfl rfl)
theorem dL_law_1247 : decode cL_law 1247 = .ok (.invokevirtual 167, 3) := dk_182 0 167 (dk_at dksL_law_44 17 rfl rfl)
theorem dL_law_1250 : decode cL_law 1250 = .ok (.if_icmp .eq 380, 3) := dk_159 1 124 (dk_at dksL_law_44 20 rfl rfl)
theorem dL_law_1253 : decode cL_law 1253 = .ok (.iconst 0, 1) := dk_3 (dk_at dksL_law_44 23 rfl rfl)
theorem dL_law_1254 : decode cL_law 1254 = .ok (.ireturn, 1) := dk_172 (dk_at dksL_law_45 0 rfl rfl)
theorem dL_law_1255 : decode cL_law 1255 = .ok (.aload_n 1, 1) := dk_43 (dk_at dksL_law_45 1 rfl rfl)
theorem dL_law_1256 : decode cL_law 1256 = .ok (.aload_n 0, 1) := dk_42 (dk_at dksL_law_45 2 rfl rfl)
theorem dL_law_1257 : decode cL_law 1257 = .ok (.iload_n 3, 1) := dk_29 (dk_at dksL_law_45 3 rfl rfl)
theorem dL_law_1258 : decode cL_law 1258 = .ok (.iconst 1, 1) := dk_4 (dk_at dksL_law_45 4 rfl rfl)
theorem dL_law_1259 : decode cL_law 1259 = .ok (.iadd, 1) := dk_96 (dk_at dksL_law_45 5 rfl rfl)
theorem dL_law_1260 : decode cL_law 1260 = .ok (.iaload, 1) := dk_46 (dk_at dksL_law_45 6 rfl rfl)
theorem dL_law_1261 : decode cL_law 1261 = .ok (.aload_n 0, 1) := dk_42 (dk_at dksL_law_45 7 rfl rfl)
theorem dL_law_1262 : decode cL_law 1262 = .ok (.iload_n 3, 1) := dk_29 (dk_at dksL_law_45 8 rfl rfl)
theorem dL_law_1263 : decode cL_law 1263 = .ok (.iconst 2, 1) := dk_5 (dk_at dksL_law_45 9 rfl rfl)
theorem dL_law_1264 : decode cL_law 1264 = .ok (.iadd, 1) := dk_96 (dk_at dksL_law_45 10 rfl rfl)
theorem dL_law_1265 : decode cL_law 1265 = .ok (.iaload, 1) := dk_46 (dk_at dksL_law_45 11 rfl rfl)
theorem dL_law_1266 : decode cL_law 1266 = .ok (.aload_n 0, 1) := dk_42 (dk_at dksL_law_45 12 rfl rfl)
theorem dL_law_1267 : decode cL_law 1267 = .ok (.iload_n 3, 1) := dk_29 (dk_at dksL_law_45 13 rfl rfl)
theorem dL_law_1268 : decode cL_law 1268 = .ok (.iconst 3, 1) := dk_6 (dk_at dksL_law_45 14 rfl rfl)
theorem dL_law_1269 : decode cL_law 1269 = .ok (.iadd, 1) := dk_96 (dk_at dksL_law_45 15 rfl rfl)
theorem dL_law_1270 : decode cL_law 1270 = .ok (.iaload, 1) := dk_46 (dk_at dksL_law_45 16 rfl rfl)
theorem dL_law_1271 : decode cL_law 1271 = .ok (.invokevirtual 168, 3) := dk_182 0 168 (dk_at dksL_law_45 17 rfl rfl)
theorem dL_law_1274 : decode cL_law 1274 = .ok (.aload_n 2, 1) := dk_44 (dk_at dksL_law_45 20 rfl rfl)
theorem dL_law_1275 : decode cL_law 1275 = .ok (.aload_n 0, 1) := dk_42 (dk_at dksL_law_45 21 rfl rfl)
theorem dL_law_1276 : decode cL_law 1276 = .ok (.iload_n 3, 1) := dk_29 (dk_at dksL_law_45 22 rfl rfl)
theorem dL_law_1277 : decode cL_law 1277 = .ok (.iconst 1, 1) := dk_4 (dk_at dksL_law_45 23 rfl rfl)
theorem dL_law_1278 : decode cL_law 1278 = .ok (.iadd, 1) := dk_96 (dk_at dksL_law_46 0 rfl rfl)
theorem dL_law_1279 : decode cL_law 1279 = .ok (.iaload, 1) := dk_46 (dk_at dksL_law_46 1 rfl rfl)
theorem dL_law_1280 : decode cL_law 1280 = .ok (.aload_n 0, 1) := dk_42 (dk_at dksL_law_46 2 rfl rfl)
theorem dL_law_1281 : decode cL_law 1281 = .ok (.iload_n 3, 1) := dk_29 (dk_at dksL_law_46 3 rfl rfl)
theorem dL_law_1282 : decode cL_law 1282 = .ok (.iconst 2, 1) := dk_5 (dk_at dksL_law_46 4 rfl rfl)
theorem dL_law_1283 : decode cL_law 1283 = .ok (.iadd, 1) := dk_96 (dk_at dksL_law_46 5 rfl rfl)
theorem dL_law_1284 : decode cL_law 1284 = .ok (.iaload, 1) := dk_46 (dk_at dksL_law_46 6 rfl rfl)
theorem dL_law_1285 : decode cL_law 1285 = .ok (.aload_n 0, 1) := dk_42 (dk_at dksL_law_46 7 rfl rfl)
theorem dL_law_1286 : decode cL_law 1286 = .ok (.iload_n 3, 1) := dk_29 (dk_at dksL_law_46 8 rfl rfl)
theorem dL_law_1287 : decode cL_law 1287 = .ok (.iconst 3, 1) := dk_6 (dk_at dksL_law_46 9 rfl rfl)
theorem dL_law_1288 : decode cL_law 1288 = .ok (.iadd, 1) := dk_96 (dk_at dksL_law_46 10 rfl rfl)
theorem dL_law_1289 : decode cL_law 1289 = .ok (.iaload, 1) := dk_46 (dk_at dksL_law_46 11 rfl rfl)
theorem dL_law_1290 : decode cL_law 1290 = .ok (.invokevirtual 171, 3) := dk_182 0 171 (dk_at dksL_law_46 12 rfl rfl)
theorem dL_law_1293 : decode cL_law 1293 = .ok (.if_icmp .eq 337, 3) := dk_159 1 81 (dk_at dksL_law_46 15 rfl rfl)
theorem dL_law_1296 : decode cL_law 1296 = .ok (.iconst 0, 1) := dk_3 (dk_at dksL_law_46 18 rfl rfl)
theorem dL_law_1297 : decode cL_law 1297 = .ok (.ireturn, 1) := dk_172 (dk_at dksL_law_46 19 rfl rfl)
theorem dL_law_1298 : decode cL_law 1298 = .ok (.aload_n 1, 1) := dk_43 (dk_at dksL_law_46 20 rfl rfl)
theorem dL_law_1299 : decode cL_law 1299 = .ok (.aload_n 0, 1) := dk_42 (dk_at dksL_law_46 21 rfl rfl)
theorem dL_law_1300 : decode cL_law 1300 = .ok (.iload_n 3, 1) := dk_29 (dk_at dksL_law_46 22 rfl rfl)
theorem dL_law_1301 : decode cL_law 1301 = .ok (.iconst 1, 1) := dk_4 (dk_at dksL_law_46 23 rfl rfl)
theorem dL_law_1302 : decode cL_law 1302 = .ok (.iadd, 1) := dk_96 (dk_at dksL_law_47 0 rfl rfl)
theorem dL_law_1303 : decode cL_law 1303 = .ok (.iaload, 1) := dk_46 (dk_at dksL_law_47 1 rfl rfl)
theorem dL_law_1304 : decode cL_law 1304 = .ok (.aload_n 0, 1) := dk_42 (dk_at dksL_law_47 2 rfl rfl)
theorem dL_law_1305 : decode cL_law 1305 = .ok (.iload_n 3, 1) := dk_29 (dk_at dksL_law_47 3 rfl rfl)
theorem dL_law_1306 : decode cL_law 1306 = .ok (.iconst 2, 1) := dk_5 (dk_at dksL_law_47 4 rfl rfl)
theorem dL_law_1307 : decode cL_law 1307 = .ok (.iadd, 1) := dk_96 (dk_at dksL_law_47 5 rfl rfl)
theorem dL_law_1308 : decode cL_law 1308 = .ok (.iaload, 1) := dk_46 (dk_at dksL_law_47 6 rfl rfl)
theorem dL_law_1309 : decode cL_law 1309 = .ok (.invokevirtual 172, 3) := dk_182 0 172 (dk_at dksL_law_47 7 rfl rfl)
theorem dL_law_1312 : decode cL_law 1312 = .ok (.aload_n 2, 1) := dk_44 (dk_at dksL_law_47 10 rfl rfl)
theorem dL_law_1313 : decode cL_law 1313 = .ok (.aload_n 0, 1) := dk_42 (dk_at dksL_law_47 11 rfl rfl)
theorem dL_law_1314 : decode cL_law 1314 = .ok (.iload_n 3, 1) := dk_29 (dk_at dksL_law_47 12 rfl rfl)
theorem dL_law_1315 : decode cL_law 1315 = .ok (.iconst 1, 1) := dk_4 (dk_at dksL_law_47 13 rfl rfl)
theorem dL_law_1316 : decode cL_law 1316 = .ok (.iadd, 1) := dk_96 (dk_at dksL_law_47 14 rfl rfl)
theorem dL_law_1317 : decode cL_law 1317 = .ok (.iaload, 1) := dk_46 (dk_at dksL_law_47 15 rfl rfl)
theorem dL_law_1318 : decode cL_law 1318 = .ok (.aload_n 0, 1) := dk_42 (dk_at dksL_law_47 16 rfl rfl)
theorem dL_law_1319 : decode cL_law 1319 = .ok (.iload_n 3, 1) := dk_29 (dk_at dksL_law_47 17 rfl rfl)
theorem dL_law_1320 : decode cL_law 1320 = .ok (.iconst 2, 1) := dk_5 (dk_at dksL_law_47 18 rfl rfl)
theorem dL_law_1321 : decode cL_law 1321 = .ok (.iadd, 1) := dk_96 (dk_at dksL_law_47 19 rfl rfl)
theorem dL_law_1322 : decode cL_law 1322 = .ok (.iaload, 1) := dk_46 (dk_at dksL_law_47 20 rfl rfl)
theorem dL_law_1323 : decode cL_law 1323 = .ok (.invokevirtual 175, 3) := dk_182 0 175 (dk_at dksL_law_47 21 rfl rfl)
theorem dL_law_1326 : decode cL_law 1326 = .ok (.if_icmp .eq 304, 3) := dk_159 1 48 (dk_at dksL_law_48 0 rfl rfl)
theorem dL_law_1329 : decode cL_law 1329 = .ok (.iconst 0, 1) := dk_3 (dk_at dksL_law_48 3 rfl rfl)
theorem dL_law_1330 : decode cL_law 1330 = .ok (.ireturn, 1) := dk_172 (dk_at dksL_law_48 4 rfl rfl)
theorem dL_law_1331 : decode cL_law 1331 = .ok (.aload_n 1, 1) := dk_43 (dk_at dksL_law_48 5 rfl rfl)
theorem dL_law_1332 : decode cL_law 1332 = .ok (.aload_n 0, 1) := dk_42 (dk_at dksL_law_48 6 rfl rfl)
theorem dL_law_1333 : decode cL_law 1333 = .ok (.iload_n 3, 1) := dk_29 (dk_at dksL_law_48 7 rfl rfl)
theorem dL_law_1334 : decode cL_law 1334 = .ok (.iconst 1, 1) := dk_4 (dk_at dksL_law_48 8 rfl rfl)
theorem dL_law_1335 : decode cL_law 1335 = .ok (.iadd, 1) := dk_96 (dk_at dksL_law_48 9 rfl rfl)
theorem dL_law_1336 : decode cL_law 1336 = .ok (.iaload, 1) := dk_46 (dk_at dksL_law_48 10 rfl rfl)
theorem dL_law_1337 : decode cL_law 1337 = .ok (.invokevirtual 176, 3) := dk_182 0 176 (dk_at dksL_law_48 11 rfl rfl)
theorem dL_law_1340 : decode cL_law 1340 = .ok (.aload_n 2, 1) := dk_44 (dk_at dksL_law_48 14 rfl rfl)
theorem dL_law_1341 : decode cL_law 1341 = .ok (.aload_n 0, 1) := dk_42 (dk_at dksL_law_48 15 rfl rfl)
theorem dL_law_1342 : decode cL_law 1342 = .ok (.iload_n 3, 1) := dk_29 (dk_at dksL_law_48 16 rfl rfl)
theorem dL_law_1343 : decode cL_law 1343 = .ok (.iconst 1, 1) := dk_4 (dk_at dksL_law_48 17 rfl rfl)
theorem dL_law_1344 : decode cL_law 1344 = .ok (.iadd, 1) := dk_96 (dk_at dksL_law_48 18 rfl rfl)
theorem dL_law_1345 : decode cL_law 1345 = .ok (.iaload, 1) := dk_46 (dk_at dksL_law_48 19 rfl rfl)
theorem dL_law_1346 : decode cL_law 1346 = .ok (.invokevirtual 179, 3) := dk_182 0 179 (dk_at dksL_law_48 20 rfl rfl)
theorem dL_law_1349 : decode cL_law 1349 = .ok (.if_icmp .eq 281, 3) := dk_159 1 25 (dk_at dksL_law_49 0 rfl rfl)
theorem dL_law_1352 : decode cL_law 1352 = .ok (.iconst 0, 1) := dk_3 (dk_at dksL_law_49 3 rfl rfl)
theorem dL_law_1353 : decode cL_law 1353 = .ok (.ireturn, 1) := dk_172 (dk_at dksL_law_49 4 rfl rfl)
theorem dL_law_1354 : decode cL_law 1354 = .ok (.aload_n 1, 1) := dk_43 (dk_at dksL_law_49 5 rfl rfl)
theorem dL_law_1355 : decode cL_law 1355 = .ok (.aload_n 0, 1) := dk_42 (dk_at dksL_law_49 6 rfl rfl)
theorem dL_law_1356 : decode cL_law 1356 = .ok (.iload_n 3, 1) := dk_29 (dk_at dksL_law_49 7 rfl rfl)
theorem dL_law_1357 : decode cL_law 1357 = .ok (.iconst 1, 1) := dk_4 (dk_at dksL_law_49 8 rfl rfl)
theorem dL_law_1358 : decode cL_law 1358 = .ok (.iadd, 1) := dk_96 (dk_at dksL_law_49 9 rfl rfl)
theorem dL_law_1359 : decode cL_law 1359 = .ok (.iaload, 1) := dk_46 (dk_at dksL_law_49 10 rfl rfl)
theorem dL_law_1360 : decode cL_law 1360 = .ok (.aload_n 0, 1) := dk_42 (dk_at dksL_law_49 11 rfl rfl)
theorem dL_law_1361 : decode cL_law 1361 = .ok (.iload_n 3, 1) := dk_29 (dk_at dksL_law_49 12 rfl rfl)
theorem dL_law_1362 : decode cL_law 1362 = .ok (.iconst 2, 1) := dk_5 (dk_at dksL_law_49 13 rfl rfl)
theorem dL_law_1363 : decode cL_law 1363 = .ok (.iadd, 1) := dk_96 (dk_at dksL_law_49 14 rfl rfl)
theorem dL_law_1364 : decode cL_law 1364 = .ok (.iaload, 1) := dk_46 (dk_at dksL_law_49 15 rfl rfl)
theorem dL_law_1365 : decode cL_law 1365 = .ok (.invokevirtual 180, 3) := dk_182 0 180 (dk_at dksL_law_49 16 rfl rfl)
theorem dL_law_1368 : decode cL_law 1368 = .ok (.aload_n 2, 1) := dk_44 (dk_at dksL_law_49 19 rfl rfl)
theorem dL_law_1369 : decode cL_law 1369 = .ok (.aload_n 0, 1) := dk_42 (dk_at dksL_law_49 20 rfl rfl)
theorem dL_law_1370 : decode cL_law 1370 = .ok (.iload_n 3, 1) := dk_29 (dk_at dksL_law_49 21 rfl rfl)
theorem dL_law_1371 : decode cL_law 1371 = .ok (.iconst 1, 1) := dk_4 (dk_at dksL_law_49 22 rfl rfl)
theorem dL_law_1372 : decode cL_law 1372 = .ok (.iadd, 1) := dk_96 (dk_at dksL_law_49 23 rfl rfl)
theorem dL_law_1373 : decode cL_law 1373 = .ok (.iaload, 1) := dk_46 (dk_at dksL_law_50 0 rfl rfl)
theorem dL_law_1374 : decode cL_law 1374 = .ok (.aload_n 0, 1) := dk_42 (dk_at dksL_law_50 1 rfl rfl)
theorem dL_law_1375 : decode cL_law 1375 = .ok (.iload_n 3, 1) := dk_29 (dk_at dksL_law_50 2 rfl rfl)
theorem dL_law_1376 : decode cL_law 1376 = .ok (.iconst 2, 1) := dk_5 (dk_at dksL_law_50 3 rfl rfl)
theorem dL_law_1377 : decode cL_law 1377 = .ok (.iadd, 1) := dk_96 (dk_at dksL_law_50 4 rfl rfl)
theorem dL_law_1378 : decode cL_law 1378 = .ok (.iaload, 1) := dk_46 (dk_at dksL_law_50 5 rfl rfl)
theorem dL_law_1379 : decode cL_law 1379 = .ok (.invokevirtual 183, 3) := dk_182 0 183 (dk_at dksL_law_50 6 rfl rfl)
theorem dL_law_1382 : decode cL_law 1382 = .ok (.if_icmp .eq 248, 3) := dk_159 0 248 (dk_at dksL_law_50 9 rfl rfl)
theorem dL_law_1385 : decode cL_law 1385 = .ok (.iconst 0, 1) := dk_3 (dk_at dksL_law_50 12 rfl rfl)
theorem dL_law_1386 : decode cL_law 1386 = .ok (.ireturn, 1) := dk_172 (dk_at dksL_law_50 13 rfl rfl)
theorem dL_law_1387 : decode cL_law 1387 = .ok (.aload_n 1, 1) := dk_43 (dk_at dksL_law_50 14 rfl rfl)
theorem dL_law_1388 : decode cL_law 1388 = .ok (.aload_n 0, 1) := dk_42 (dk_at dksL_law_50 15 rfl rfl)
theorem dL_law_1389 : decode cL_law 1389 = .ok (.iload_n 3, 1) := dk_29 (dk_at dksL_law_50 16 rfl rfl)
theorem dL_law_1390 : decode cL_law 1390 = .ok (.iconst 1, 1) := dk_4 (dk_at dksL_law_50 17 rfl rfl)
theorem dL_law_1391 : decode cL_law 1391 = .ok (.iadd, 1) := dk_96 (dk_at dksL_law_50 18 rfl rfl)
theorem dL_law_1392 : decode cL_law 1392 = .ok (.iaload, 1) := dk_46 (dk_at dksL_law_50 19 rfl rfl)
theorem dL_law_1393 : decode cL_law 1393 = .ok (.aload_n 0, 1) := dk_42 (dk_at dksL_law_50 20 rfl rfl)
theorem dL_law_1394 : decode cL_law 1394 = .ok (.iload_n 3, 1) := dk_29 (dk_at dksL_law_50 21 rfl rfl)
theorem dL_law_1395 : decode cL_law 1395 = .ok (.iconst 2, 1) := dk_5 (dk_at dksL_law_50 22 rfl rfl)
theorem dL_law_1396 : decode cL_law 1396 = .ok (.iadd, 1) := dk_96 (dk_at dksL_law_50 23 rfl rfl)
theorem dL_law_1397 : decode cL_law 1397 = .ok (.iaload, 1) := dk_46 (dk_at dksL_law_51 0 rfl rfl)
theorem dL_law_1398 : decode cL_law 1398 = .ok (.aload_n 0, 1) := dk_42 (dk_at dksL_law_51 1 rfl rfl)
theorem dL_law_1399 : decode cL_law 1399 = .ok (.iload_n 3, 1) := dk_29 (dk_at dksL_law_51 2 rfl rfl)
theorem dL_law_1400 : decode cL_law 1400 = .ok (.iconst 3, 1) := dk_6 (dk_at dksL_law_51 3 rfl rfl)
theorem dL_law_1401 : decode cL_law 1401 = .ok (.iadd, 1) := dk_96 (dk_at dksL_law_51 4 rfl rfl)
theorem dL_law_1402 : decode cL_law 1402 = .ok (.iaload, 1) := dk_46 (dk_at dksL_law_51 5 rfl rfl)
theorem dL_law_1403 : decode cL_law 1403 = .ok (.ifCond .eq 7, 3) := dk_153 0 7 (dk_at dksL_law_51 6 rfl rfl)
theorem dL_law_1406 : decode cL_law 1406 = .ok (.iconst 1, 1) := dk_4 (dk_at dksL_law_51 9 rfl rfl)
theorem dL_law_1407 : decode cL_law 1407 = .ok (.goto 4, 3) := dk_167 0 4 (dk_at dksL_law_51 10 rfl rfl)
theorem dL_law_1410 : decode cL_law 1410 = .ok (.iconst 0, 1) := dk_3 (dk_at dksL_law_51 13 rfl rfl)
theorem dL_law_1411 : decode cL_law 1411 = .ok (.invokevirtual 184, 3) := dk_182 0 184 (dk_at dksL_law_51 14 rfl rfl)
theorem dL_law_1414 : decode cL_law 1414 = .ok (.aload_n 2, 1) := dk_44 (dk_at dksL_law_51 17 rfl rfl)
theorem dL_law_1415 : decode cL_law 1415 = .ok (.aload_n 0, 1) := dk_42 (dk_at dksL_law_51 18 rfl rfl)
theorem dL_law_1416 : decode cL_law 1416 = .ok (.iload_n 3, 1) := dk_29 (dk_at dksL_law_51 19 rfl rfl)
theorem dL_law_1417 : decode cL_law 1417 = .ok (.iconst 1, 1) := dk_4 (dk_at dksL_law_51 20 rfl rfl)
theorem dL_law_1418 : decode cL_law 1418 = .ok (.iadd, 1) := dk_96 (dk_at dksL_law_51 21 rfl rfl)
theorem dL_law_1419 : decode cL_law 1419 = .ok (.iaload, 1) := dk_46 (dk_at dksL_law_51 22 rfl rfl)
theorem dL_law_1420 : decode cL_law 1420 = .ok (.aload_n 0, 1) := dk_42 (dk_at dksL_law_51 23 rfl rfl)
theorem dL_law_1421 : decode cL_law 1421 = .ok (.iload_n 3, 1) := dk_29 (dk_at dksL_law_52 0 rfl rfl)
theorem dL_law_1422 : decode cL_law 1422 = .ok (.iconst 2, 1) := dk_5 (dk_at dksL_law_52 1 rfl rfl)
theorem dL_law_1423 : decode cL_law 1423 = .ok (.iadd, 1) := dk_96 (dk_at dksL_law_52 2 rfl rfl)
theorem dL_law_1424 : decode cL_law 1424 = .ok (.iaload, 1) := dk_46 (dk_at dksL_law_52 3 rfl rfl)
theorem dL_law_1425 : decode cL_law 1425 = .ok (.aload_n 0, 1) := dk_42 (dk_at dksL_law_52 4 rfl rfl)
theorem dL_law_1426 : decode cL_law 1426 = .ok (.iload_n 3, 1) := dk_29 (dk_at dksL_law_52 5 rfl rfl)
theorem dL_law_1427 : decode cL_law 1427 = .ok (.iconst 3, 1) := dk_6 (dk_at dksL_law_52 6 rfl rfl)
theorem dL_law_1428 : decode cL_law 1428 = .ok (.iadd, 1) := dk_96 (dk_at dksL_law_52 7 rfl rfl)
theorem dL_law_1429 : decode cL_law 1429 = .ok (.iaload, 1) := dk_46 (dk_at dksL_law_52 8 rfl rfl)
theorem dL_law_1430 : decode cL_law 1430 = .ok (.ifCond .eq 7, 3) := dk_153 0 7 (dk_at dksL_law_52 9 rfl rfl)
theorem dL_law_1433 : decode cL_law 1433 = .ok (.iconst 1, 1) := dk_4 (dk_at dksL_law_52 12 rfl rfl)
theorem dL_law_1434 : decode cL_law 1434 = .ok (.goto 4, 3) := dk_167 0 4 (dk_at dksL_law_52 13 rfl rfl)
theorem dL_law_1437 : decode cL_law 1437 = .ok (.iconst 0, 1) := dk_3 (dk_at dksL_law_52 16 rfl rfl)
theorem dL_law_1438 : decode cL_law 1438 = .ok (.invokevirtual 188, 3) := dk_182 0 188 (dk_at dksL_law_52 17 rfl rfl)
theorem dL_law_1441 : decode cL_law 1441 = .ok (.lcmp, 1) := dk_148 (dk_at dksL_law_52 20 rfl rfl)
theorem dL_law_1442 : decode cL_law 1442 = .ok (.ifCond .eq 188, 3) := dk_153 0 188 (dk_at dksL_law_52 21 rfl rfl)
theorem dL_law_1445 : decode cL_law 1445 = .ok (.iconst 0, 1) := dk_3 (dk_at dksL_law_53 0 rfl rfl)
theorem dL_law_1446 : decode cL_law 1446 = .ok (.ireturn, 1) := dk_172 (dk_at dksL_law_53 1 rfl rfl)
theorem dL_law_1447 : decode cL_law 1447 = .ok (.aload_n 1, 1) := dk_43 (dk_at dksL_law_53 2 rfl rfl)
theorem dL_law_1448 : decode cL_law 1448 = .ok (.aload_n 0, 1) := dk_42 (dk_at dksL_law_53 3 rfl rfl)
theorem dL_law_1449 : decode cL_law 1449 = .ok (.iload_n 3, 1) := dk_29 (dk_at dksL_law_53 4 rfl rfl)
theorem dL_law_1450 : decode cL_law 1450 = .ok (.iconst 1, 1) := dk_4 (dk_at dksL_law_53 5 rfl rfl)
theorem dL_law_1451 : decode cL_law 1451 = .ok (.iadd, 1) := dk_96 (dk_at dksL_law_53 6 rfl rfl)
theorem dL_law_1452 : decode cL_law 1452 = .ok (.iaload, 1) := dk_46 (dk_at dksL_law_53 7 rfl rfl)
theorem dL_law_1453 : decode cL_law 1453 = .ok (.aload_n 0, 1) := dk_42 (dk_at dksL_law_53 8 rfl rfl)
theorem dL_law_1454 : decode cL_law 1454 = .ok (.iload_n 3, 1) := dk_29 (dk_at dksL_law_53 9 rfl rfl)
theorem dL_law_1455 : decode cL_law 1455 = .ok (.iconst 2, 1) := dk_5 (dk_at dksL_law_53 10 rfl rfl)
theorem dL_law_1456 : decode cL_law 1456 = .ok (.iadd, 1) := dk_96 (dk_at dksL_law_53 11 rfl rfl)
theorem dL_law_1457 : decode cL_law 1457 = .ok (.iaload, 1) := dk_46 (dk_at dksL_law_53 12 rfl rfl)
theorem dL_law_1458 : decode cL_law 1458 = .ok (.invokevirtual 189, 3) := dk_182 0 189 (dk_at dksL_law_53 13 rfl rfl)
theorem dL_law_1461 : decode cL_law 1461 = .ok (.aload_n 2, 1) := dk_44 (dk_at dksL_law_53 16 rfl rfl)
theorem dL_law_1462 : decode cL_law 1462 = .ok (.aload_n 0, 1) := dk_42 (dk_at dksL_law_53 17 rfl rfl)
theorem dL_law_1463 : decode cL_law 1463 = .ok (.iload_n 3, 1) := dk_29 (dk_at dksL_law_53 18 rfl rfl)
theorem dL_law_1464 : decode cL_law 1464 = .ok (.iconst 1, 1) := dk_4 (dk_at dksL_law_53 19 rfl rfl)
theorem dL_law_1465 : decode cL_law 1465 = .ok (.iadd, 1) := dk_96 (dk_at dksL_law_53 20 rfl rfl)
theorem dL_law_1466 : decode cL_law 1466 = .ok (.iaload, 1) := dk_46 (dk_at dksL_law_53 21 rfl rfl)
theorem dL_law_1467 : decode cL_law 1467 = .ok (.aload_n 0, 1) := dk_42 (dk_at dksL_law_53 22 rfl rfl)
theorem dL_law_1468 : decode cL_law 1468 = .ok (.iload_n 3, 1) := dk_29 (dk_at dksL_law_53 23 rfl rfl)
theorem dL_law_1469 : decode cL_law 1469 = .ok (.iconst 2, 1) := dk_5 (dk_at dksL_law_54 0 rfl rfl)
theorem dL_law_1470 : decode cL_law 1470 = .ok (.iadd, 1) := dk_96 (dk_at dksL_law_54 1 rfl rfl)
theorem dL_law_1471 : decode cL_law 1471 = .ok (.iaload, 1) := dk_46 (dk_at dksL_law_54 2 rfl rfl)
theorem dL_law_1472 : decode cL_law 1472 = .ok (.invokevirtual 192, 3) := dk_182 0 192 (dk_at dksL_law_54 3 rfl rfl)
theorem dL_law_1475 : decode cL_law 1475 = .ok (.if_icmp .eq 155, 3) := dk_159 0 155 (dk_at dksL_law_54 6 rfl rfl)
theorem dL_law_1478 : decode cL_law 1478 = .ok (.iconst 0, 1) := dk_3 (dk_at dksL_law_54 9 rfl rfl)
theorem dL_law_1479 : decode cL_law 1479 = .ok (.ireturn, 1) := dk_172 (dk_at dksL_law_54 10 rfl rfl)
theorem dL_law_1480 : decode cL_law 1480 = .ok (.aload_n 1, 1) := dk_43 (dk_at dksL_law_54 11 rfl rfl)
theorem dL_law_1481 : decode cL_law 1481 = .ok (.invokevirtual 193, 3) := dk_182 0 193 (dk_at dksL_law_54 12 rfl rfl)
theorem dL_law_1484 : decode cL_law 1484 = .ok (.aload_n 2, 1) := dk_44 (dk_at dksL_law_54 15 rfl rfl)
theorem dL_law_1485 : decode cL_law 1485 = .ok (.invokevirtual 196, 3) := dk_182 0 196 (dk_at dksL_law_54 16 rfl rfl)
theorem dL_law_1488 : decode cL_law 1488 = .ok (.if_icmp .eq 142, 3) := dk_159 0 142 (dk_at dksL_law_54 19 rfl rfl)
theorem dL_law_1491 : decode cL_law 1491 = .ok (.iconst 0, 1) := dk_3 (dk_at dksL_law_54 22 rfl rfl)
theorem dL_law_1492 : decode cL_law 1492 = .ok (.ireturn, 1) := dk_172 (dk_at dksL_law_54 23 rfl rfl)
theorem dL_law_1493 : decode cL_law 1493 = .ok (.aload_n 1, 1) := dk_43 (dk_at dksL_law_55 0 rfl rfl)
theorem dL_law_1494 : decode cL_law 1494 = .ok (.invokevirtual 197, 3) := dk_182 0 197 (dk_at dksL_law_55 1 rfl rfl)
theorem dL_law_1497 : decode cL_law 1497 = .ok (.aload_n 2, 1) := dk_44 (dk_at dksL_law_55 4 rfl rfl)
theorem dL_law_1498 : decode cL_law 1498 = .ok (.invokevirtual 200, 3) := dk_182 0 200 (dk_at dksL_law_55 5 rfl rfl)
theorem dL_law_1501 : decode cL_law 1501 = .ok (.if_icmp .eq 129, 3) := dk_159 0 129 (dk_at dksL_law_55 8 rfl rfl)
theorem dL_law_1504 : decode cL_law 1504 = .ok (.iconst 0, 1) := dk_3 (dk_at dksL_law_55 11 rfl rfl)
theorem dL_law_1505 : decode cL_law 1505 = .ok (.ireturn, 1) := dk_172 (dk_at dksL_law_55 12 rfl rfl)
theorem dL_law_1506 : decode cL_law 1506 = .ok (.aload_n 1, 1) := dk_43 (dk_at dksL_law_55 13 rfl rfl)
theorem dL_law_1507 : decode cL_law 1507 = .ok (.invokevirtual 201, 3) := dk_182 0 201 (dk_at dksL_law_55 14 rfl rfl)
theorem dL_law_1510 : decode cL_law 1510 = .ok (.aload_n 2, 1) := dk_44 (dk_at dksL_law_55 17 rfl rfl)
theorem dL_law_1511 : decode cL_law 1511 = .ok (.invokevirtual 204, 3) := dk_182 0 204 (dk_at dksL_law_55 18 rfl rfl)
theorem dL_law_1514 : decode cL_law 1514 = .ok (.if_icmp .eq 116, 3) := dk_159 0 116 (dk_at dksL_law_55 21 rfl rfl)
theorem dL_law_1517 : decode cL_law 1517 = .ok (.iconst 0, 1) := dk_3 (dk_at dksL_law_56 0 rfl rfl)
theorem dL_law_1518 : decode cL_law 1518 = .ok (.ireturn, 1) := dk_172 (dk_at dksL_law_56 1 rfl rfl)
theorem dL_law_1519 : decode cL_law 1519 = .ok (.aload_n 1, 1) := dk_43 (dk_at dksL_law_56 2 rfl rfl)
theorem dL_law_1520 : decode cL_law 1520 = .ok (.invokevirtual 205, 3) := dk_182 0 205 (dk_at dksL_law_56 3 rfl rfl)
theorem dL_law_1523 : decode cL_law 1523 = .ok (.aload_n 2, 1) := dk_44 (dk_at dksL_law_56 6 rfl rfl)
theorem dL_law_1524 : decode cL_law 1524 = .ok (.invokevirtual 208, 3) := dk_182 0 208 (dk_at dksL_law_56 7 rfl rfl)
theorem dL_law_1527 : decode cL_law 1527 = .ok (.if_icmp .eq 103, 3) := dk_159 0 103 (dk_at dksL_law_56 10 rfl rfl)
theorem dL_law_1530 : decode cL_law 1530 = .ok (.iconst 0, 1) := dk_3 (dk_at dksL_law_56 13 rfl rfl)
theorem dL_law_1531 : decode cL_law 1531 = .ok (.ireturn, 1) := dk_172 (dk_at dksL_law_56 14 rfl rfl)
theorem dL_law_1532 : decode cL_law 1532 = .ok (.aload_n 1, 1) := dk_43 (dk_at dksL_law_56 15 rfl rfl)
theorem dL_law_1533 : decode cL_law 1533 = .ok (.invokevirtual 209, 3) := dk_182 0 209 (dk_at dksL_law_56 16 rfl rfl)
theorem dL_law_1536 : decode cL_law 1536 = .ok (.aload_n 2, 1) := dk_44 (dk_at dksL_law_56 19 rfl rfl)
theorem dL_law_1537 : decode cL_law 1537 = .ok (.invokevirtual 212, 3) := dk_182 0 212 (dk_at dksL_law_56 20 rfl rfl)
theorem dL_law_1540 : decode cL_law 1540 = .ok (.if_icmp .eq 90, 3) := dk_159 0 90 (dk_at dksL_law_57 0 rfl rfl)
theorem dL_law_1543 : decode cL_law 1543 = .ok (.iconst 0, 1) := dk_3 (dk_at dksL_law_57 3 rfl rfl)
theorem dL_law_1544 : decode cL_law 1544 = .ok (.ireturn, 1) := dk_172 (dk_at dksL_law_57 4 rfl rfl)
theorem dL_law_1545 : decode cL_law 1545 = .ok (.aload_n 1, 1) := dk_43 (dk_at dksL_law_57 5 rfl rfl)
theorem dL_law_1546 : decode cL_law 1546 = .ok (.invokevirtual 213, 3) := dk_182 0 213 (dk_at dksL_law_57 6 rfl rfl)
theorem dL_law_1549 : decode cL_law 1549 = .ok (.aload_n 2, 1) := dk_44 (dk_at dksL_law_57 9 rfl rfl)
theorem dL_law_1550 : decode cL_law 1550 = .ok (.invokevirtual 216, 3) := dk_182 0 216 (dk_at dksL_law_57 10 rfl rfl)
theorem dL_law_1553 : decode cL_law 1553 = .ok (.if_icmp .eq 77, 3) := dk_159 0 77 (dk_at dksL_law_57 13 rfl rfl)
theorem dL_law_1556 : decode cL_law 1556 = .ok (.iconst 0, 1) := dk_3 (dk_at dksL_law_57 16 rfl rfl)
theorem dL_law_1557 : decode cL_law 1557 = .ok (.ireturn, 1) := dk_172 (dk_at dksL_law_57 17 rfl rfl)
theorem dL_law_1558 : decode cL_law 1558 = .ok (.aload_n 1, 1) := dk_43 (dk_at dksL_law_57 18 rfl rfl)
theorem dL_law_1559 : decode cL_law 1559 = .ok (.aload_n 0, 1) := dk_42 (dk_at dksL_law_57 19 rfl rfl)
theorem dL_law_1560 : decode cL_law 1560 = .ok (.iload_n 3, 1) := dk_29 (dk_at dksL_law_57 20 rfl rfl)
theorem dL_law_1561 : decode cL_law 1561 = .ok (.iconst 1, 1) := dk_4 (dk_at dksL_law_57 21 rfl rfl)
theorem dL_law_1562 : decode cL_law 1562 = .ok (.iadd, 1) := dk_96 (dk_at dksL_law_57 22 rfl rfl)
theorem dL_law_1563 : decode cL_law 1563 = .ok (.iaload, 1) := dk_46 (dk_at dksL_law_57 23 rfl rfl)
theorem dL_law_1564 : decode cL_law 1564 = .ok (.invokevirtual 217, 3) := dk_182 0 217 (dk_at dksL_law_58 0 rfl rfl)
theorem dL_law_1567 : decode cL_law 1567 = .ok (.aload_n 2, 1) := dk_44 (dk_at dksL_law_58 3 rfl rfl)
theorem dL_law_1568 : decode cL_law 1568 = .ok (.aload_n 0, 1) := dk_42 (dk_at dksL_law_58 4 rfl rfl)
theorem dL_law_1569 : decode cL_law 1569 = .ok (.iload_n 3, 1) := dk_29 (dk_at dksL_law_58 5 rfl rfl)
theorem dL_law_1570 : decode cL_law 1570 = .ok (.iconst 1, 1) := dk_4 (dk_at dksL_law_58 6 rfl rfl)
theorem dL_law_1571 : decode cL_law 1571 = .ok (.iadd, 1) := dk_96 (dk_at dksL_law_58 7 rfl rfl)
theorem dL_law_1572 : decode cL_law 1572 = .ok (.iaload, 1) := dk_46 (dk_at dksL_law_58 8 rfl rfl)
theorem dL_law_1573 : decode cL_law 1573 = .ok (.invokevirtual 220, 3) := dk_182 0 220 (dk_at dksL_law_58 9 rfl rfl)
theorem dL_law_1576 : decode cL_law 1576 = .ok (.if_icmp .eq 54, 3) := dk_159 0 54 (dk_at dksL_law_58 12 rfl rfl)
theorem dL_law_1579 : decode cL_law 1579 = .ok (.iconst 0, 1) := dk_3 (dk_at dksL_law_58 15 rfl rfl)
theorem dL_law_1580 : decode cL_law 1580 = .ok (.ireturn, 1) := dk_172 (dk_at dksL_law_58 16 rfl rfl)
theorem dL_law_1581 : decode cL_law 1581 = .ok (.aload_n 1, 1) := dk_43 (dk_at dksL_law_58 17 rfl rfl)
theorem dL_law_1582 : decode cL_law 1582 = .ok (.invokevirtual 221, 3) := dk_182 0 221 (dk_at dksL_law_58 18 rfl rfl)
theorem dL_law_1585 : decode cL_law 1585 = .ok (.aload_n 2, 1) := dk_44 (dk_at dksL_law_58 21 rfl rfl)
theorem dL_law_1586 : decode cL_law 1586 = .ok (.invokevirtual 224, 3) := dk_182 0 224 (dk_at dksL_law_59 0 rfl rfl)
theorem dL_law_1589 : decode cL_law 1589 = .ok (.if_icmp .eq 41, 3) := dk_159 0 41 (dk_at dksL_law_59 3 rfl rfl)
theorem dL_law_1592 : decode cL_law 1592 = .ok (.iconst 0, 1) := dk_3 (dk_at dksL_law_59 6 rfl rfl)
theorem dL_law_1593 : decode cL_law 1593 = .ok (.ireturn, 1) := dk_172 (dk_at dksL_law_59 7 rfl rfl)
theorem dL_law_1594 : decode cL_law 1594 = .ok (.aload_n 1, 1) := dk_43 (dk_at dksL_law_59 8 rfl rfl)
theorem dL_law_1595 : decode cL_law 1595 = .ok (.invokevirtual 225, 3) := dk_182 0 225 (dk_at dksL_law_59 9 rfl rfl)
theorem dL_law_1598 : decode cL_law 1598 = .ok (.aload_n 2, 1) := dk_44 (dk_at dksL_law_59 12 rfl rfl)
theorem dL_law_1599 : decode cL_law 1599 = .ok (.invokevirtual 228, 3) := dk_182 0 228 (dk_at dksL_law_59 13 rfl rfl)
theorem dL_law_1602 : decode cL_law 1602 = .ok (.if_icmp .eq 28, 3) := dk_159 0 28 (dk_at dksL_law_59 16 rfl rfl)
theorem dL_law_1605 : decode cL_law 1605 = .ok (.iconst 0, 1) := dk_3 (dk_at dksL_law_59 19 rfl rfl)
theorem dL_law_1606 : decode cL_law 1606 = .ok (.ireturn, 1) := dk_172 (dk_at dksL_law_59 20 rfl rfl)
theorem dL_law_1607 : decode cL_law 1607 = .ok (.aload_n 1, 1) := dk_43 (dk_at dksL_law_59 21 rfl rfl)
theorem dL_law_1608 : decode cL_law 1608 = .ok (.aload_n 0, 1) := dk_42 (dk_at dksL_law_59 22 rfl rfl)
theorem dL_law_1609 : decode cL_law 1609 = .ok (.iload_n 3, 1) := dk_29 (dk_at dksL_law_59 23 rfl rfl)
theorem dL_law_1610 : decode cL_law 1610 = .ok (.iconst 1, 1) := dk_4 (dk_at dksL_law_60 0 rfl rfl)
theorem dL_law_1611 : decode cL_law 1611 = .ok (.iadd, 1) := dk_96 (dk_at dksL_law_60 1 rfl rfl)
theorem dL_law_1612 : decode cL_law 1612 = .ok (.iaload, 1) := dk_46 (dk_at dksL_law_60 2 rfl rfl)
theorem dL_law_1613 : decode cL_law 1613 = .ok (.invokevirtual 229, 3) := dk_182 0 229 (dk_at dksL_law_60 3 rfl rfl)
theorem dL_law_1616 : decode cL_law 1616 = .ok (.aload_n 2, 1) := dk_44 (dk_at dksL_law_60 6 rfl rfl)
theorem dL_law_1617 : decode cL_law 1617 = .ok (.aload_n 0, 1) := dk_42 (dk_at dksL_law_60 7 rfl rfl)
theorem dL_law_1618 : decode cL_law 1618 = .ok (.iload_n 3, 1) := dk_29 (dk_at dksL_law_60 8 rfl rfl)
theorem dL_law_1619 : decode cL_law 1619 = .ok (.iconst 1, 1) := dk_4 (dk_at dksL_law_60 9 rfl rfl)
theorem dL_law_1620 : decode cL_law 1620 = .ok (.iadd, 1) := dk_96 (dk_at dksL_law_60 10 rfl rfl)
theorem dL_law_1621 : decode cL_law 1621 = .ok (.iaload, 1) := dk_46 (dk_at dksL_law_60 11 rfl rfl)
theorem dL_law_1622 : decode cL_law 1622 = .ok (.invokevirtual 232, 3) := dk_182 0 232 (dk_at dksL_law_60 12 rfl rfl)
theorem dL_law_1625 : decode cL_law 1625 = .ok (.if_icmp .eq 5, 3) := dk_159 0 5 (dk_at dksL_law_60 15 rfl rfl)
theorem dL_law_1628 : decode cL_law 1628 = .ok (.iconst 0, 1) := dk_3 (dk_at dksL_law_60 18 rfl rfl)
theorem dL_law_1629 : decode cL_law 1629 = .ok (.ireturn, 1) := dk_172 (dk_at dksL_law_60 19 rfl rfl)
theorem dL_law_1630 : decode cL_law 1630 = .ok (.iinc 3 6, 3) := dk_132 3 6 (dk_at dksL_law_60 20 rfl rfl)
theorem dL_law_1633 : decode cL_law 1633 = .ok (.goto (-1615), 3) := dk_167 249 177 (dk_at dksL_law_61 0 rfl rfl)
theorem dL_law_1636 : decode cL_law 1636 = .ok (.iconst 1, 1) := dk_4 (dk_at dksL_law_61 3 rfl rfl)
theorem dL_law_1637 : decode cL_law 1637 = .ok (.ireturn, 1) := dk_172 (dk_at dksL_law_61 4 rfl rfl)

/-! java/util/Arrays -/
set_option maxRecDepth 100000
def RJ0 : String := "java/util/Arrays"
abbrev cJ0_fill : ByteArray := prog_41_method_103_code
def yJ0_fill : MethodName := ⟨RJ0, "fill", "([II)V"⟩
def dkwJ0_fill_0 : List UInt8 := [3, 61, 42, 190, 62, 28, 29, 162, 0, 13, 42, 28, 27, 79, 132, 2, 1, 167, 255, 244, 177]
abbrev dktJ0_fill_0 : List UInt8 := dkwJ0_fill_0 ++ []
theorem dksJ0_fill_0 : cJ0_fill.data.toList.drop 0 = dktJ0_fill_0 := by decide +kernel
theorem dJ0_fill_0 : decode cJ0_fill 0 = .ok (.iconst 0, 1) := dk_3 (dk_at dksJ0_fill_0 0 rfl rfl)
theorem dJ0_fill_1 : decode cJ0_fill 1 = .ok (.istore_n 2, 1) := dk_61 (dk_at dksJ0_fill_0 1 rfl rfl)
theorem dJ0_fill_2 : decode cJ0_fill 2 = .ok (.aload_n 0, 1) := dk_42 (dk_at dksJ0_fill_0 2 rfl rfl)
theorem dJ0_fill_3 : decode cJ0_fill 3 = .ok (.arraylength, 1) := dk_190 (dk_at dksJ0_fill_0 3 rfl rfl)
theorem dJ0_fill_4 : decode cJ0_fill 4 = .ok (.istore_n 3, 1) := dk_62 (dk_at dksJ0_fill_0 4 rfl rfl)
theorem dJ0_fill_5 : decode cJ0_fill 5 = .ok (.iload_n 2, 1) := dk_28 (dk_at dksJ0_fill_0 5 rfl rfl)
theorem dJ0_fill_6 : decode cJ0_fill 6 = .ok (.iload_n 3, 1) := dk_29 (dk_at dksJ0_fill_0 6 rfl rfl)
theorem dJ0_fill_7 : decode cJ0_fill 7 = .ok (.if_icmp .ge 13, 3) := dk_162 0 13 (dk_at dksJ0_fill_0 7 rfl rfl)
theorem dJ0_fill_10 : decode cJ0_fill 10 = .ok (.aload_n 0, 1) := dk_42 (dk_at dksJ0_fill_0 10 rfl rfl)
theorem dJ0_fill_11 : decode cJ0_fill 11 = .ok (.iload_n 2, 1) := dk_28 (dk_at dksJ0_fill_0 11 rfl rfl)
theorem dJ0_fill_12 : decode cJ0_fill 12 = .ok (.iload_n 1, 1) := dk_27 (dk_at dksJ0_fill_0 12 rfl rfl)
theorem dJ0_fill_13 : decode cJ0_fill 13 = .ok (.iastore, 1) := dk_79 (dk_at dksJ0_fill_0 13 rfl rfl)
theorem dJ0_fill_14 : decode cJ0_fill 14 = .ok (.iinc 2 1, 3) := dk_132 2 1 (dk_at dksJ0_fill_0 14 rfl rfl)
theorem dJ0_fill_17 : decode cJ0_fill 17 = .ok (.goto (-12), 3) := dk_167 255 244 (dk_at dksJ0_fill_0 17 rfl rfl)
theorem dJ0_fill_20 : decode cJ0_fill 20 = .ok (.return_, 1) := dk_177 (dk_at dksJ0_fill_0 20 rfl rfl)
abbrev cJ0_copyOf : ByteArray := prog_41_method_119_code
def yJ0_copyOf : MethodName := ⟨RJ0, "copyOf", "([Ljava/lang/Object;I)[Ljava/lang/Object;"⟩
def dkwJ0_copyOf_0 : List UInt8 := [42, 27, 42, 182, 0, 86, 184, 1, 44, 176]
abbrev dktJ0_copyOf_0 : List UInt8 := dkwJ0_copyOf_0 ++ []
theorem dksJ0_copyOf_0 : cJ0_copyOf.data.toList.drop 0 = dktJ0_copyOf_0 := by decide +kernel
theorem dJ0_copyOf_0 : decode cJ0_copyOf 0 = .ok (.aload_n 0, 1) := dk_42 (dk_at dksJ0_copyOf_0 0 rfl rfl)
theorem dJ0_copyOf_1 : decode cJ0_copyOf 1 = .ok (.iload_n 1, 1) := dk_27 (dk_at dksJ0_copyOf_0 1 rfl rfl)
theorem dJ0_copyOf_2 : decode cJ0_copyOf 2 = .ok (.aload_n 0, 1) := dk_42 (dk_at dksJ0_copyOf_0 2 rfl rfl)
theorem dJ0_copyOf_3 : decode cJ0_copyOf 3 = .ok (.invokevirtual 86, 3) := dk_182 0 86 (dk_at dksJ0_copyOf_0 3 rfl rfl)
theorem dJ0_copyOf_6 : decode cJ0_copyOf 6 = .ok (.invokestatic 300, 3) := dk_184 1 44 (dk_at dksJ0_copyOf_0 6 rfl rfl)
theorem dJ0_copyOf_9 : decode cJ0_copyOf 9 = .ok (.areturn, 1) := dk_176 (dk_at dksJ0_copyOf_0 9 rfl rfl)
abbrev cJ0_copyOf_2 : ByteArray := prog_41_method_120_code
def yJ0_copyOf_2 : MethodName := ⟨RJ0, "copyOf", "([Ljava/lang/Object;ILjava/lang/Class;)[Ljava/lang/Object;"⟩
def dkwJ0_copyOf_2_1 : List UInt8 := [78, 42, 3, 45, 3, 42, 190, 27, 184, 1, 48, 184, 0, 150, 45, 176]
abbrev dktJ0_copyOf_2_1 : List UInt8 := dkwJ0_copyOf_2_1 ++ []
def dkwJ0_copyOf_2_0 : List UInt8 := [44, 18, 110, 166, 0, 10, 27, 189, 0, 2, 167, 0, 14, 44, 182, 0, 90, 27, 184, 0, 95, 192, 0, 110]
abbrev dktJ0_copyOf_2_0 : List UInt8 := dkwJ0_copyOf_2_0 ++ dktJ0_copyOf_2_1
theorem dksJ0_copyOf_2_0 : cJ0_copyOf_2.data.toList.drop 0 = dktJ0_copyOf_2_0 := by decide +kernel
theorem dksJ0_copyOf_2_1 : cJ0_copyOf_2.data.toList.drop 24 = dktJ0_copyOf_2_1 := dk_seg dksJ0_copyOf_2_0 24 rfl rfl
theorem dJ0_copyOf_2_0 : decode cJ0_copyOf_2 0 = .ok (.aload_n 2, 1) := dk_44 (dk_at dksJ0_copyOf_2_0 0 rfl rfl)
theorem dJ0_copyOf_2_1 : decode cJ0_copyOf_2 1 = .ok (.ldc 110, 2) := dk_18 110 (dk_at dksJ0_copyOf_2_0 1 rfl rfl)
theorem dJ0_copyOf_2_3 : decode cJ0_copyOf_2 3 = .ok (.if_acmp .ne 10, 3) := dk_166 0 10 (dk_at dksJ0_copyOf_2_0 3 rfl rfl)
theorem dJ0_copyOf_2_6 : decode cJ0_copyOf_2 6 = .ok (.iload_n 1, 1) := dk_27 (dk_at dksJ0_copyOf_2_0 6 rfl rfl)
theorem dJ0_copyOf_2_7 : decode cJ0_copyOf_2 7 = .ok (.anewarray 2, 3) := dk_189 0 2 (dk_at dksJ0_copyOf_2_0 7 rfl rfl)
theorem dJ0_copyOf_2_10 : decode cJ0_copyOf_2 10 = .ok (.goto 14, 3) := dk_167 0 14 (dk_at dksJ0_copyOf_2_0 10 rfl rfl)
theorem dJ0_copyOf_2_13 : decode cJ0_copyOf_2 13 = .ok (.aload_n 2, 1) := dk_44 (dk_at dksJ0_copyOf_2_0 13 rfl rfl)
theorem dJ0_copyOf_2_14 : decode cJ0_copyOf_2 14 = .ok (.invokevirtual 90, 3) := dk_182 0 90 (dk_at dksJ0_copyOf_2_0 14 rfl rfl)
theorem dJ0_copyOf_2_17 : decode cJ0_copyOf_2 17 = .ok (.iload_n 1, 1) := dk_27 (dk_at dksJ0_copyOf_2_0 17 rfl rfl)
theorem dJ0_copyOf_2_18 : decode cJ0_copyOf_2 18 = .ok (.invokestatic 95, 3) := dk_184 0 95 (dk_at dksJ0_copyOf_2_0 18 rfl rfl)
theorem dJ0_copyOf_2_21 : decode cJ0_copyOf_2 21 = .ok (.checkcast 110, 3) := dk_192 0 110 (dk_at dksJ0_copyOf_2_0 21 rfl rfl)
theorem dJ0_copyOf_2_24 : decode cJ0_copyOf_2 24 = .ok (.astore_n 3, 1) := dk_78 (dk_at dksJ0_copyOf_2_1 0 rfl rfl)
theorem dJ0_copyOf_2_25 : decode cJ0_copyOf_2 25 = .ok (.aload_n 0, 1) := dk_42 (dk_at dksJ0_copyOf_2_1 1 rfl rfl)
theorem dJ0_copyOf_2_26 : decode cJ0_copyOf_2 26 = .ok (.iconst 0, 1) := dk_3 (dk_at dksJ0_copyOf_2_1 2 rfl rfl)
theorem dJ0_copyOf_2_27 : decode cJ0_copyOf_2 27 = .ok (.aload_n 3, 1) := dk_45 (dk_at dksJ0_copyOf_2_1 3 rfl rfl)
theorem dJ0_copyOf_2_28 : decode cJ0_copyOf_2 28 = .ok (.iconst 0, 1) := dk_3 (dk_at dksJ0_copyOf_2_1 4 rfl rfl)
theorem dJ0_copyOf_2_29 : decode cJ0_copyOf_2 29 = .ok (.aload_n 0, 1) := dk_42 (dk_at dksJ0_copyOf_2_1 5 rfl rfl)
theorem dJ0_copyOf_2_30 : decode cJ0_copyOf_2 30 = .ok (.arraylength, 1) := dk_190 (dk_at dksJ0_copyOf_2_1 6 rfl rfl)
theorem dJ0_copyOf_2_31 : decode cJ0_copyOf_2 31 = .ok (.iload_n 1, 1) := dk_27 (dk_at dksJ0_copyOf_2_1 7 rfl rfl)
theorem dJ0_copyOf_2_32 : decode cJ0_copyOf_2 32 = .ok (.invokestatic 304, 3) := dk_184 1 48 (dk_at dksJ0_copyOf_2_1 8 rfl rfl)
theorem dJ0_copyOf_2_35 : decode cJ0_copyOf_2 35 = .ok (.invokestatic 150, 3) := dk_184 0 150 (dk_at dksJ0_copyOf_2_1 11 rfl rfl)
theorem dJ0_copyOf_2_38 : decode cJ0_copyOf_2 38 = .ok (.aload_n 3, 1) := dk_45 (dk_at dksJ0_copyOf_2_1 14 rfl rfl)
theorem dJ0_copyOf_2_39 : decode cJ0_copyOf_2 39 = .ok (.areturn, 1) := dk_176 (dk_at dksJ0_copyOf_2_1 15 rfl rfl)
theorem q126 : (Jvm.Cond.initialized "java/util/Arrays") ∈ lw_all := lw_g (lw_at lw_m1 3 rfl) rfl
theorem q177 : (Jvm.Cond.static ({ cls := "java/util/Arrays", name := "fill", desc := "([II)V" } : Jvm.MethodName)) ∈ lw_all := lw_g (lw_at lw_m1 54 rfl) rfl
theorem q178 : (Jvm.Cond.code ({ cls := "java/util/Arrays", name := "fill", desc := "([II)V" } : Jvm.MethodName) prog_41_method_103_code (4 : Nat) (Option.none : Option Jvm.ClassFile.FieldType)) ∈ lw_all := lw_g (lw_at lw_m1 55 rfl) rfl
theorem q657 : (Jvm.Cond.static ({ cls := "java/util/Arrays", name := "copyOf", desc := "([Ljava/lang/Object;I)[Ljava/lang/Object;" } : Jvm.MethodName)) ∈ lw_all := lw_g (lw_at lw_m3 54 rfl) rfl
theorem q658 : (Jvm.Cond.code ({ cls := "java/util/Arrays", name := "copyOf", desc := "([Ljava/lang/Object;I)[Ljava/lang/Object;" } : Jvm.MethodName) prog_41_method_119_code (2 : Nat) (Option.some (Jvm.ClassFile.FieldType.array (Jvm.ClassFile.FieldType.object "java/lang/Object")))) ∈ lw_all := lw_g (lw_at lw_m3 55 rfl) rfl
theorem q659 : (Jvm.Cond.methodLink "java/util/Arrays" (86 : Nat) ({ cls := "java/lang/Object", name := "getClass", desc := "()Ljava/lang/Class;" } : Jvm.MethodName)) ∈ lw_all := lw_g (lw_at lw_m3 56 rfl) rfl
theorem q681 : (Jvm.Cond.methodLink "java/util/Arrays" (300 : Nat) ({ cls := "java/util/Arrays", name := "copyOf", desc := "([Ljava/lang/Object;ILjava/lang/Class;)[Ljava/lang/Object;" } : Jvm.MethodName)) ∈ lw_all := lw_g (lw_at lw_m3 78 rfl) rfl
theorem q682 : (Jvm.Cond.static ({ cls := "java/util/Arrays", name := "copyOf", desc := "([Ljava/lang/Object;ILjava/lang/Class;)[Ljava/lang/Object;" } : Jvm.MethodName)) ∈ lw_all := lw_g (lw_at lw_m3 79 rfl) rfl
theorem q683 : (Jvm.Cond.code ({ cls := "java/util/Arrays", name := "copyOf", desc := "([Ljava/lang/Object;ILjava/lang/Class;)[Ljava/lang/Object;" } : Jvm.MethodName) prog_41_method_120_code (4 : Nat) (Option.some (Jvm.ClassFile.FieldType.array (Jvm.ClassFile.FieldType.object "java/lang/Object")))) ∈ lw_all := lw_g (lw_at lw_m3 80 rfl) rfl
theorem q684 : (Jvm.Cond.classLink "java/util/Arrays" (110 : Nat) "[Ljava/lang/Object;") ∈ lw_all := lw_g (lw_at lw_m3 81 rfl) rfl
theorem q686 : (Jvm.Cond.classLink "java/util/Arrays" (2 : Nat) "java/lang/Object") ∈ lw_all := lw_g (lw_at lw_m3 83 rfl) rfl
theorem q687 : (Jvm.Cond.methodLink "java/util/Arrays" (304 : Nat) ({ cls := "java/lang/Math", name := "min", desc := "(II)I" } : Jvm.MethodName)) ∈ lw_all := lw_g (lw_at lw_m3 84 rfl) rfl
theorem q688 : (Jvm.Cond.methodLink "java/util/Arrays" (150 : Nat) ({ cls := "java/lang/System", name := "arraycopy", desc := "(Ljava/lang/Object;ILjava/lang/Object;II)V" } : Jvm.MethodName)) ∈ lw_all := lw_g (lw_at lw_m3 85 rfl) rfl

/-! java/util/AbstractCollection -/
set_option maxRecDepth 100000
def RJ1 : String := "java/util/AbstractCollection"
abbrev cJ1_init : ByteArray := prog_38_method_1_code
def yJ1_init : MethodName := ⟨RJ1, "<init>", "()V"⟩
theorem dJ1_init_0 : decode cJ1_init 0 = .ok (.aload_n 0, 1) := by decide +kernel
theorem dJ1_init_1 : decode cJ1_init 1 = .ok (.invokespecial 1, 3) := by decide +kernel
theorem dJ1_init_4 : decode cJ1_init 4 = .ok (.return_, 1) := by decide +kernel
theorem q131 : (Jvm.Cond.initialized "java/util/AbstractCollection") ∈ lw_all := lw_g (lw_at lw_m1 8 rfl) rfl
theorem q379 : (Jvm.Cond.instanceMethod ({ cls := "java/util/AbstractCollection", name := "<init>", desc := "()V" } : Jvm.MethodName)) ∈ lw_all := lw_g (lw_at lw_m2 16 rfl) rfl
theorem q380 : (Jvm.Cond.code ({ cls := "java/util/AbstractCollection", name := "<init>", desc := "()V" } : Jvm.MethodName) prog_38_method_1_code (1 : Nat) (Option.none : Option Jvm.ClassFile.FieldType)) ∈ lw_all := lw_g (lw_at lw_m2 17 rfl) rfl
theorem q381 : (Jvm.Cond.methodLink "java/util/AbstractCollection" (1 : Nat) ({ cls := "java/lang/Object", name := "<init>", desc := "()V" } : Jvm.MethodName)) ∈ lw_all := lw_g (lw_at lw_m2 18 rfl) rfl

/-! java/lang/Exception -/
set_option maxRecDepth 100000
def RJ10 : String := "java/lang/Exception"
abbrev cJ10_init : ByteArray := prog_24_method_1_code
def yJ10_init : MethodName := ⟨RJ10, "<init>", "()V"⟩
theorem dJ10_init_0 : decode cJ10_init 0 = .ok (.aload_n 0, 1) := by decide +kernel
theorem dJ10_init_1 : decode cJ10_init 1 = .ok (.invokespecial 1, 3) := by decide +kernel
theorem dJ10_init_4 : decode cJ10_init 4 = .ok (.return_, 1) := by decide +kernel
theorem q140 : (Jvm.Cond.initialized "java/lang/Exception") ∈ lw_all := lw_g (lw_at lw_m1 17 rfl) rfl
theorem q486 : (Jvm.Cond.declares ({ cls := "java/lang/Exception", name := "<init>", desc := "()V" } : Jvm.MethodName)) ∈ lw_tbl := lw_at lw_m2 123 rfl
theorem q487 : (Jvm.Cond.declares ({ cls := "java/lang/Exception", name := "<init>", desc := "(Ljava/lang/String;)V" } : Jvm.MethodName)) ∈ lw_tbl := lw_at lw_m2 124 rfl
theorem q524 : (Jvm.Cond.instanceMethod ({ cls := "java/lang/Exception", name := "<init>", desc := "()V" } : Jvm.MethodName)) ∈ lw_all := lw_g (lw_at lw_m2 161 rfl) rfl
theorem q525 : (Jvm.Cond.code ({ cls := "java/lang/Exception", name := "<init>", desc := "()V" } : Jvm.MethodName) prog_24_method_1_code (1 : Nat) (Option.none : Option Jvm.ClassFile.FieldType)) ∈ lw_all := lw_g (lw_at lw_m2 162 rfl) rfl
theorem q526 : (Jvm.Cond.methodLink "java/lang/Exception" (1 : Nat) ({ cls := "java/lang/Throwable", name := "<init>", desc := "()V" } : Jvm.MethodName)) ∈ lw_all := lw_g (lw_at lw_m2 163 rfl) rfl

/-! java/lang/Record -/
set_option maxRecDepth 100000
def RJ11 : String := "java/lang/Record"
abbrev cJ11_init : ByteArray := prog_30_method_1_code
def yJ11_init : MethodName := ⟨RJ11, "<init>", "()V"⟩
theorem dJ11_init_0 : decode cJ11_init 0 = .ok (.aload_n 0, 1) := by decide +kernel
theorem dJ11_init_1 : decode cJ11_init 1 = .ok (.invokespecial 1, 3) := by decide +kernel
theorem dJ11_init_4 : decode cJ11_init 4 = .ok (.return_, 1) := by decide +kernel
theorem q143 : (Jvm.Cond.initialized "java/lang/Record") ∈ lw_all := lw_g (lw_at lw_m1 20 rfl) rfl
theorem q575 : (Jvm.Cond.instanceMethod ({ cls := "java/lang/Record", name := "<init>", desc := "()V" } : Jvm.MethodName)) ∈ lw_all := lw_g (lw_at lw_m2 212 rfl) rfl
theorem q576 : (Jvm.Cond.code ({ cls := "java/lang/Record", name := "<init>", desc := "()V" } : Jvm.MethodName) prog_30_method_1_code (1 : Nat) (Option.none : Option Jvm.ClassFile.FieldType)) ∈ lw_all := lw_g (lw_at lw_m2 213 rfl) rfl
theorem q577 : (Jvm.Cond.methodLink "java/lang/Record" (1 : Nat) ({ cls := "java/lang/Object", name := "<init>", desc := "()V" } : Jvm.MethodName)) ∈ lw_all := lw_g (lw_at lw_m2 214 rfl) rfl

/-! jdk/internal/util/ArraysSupport -/
set_option maxRecDepth 100000
def RJ12 : String := "jdk/internal/util/ArraysSupport"
abbrev cJ12_newLength : ByteArray := prog_47_method_27_code
def yJ12_newLength : MethodName := ⟨RJ12, "newLength", "(III)I"⟩
def dkwJ12_newLength_1 : List UInt8 := [184, 0, 201, 172]
abbrev dktJ12_newLength_1 : List UInt8 := dkwJ12_newLength_1 ++ []
def dkwJ12_newLength_0 : List UInt8 := [26, 27, 28, 184, 0, 194, 96, 62, 3, 29, 162, 0, 11, 29, 18, 200, 163, 0, 5, 29, 172, 26, 27]
abbrev dktJ12_newLength_0 : List UInt8 := dkwJ12_newLength_0 ++ dktJ12_newLength_1
theorem dksJ12_newLength_0 : cJ12_newLength.data.toList.drop 0 = dktJ12_newLength_0 := by decide +kernel
theorem dksJ12_newLength_1 : cJ12_newLength.data.toList.drop 23 = dktJ12_newLength_1 := dk_seg dksJ12_newLength_0 23 rfl rfl
theorem dJ12_newLength_0 : decode cJ12_newLength 0 = .ok (.iload_n 0, 1) := dk_26 (dk_at dksJ12_newLength_0 0 rfl rfl)
theorem dJ12_newLength_1 : decode cJ12_newLength 1 = .ok (.iload_n 1, 1) := dk_27 (dk_at dksJ12_newLength_0 1 rfl rfl)
theorem dJ12_newLength_2 : decode cJ12_newLength 2 = .ok (.iload_n 2, 1) := dk_28 (dk_at dksJ12_newLength_0 2 rfl rfl)
theorem dJ12_newLength_3 : decode cJ12_newLength 3 = .ok (.invokestatic 194, 3) := dk_184 0 194 (dk_at dksJ12_newLength_0 3 rfl rfl)
theorem dJ12_newLength_6 : decode cJ12_newLength 6 = .ok (.iadd, 1) := dk_96 (dk_at dksJ12_newLength_0 6 rfl rfl)
theorem dJ12_newLength_7 : decode cJ12_newLength 7 = .ok (.istore_n 3, 1) := dk_62 (dk_at dksJ12_newLength_0 7 rfl rfl)
theorem dJ12_newLength_8 : decode cJ12_newLength 8 = .ok (.iconst 0, 1) := dk_3 (dk_at dksJ12_newLength_0 8 rfl rfl)
theorem dJ12_newLength_9 : decode cJ12_newLength 9 = .ok (.iload_n 3, 1) := dk_29 (dk_at dksJ12_newLength_0 9 rfl rfl)
theorem dJ12_newLength_10 : decode cJ12_newLength 10 = .ok (.if_icmp .ge 11, 3) := dk_162 0 11 (dk_at dksJ12_newLength_0 10 rfl rfl)
theorem dJ12_newLength_13 : decode cJ12_newLength 13 = .ok (.iload_n 3, 1) := dk_29 (dk_at dksJ12_newLength_0 13 rfl rfl)
theorem dJ12_newLength_14 : decode cJ12_newLength 14 = .ok (.ldc 200, 2) := dk_18 200 (dk_at dksJ12_newLength_0 14 rfl rfl)
theorem dJ12_newLength_16 : decode cJ12_newLength 16 = .ok (.if_icmp .gt 5, 3) := dk_163 0 5 (dk_at dksJ12_newLength_0 16 rfl rfl)
theorem dJ12_newLength_19 : decode cJ12_newLength 19 = .ok (.iload_n 3, 1) := dk_29 (dk_at dksJ12_newLength_0 19 rfl rfl)
theorem dJ12_newLength_20 : decode cJ12_newLength 20 = .ok (.ireturn, 1) := dk_172 (dk_at dksJ12_newLength_0 20 rfl rfl)
theorem dJ12_newLength_21 : decode cJ12_newLength 21 = .ok (.iload_n 0, 1) := dk_26 (dk_at dksJ12_newLength_0 21 rfl rfl)
theorem dJ12_newLength_22 : decode cJ12_newLength 22 = .ok (.iload_n 1, 1) := dk_27 (dk_at dksJ12_newLength_0 22 rfl rfl)
theorem dJ12_newLength_23 : decode cJ12_newLength 23 = .ok (.invokestatic 201, 3) := dk_184 0 201 (dk_at dksJ12_newLength_1 0 rfl rfl)
theorem dJ12_newLength_26 : decode cJ12_newLength 26 = .ok (.ireturn, 1) := dk_172 (dk_at dksJ12_newLength_1 3 rfl rfl)
abbrev cJ12_hugeLength : ByteArray := prog_47_method_28_code
def yJ12_hugeLength : MethodName := ⟨RJ12, "hugeLength", "(II)I"⟩
def dkwJ12_hugeLength_2 : List UInt8 := [191, 28, 18, 200, 163, 0, 6, 18, 200, 172, 28, 172]
abbrev dktJ12_hugeLength_2 : List UInt8 := dkwJ12_hugeLength_2 ++ []
def dkwJ12_hugeLength_1 : List UInt8 := [26, 182, 0, 98, 18, 208, 182, 0, 94, 27, 182, 0, 98, 18, 210, 182, 0, 94, 182, 0, 101, 183, 0, 212]
abbrev dktJ12_hugeLength_1 : List UInt8 := dkwJ12_hugeLength_1 ++ dktJ12_hugeLength_2
def dkwJ12_hugeLength_0 : List UInt8 := [26, 27, 96, 61, 28, 156, 0, 44, 187, 0, 204, 89, 187, 0, 89, 89, 183, 0, 91, 18, 206, 182, 0, 94]
abbrev dktJ12_hugeLength_0 : List UInt8 := dkwJ12_hugeLength_0 ++ dktJ12_hugeLength_1
theorem dksJ12_hugeLength_0 : cJ12_hugeLength.data.toList.drop 0 = dktJ12_hugeLength_0 := by decide +kernel
theorem dksJ12_hugeLength_1 : cJ12_hugeLength.data.toList.drop 24 = dktJ12_hugeLength_1 := dk_seg dksJ12_hugeLength_0 24 rfl rfl
theorem dksJ12_hugeLength_2 : cJ12_hugeLength.data.toList.drop 48 = dktJ12_hugeLength_2 := dk_seg dksJ12_hugeLength_1 24 rfl rfl
theorem dJ12_hugeLength_0 : decode cJ12_hugeLength 0 = .ok (.iload_n 0, 1) := dk_26 (dk_at dksJ12_hugeLength_0 0 rfl rfl)
theorem dJ12_hugeLength_1 : decode cJ12_hugeLength 1 = .ok (.iload_n 1, 1) := dk_27 (dk_at dksJ12_hugeLength_0 1 rfl rfl)
theorem dJ12_hugeLength_2 : decode cJ12_hugeLength 2 = .ok (.iadd, 1) := dk_96 (dk_at dksJ12_hugeLength_0 2 rfl rfl)
theorem dJ12_hugeLength_3 : decode cJ12_hugeLength 3 = .ok (.istore_n 2, 1) := dk_61 (dk_at dksJ12_hugeLength_0 3 rfl rfl)
theorem dJ12_hugeLength_4 : decode cJ12_hugeLength 4 = .ok (.iload_n 2, 1) := dk_28 (dk_at dksJ12_hugeLength_0 4 rfl rfl)
theorem dJ12_hugeLength_5 : decode cJ12_hugeLength 5 = .ok (.ifCond .ge 44, 3) := dk_156 0 44 (dk_at dksJ12_hugeLength_0 5 rfl rfl)
theorem dJ12_hugeLength_8 : decode cJ12_hugeLength 8 = .ok (.new 204, 3) := dk_187 0 204 (dk_at dksJ12_hugeLength_0 8 rfl rfl)
theorem dJ12_hugeLength_11 : decode cJ12_hugeLength 11 = .ok (.dup, 1) := dk_89 (dk_at dksJ12_hugeLength_0 11 rfl rfl)
theorem dJ12_hugeLength_12 : decode cJ12_hugeLength 12 = .ok (.new 89, 3) := dk_187 0 89 (dk_at dksJ12_hugeLength_0 12 rfl rfl)
theorem dJ12_hugeLength_15 : decode cJ12_hugeLength 15 = .ok (.dup, 1) := dk_89 (dk_at dksJ12_hugeLength_0 15 rfl rfl)
theorem dJ12_hugeLength_16 : decode cJ12_hugeLength 16 = .ok (.invokespecial 91, 3) := dk_183 0 91 (dk_at dksJ12_hugeLength_0 16 rfl rfl)
theorem dJ12_hugeLength_19 : decode cJ12_hugeLength 19 = .ok (.ldc 206, 2) := dk_18 206 (dk_at dksJ12_hugeLength_0 19 rfl rfl)
theorem dJ12_hugeLength_21 : decode cJ12_hugeLength 21 = .ok (.invokevirtual 94, 3) := dk_182 0 94 (dk_at dksJ12_hugeLength_0 21 rfl rfl)
theorem dJ12_hugeLength_24 : decode cJ12_hugeLength 24 = .ok (.iload_n 0, 1) := dk_26 (dk_at dksJ12_hugeLength_1 0 rfl rfl)
theorem dJ12_hugeLength_25 : decode cJ12_hugeLength 25 = .ok (.invokevirtual 98, 3) := dk_182 0 98 (dk_at dksJ12_hugeLength_1 1 rfl rfl)
theorem dJ12_hugeLength_28 : decode cJ12_hugeLength 28 = .ok (.ldc 208, 2) := dk_18 208 (dk_at dksJ12_hugeLength_1 4 rfl rfl)
theorem dJ12_hugeLength_30 : decode cJ12_hugeLength 30 = .ok (.invokevirtual 94, 3) := dk_182 0 94 (dk_at dksJ12_hugeLength_1 6 rfl rfl)
theorem dJ12_hugeLength_33 : decode cJ12_hugeLength 33 = .ok (.iload_n 1, 1) := dk_27 (dk_at dksJ12_hugeLength_1 9 rfl rfl)
theorem dJ12_hugeLength_34 : decode cJ12_hugeLength 34 = .ok (.invokevirtual 98, 3) := dk_182 0 98 (dk_at dksJ12_hugeLength_1 10 rfl rfl)
theorem dJ12_hugeLength_37 : decode cJ12_hugeLength 37 = .ok (.ldc 210, 2) := dk_18 210 (dk_at dksJ12_hugeLength_1 13 rfl rfl)
theorem dJ12_hugeLength_39 : decode cJ12_hugeLength 39 = .ok (.invokevirtual 94, 3) := dk_182 0 94 (dk_at dksJ12_hugeLength_1 15 rfl rfl)
theorem dJ12_hugeLength_42 : decode cJ12_hugeLength 42 = .ok (.invokevirtual 101, 3) := dk_182 0 101 (dk_at dksJ12_hugeLength_1 18 rfl rfl)
theorem dJ12_hugeLength_45 : decode cJ12_hugeLength 45 = .ok (.invokespecial 212, 3) := dk_183 0 212 (dk_at dksJ12_hugeLength_1 21 rfl rfl)
theorem dJ12_hugeLength_48 : decode cJ12_hugeLength 48 = .ok (.athrow, 1) := dk_191 (dk_at dksJ12_hugeLength_2 0 rfl rfl)
theorem dJ12_hugeLength_49 : decode cJ12_hugeLength 49 = .ok (.iload_n 2, 1) := dk_28 (dk_at dksJ12_hugeLength_2 1 rfl rfl)
theorem dJ12_hugeLength_50 : decode cJ12_hugeLength 50 = .ok (.ldc 200, 2) := dk_18 200 (dk_at dksJ12_hugeLength_2 2 rfl rfl)
theorem dJ12_hugeLength_52 : decode cJ12_hugeLength 52 = .ok (.if_icmp .gt 6, 3) := dk_163 0 6 (dk_at dksJ12_hugeLength_2 4 rfl rfl)
theorem dJ12_hugeLength_55 : decode cJ12_hugeLength 55 = .ok (.ldc 200, 2) := dk_18 200 (dk_at dksJ12_hugeLength_2 7 rfl rfl)
theorem dJ12_hugeLength_57 : decode cJ12_hugeLength 57 = .ok (.ireturn, 1) := dk_172 (dk_at dksJ12_hugeLength_2 9 rfl rfl)
theorem dJ12_hugeLength_58 : decode cJ12_hugeLength 58 = .ok (.iload_n 2, 1) := dk_28 (dk_at dksJ12_hugeLength_2 10 rfl rfl)
theorem dJ12_hugeLength_59 : decode cJ12_hugeLength 59 = .ok (.ireturn, 1) := dk_172 (dk_at dksJ12_hugeLength_2 11 rfl rfl)
theorem q147 : (Jvm.Cond.initialized "jdk/internal/util/ArraysSupport") ∈ lw_all := lw_g (lw_at lw_m1 24 rfl) rfl
theorem q647 : (Jvm.Cond.static ({ cls := "jdk/internal/util/ArraysSupport", name := "newLength", desc := "(III)I" } : Jvm.MethodName)) ∈ lw_all := lw_g (lw_at lw_m3 44 rfl) rfl
theorem q648 : (Jvm.Cond.code ({ cls := "jdk/internal/util/ArraysSupport", name := "newLength", desc := "(III)I" } : Jvm.MethodName) prog_47_method_27_code (4 : Nat) (Option.some Jvm.ClassFile.FieldType.int)) ∈ lw_all := lw_g (lw_at lw_m3 45 rfl) rfl
theorem q649 : (Jvm.Cond.methodLink "jdk/internal/util/ArraysSupport" (194 : Nat) ({ cls := "java/lang/Math", name := "max", desc := "(II)I" } : Jvm.MethodName)) ∈ lw_all := lw_g (lw_at lw_m3 46 rfl) rfl
theorem q652 : (Jvm.Cond.constant "jdk/internal/util/ArraysSupport" (200 : Nat) (2147483639 : Int32)) ∈ lw_all := lw_g (lw_at lw_m3 49 rfl) rfl
theorem q653 : (Jvm.Cond.methodLink "jdk/internal/util/ArraysSupport" (201 : Nat) ({ cls := "jdk/internal/util/ArraysSupport", name := "hugeLength", desc := "(II)I" } : Jvm.MethodName)) ∈ lw_all := lw_g (lw_at lw_m3 50 rfl) rfl
theorem q654 : (Jvm.Cond.static ({ cls := "jdk/internal/util/ArraysSupport", name := "hugeLength", desc := "(II)I" } : Jvm.MethodName)) ∈ lw_all := lw_g (lw_at lw_m3 51 rfl) rfl
theorem q655 : (Jvm.Cond.code ({ cls := "jdk/internal/util/ArraysSupport", name := "hugeLength", desc := "(II)I" } : Jvm.MethodName) prog_47_method_28_code (3 : Nat) (Option.some Jvm.ClassFile.FieldType.int)) ∈ lw_all := lw_g (lw_at lw_m3 52 rfl) rfl

/-! java/util/Objects -/
set_option maxRecDepth 100000
def RJ13 : String := "java/util/Objects"
abbrev cJ13_checkIndex : ByteArray := prog_44_method_17_code
def yJ13_checkIndex : MethodName := ⟨RJ13, "checkIndex", "(II)I"⟩
def dkwJ13_checkIndex_0 : List UInt8 := [26, 27, 1, 184, 0, 105, 172]
abbrev dktJ13_checkIndex_0 : List UInt8 := dkwJ13_checkIndex_0 ++ []
theorem dksJ13_checkIndex_0 : cJ13_checkIndex.data.toList.drop 0 = dktJ13_checkIndex_0 := by decide +kernel
theorem dJ13_checkIndex_0 : decode cJ13_checkIndex 0 = .ok (.iload_n 0, 1) := dk_26 (dk_at dksJ13_checkIndex_0 0 rfl rfl)
theorem dJ13_checkIndex_1 : decode cJ13_checkIndex 1 = .ok (.iload_n 1, 1) := dk_27 (dk_at dksJ13_checkIndex_0 1 rfl rfl)
theorem dJ13_checkIndex_2 : decode cJ13_checkIndex 2 = .ok (.aconst_null, 1) := dk_1 (dk_at dksJ13_checkIndex_0 2 rfl rfl)
theorem dJ13_checkIndex_3 : decode cJ13_checkIndex 3 = .ok (.invokestatic 105, 3) := dk_184 0 105 (dk_at dksJ13_checkIndex_0 3 rfl rfl)
theorem dJ13_checkIndex_6 : decode cJ13_checkIndex 6 = .ok (.ireturn, 1) := dk_172 (dk_at dksJ13_checkIndex_0 6 rfl rfl)
theorem q148 : (Jvm.Cond.initialized "java/util/Objects") ∈ lw_all := lw_g (lw_at lw_m1 25 rfl) rfl
theorem q700 : (Jvm.Cond.static ({ cls := "java/util/Objects", name := "checkIndex", desc := "(II)I" } : Jvm.MethodName)) ∈ lw_all := lw_g (lw_at lw_m3 97 rfl) rfl
theorem q701 : (Jvm.Cond.code ({ cls := "java/util/Objects", name := "checkIndex", desc := "(II)I" } : Jvm.MethodName) prog_44_method_17_code (2 : Nat) (Option.some Jvm.ClassFile.FieldType.int)) ∈ lw_all := lw_g (lw_at lw_m3 98 rfl) rfl
theorem q702 : (Jvm.Cond.methodLink "java/util/Objects" (105 : Nat) ({ cls := "jdk/internal/util/Preconditions", name := "checkIndex", desc := "(IILjava/util/function/BiFunction;)I" } : Jvm.MethodName)) ∈ lw_all := lw_g (lw_at lw_m3 99 rfl) rfl

/-! java/lang/Number -/
set_option maxRecDepth 100000
def RJ14 : String := "java/lang/Number"
abbrev cJ14_init : ByteArray := prog_29_method_1_code
def yJ14_init : MethodName := ⟨RJ14, "<init>", "()V"⟩
theorem dJ14_init_0 : decode cJ14_init 0 = .ok (.aload_n 0, 1) := by decide +kernel
theorem dJ14_init_1 : decode cJ14_init 1 = .ok (.invokespecial 1, 3) := by decide +kernel
theorem dJ14_init_4 : decode cJ14_init 4 = .ok (.return_, 1) := by decide +kernel
theorem q154 : (Jvm.Cond.initialized "java/lang/Number") ∈ lw_all := lw_g (lw_at lw_m1 31 rfl) rfl
theorem q821 : (Jvm.Cond.instanceMethod ({ cls := "java/lang/Number", name := "<init>", desc := "()V" } : Jvm.MethodName)) ∈ lw_all := lw_g (lw_at lw_m3 218 rfl) rfl
theorem q822 : (Jvm.Cond.code ({ cls := "java/lang/Number", name := "<init>", desc := "()V" } : Jvm.MethodName) prog_29_method_1_code (1 : Nat) (Option.none : Option Jvm.ClassFile.FieldType)) ∈ lw_all := lw_g (lw_at lw_m3 219 rfl) rfl
theorem q823 : (Jvm.Cond.methodLink "java/lang/Number" (1 : Nat) ({ cls := "java/lang/Object", name := "<init>", desc := "()V" } : Jvm.MethodName)) ∈ lw_all := lw_g (lw_at lw_m3 220 rfl) rfl

/-! java/lang/Integer -/
set_option maxRecDepth 100000
def RJ15 : String := "java/lang/Integer"
def TJ15 : u_T := fun k => match k with
  | _ => ("java/lang/Integer", "value", "I", true)
def tyJ15 : Nat → FieldType := fun k => match k with
  | _ => .int
abbrev wsJ150 : List Cond := u_ws RJ15 TJ15 1
theorem nmJ15 : ∀ a, a < 1 → ∀ b, b < 1 → a ≠ b → (TJ15 a).2.1 ≠ (TJ15 b).2.1 := by decide +kernel
theorem tyJ15_ok : ∀ k, k < 1 → parseFieldDescriptor (TJ15 k).2.2.1 = some (tyJ15 k) := by decide +kernel
abbrev cJ15_valueOf : ByteArray := prog_25_method_22_code
def yJ15_valueOf : MethodName := ⟨RJ15, "valueOf", "(I)Ljava/lang/Integer;"⟩
def dkwJ15_valueOf_1 : List UInt8 := [187, 0, 1, 89, 26, 183, 0, 199, 176]
abbrev dktJ15_valueOf_1 : List UInt8 := dkwJ15_valueOf_1 ++ []
def dkwJ15_valueOf_0 : List UInt8 := [26, 16, 128, 161, 0, 20, 26, 178, 0, 191, 163, 0, 13, 178, 0, 195, 26, 17, 0, 128, 96, 50, 176]
abbrev dktJ15_valueOf_0 : List UInt8 := dkwJ15_valueOf_0 ++ dktJ15_valueOf_1
theorem dksJ15_valueOf_0 : cJ15_valueOf.data.toList.drop 0 = dktJ15_valueOf_0 := by decide +kernel
theorem dksJ15_valueOf_1 : cJ15_valueOf.data.toList.drop 23 = dktJ15_valueOf_1 := dk_seg dksJ15_valueOf_0 23 rfl rfl
theorem dJ15_valueOf_0 : decode cJ15_valueOf 0 = .ok (.iload_n 0, 1) := dk_26 (dk_at dksJ15_valueOf_0 0 rfl rfl)
theorem dJ15_valueOf_1 : decode cJ15_valueOf 1 = .ok (.bipush (-128), 2) := dk_16 128 (dk_at dksJ15_valueOf_0 1 rfl rfl)
theorem dJ15_valueOf_3 : decode cJ15_valueOf 3 = .ok (.if_icmp .lt 20, 3) := dk_161 0 20 (dk_at dksJ15_valueOf_0 3 rfl rfl)
theorem dJ15_valueOf_6 : decode cJ15_valueOf 6 = .ok (.iload_n 0, 1) := dk_26 (dk_at dksJ15_valueOf_0 6 rfl rfl)
theorem dJ15_valueOf_7 : decode cJ15_valueOf 7 = .ok (.getstatic 191, 3) := dk_178 0 191 (dk_at dksJ15_valueOf_0 7 rfl rfl)
theorem dJ15_valueOf_10 : decode cJ15_valueOf 10 = .ok (.if_icmp .gt 13, 3) := dk_163 0 13 (dk_at dksJ15_valueOf_0 10 rfl rfl)
theorem dJ15_valueOf_13 : decode cJ15_valueOf 13 = .ok (.getstatic 195, 3) := dk_178 0 195 (dk_at dksJ15_valueOf_0 13 rfl rfl)
theorem dJ15_valueOf_16 : decode cJ15_valueOf 16 = .ok (.iload_n 0, 1) := dk_26 (dk_at dksJ15_valueOf_0 16 rfl rfl)
theorem dJ15_valueOf_17 : decode cJ15_valueOf 17 = .ok (.sipush 128, 3) := dk_17 0 128 (dk_at dksJ15_valueOf_0 17 rfl rfl)
theorem dJ15_valueOf_20 : decode cJ15_valueOf 20 = .ok (.iadd, 1) := dk_96 (dk_at dksJ15_valueOf_0 20 rfl rfl)
theorem dJ15_valueOf_21 : decode cJ15_valueOf 21 = .ok (.aaload, 1) := dk_50 (dk_at dksJ15_valueOf_0 21 rfl rfl)
theorem dJ15_valueOf_22 : decode cJ15_valueOf 22 = .ok (.areturn, 1) := dk_176 (dk_at dksJ15_valueOf_0 22 rfl rfl)
theorem dJ15_valueOf_23 : decode cJ15_valueOf 23 = .ok (.new 1, 3) := dk_187 0 1 (dk_at dksJ15_valueOf_1 0 rfl rfl)
theorem dJ15_valueOf_26 : decode cJ15_valueOf 26 = .ok (.dup, 1) := dk_89 (dk_at dksJ15_valueOf_1 3 rfl rfl)
theorem dJ15_valueOf_27 : decode cJ15_valueOf 27 = .ok (.iload_n 0, 1) := dk_26 (dk_at dksJ15_valueOf_1 4 rfl rfl)
theorem dJ15_valueOf_28 : decode cJ15_valueOf 28 = .ok (.invokespecial 199, 3) := dk_183 0 199 (dk_at dksJ15_valueOf_1 5 rfl rfl)
theorem dJ15_valueOf_31 : decode cJ15_valueOf 31 = .ok (.areturn, 1) := dk_176 (dk_at dksJ15_valueOf_1 8 rfl rfl)
abbrev cJ15_init : ByteArray := prog_25_method_23_code
def yJ15_init : MethodName := ⟨RJ15, "<init>", "(I)V"⟩
def dkwJ15_init_0 : List UInt8 := [42, 183, 0, 202, 42, 27, 181, 0, 205, 177]
abbrev dktJ15_init_0 : List UInt8 := dkwJ15_init_0 ++ []
theorem dksJ15_init_0 : cJ15_init.data.toList.drop 0 = dktJ15_init_0 := by decide +kernel
theorem dJ15_init_0 : decode cJ15_init 0 = .ok (.aload_n 0, 1) := dk_42 (dk_at dksJ15_init_0 0 rfl rfl)
theorem dJ15_init_1 : decode cJ15_init 1 = .ok (.invokespecial 202, 3) := dk_183 0 202 (dk_at dksJ15_init_0 1 rfl rfl)
theorem dJ15_init_4 : decode cJ15_init 4 = .ok (.aload_n 0, 1) := dk_42 (dk_at dksJ15_init_0 4 rfl rfl)
theorem dJ15_init_5 : decode cJ15_init 5 = .ok (.iload_n 1, 1) := dk_27 (dk_at dksJ15_init_0 5 rfl rfl)
theorem dJ15_init_6 : decode cJ15_init 6 = .ok (.putfield 205, 3) := dk_181 0 205 (dk_at dksJ15_init_0 6 rfl rfl)
theorem dJ15_init_9 : decode cJ15_init 9 = .ok (.return_, 1) := dk_177 (dk_at dksJ15_init_0 9 rfl rfl)
abbrev cJ15_intValue : ByteArray := prog_25_method_27_code
def yJ15_intValue : MethodName := ⟨RJ15, "intValue", "()I"⟩
theorem dJ15_intValue_0 : decode cJ15_intValue 0 = .ok (.aload_n 0, 1) := by decide +kernel
theorem dJ15_intValue_1 : decode cJ15_intValue 1 = .ok (.getfield 205, 3) := by decide +kernel
theorem dJ15_intValue_4 : decode cJ15_intValue 4 = .ok (.ireturn, 1) := by decide +kernel
abbrev cJ15_bitCount : ByteArray := prog_25_method_49_code
def yJ15_bitCount : MethodName := ⟨RJ15, "bitCount", "(I)I"⟩
def dkwJ15_bitCount_2 : List UInt8 := [26, 16, 63, 126, 172]
abbrev dktJ15_bitCount_2 : List UInt8 := dkwJ15_bitCount_2 ++ []
def dkwJ15_bitCount_1 : List UInt8 := [26, 26, 7, 124, 96, 19, 1, 11, 126, 59, 26, 26, 16, 8, 124, 96, 59, 26, 26, 16, 16, 124, 96, 59]
abbrev dktJ15_bitCount_1 : List UInt8 := dkwJ15_bitCount_1 ++ dktJ15_bitCount_2
def dkwJ15_bitCount_0 : List UInt8 := [26, 26, 4, 124, 19, 1, 9, 126, 100, 59, 26, 19, 1, 10, 126, 26, 5, 124, 19, 1, 10, 126, 96, 59]
abbrev dktJ15_bitCount_0 : List UInt8 := dkwJ15_bitCount_0 ++ dktJ15_bitCount_1
theorem dksJ15_bitCount_0 : cJ15_bitCount.data.toList.drop 0 = dktJ15_bitCount_0 := by decide +kernel
theorem dksJ15_bitCount_1 : cJ15_bitCount.data.toList.drop 24 = dktJ15_bitCount_1 := dk_seg dksJ15_bitCount_0 24 rfl rfl
theorem dksJ15_bitCount_2 : cJ15_bitCount.data.toList.drop 48 = dktJ15_bitCount_2 := dk_seg dksJ15_bitCount_1 24 rfl rfl
theorem dJ15_bitCount_0 : decode cJ15_bitCount 0 = .ok (.iload_n 0, 1) := dk_26 (dk_at dksJ15_bitCount_0 0 rfl rfl)
theorem dJ15_bitCount_1 : decode cJ15_bitCount 1 = .ok (.iload_n 0, 1) := dk_26 (dk_at dksJ15_bitCount_0 1 rfl rfl)
theorem dJ15_bitCount_2 : decode cJ15_bitCount 2 = .ok (.iconst 1, 1) := dk_4 (dk_at dksJ15_bitCount_0 2 rfl rfl)
theorem dJ15_bitCount_3 : decode cJ15_bitCount 3 = .ok (.iushr, 1) := dk_124 (dk_at dksJ15_bitCount_0 3 rfl rfl)
theorem dJ15_bitCount_4 : decode cJ15_bitCount 4 = .ok (.ldc_w 265, 3) := dk_19 1 9 (dk_at dksJ15_bitCount_0 4 rfl rfl)
theorem dJ15_bitCount_7 : decode cJ15_bitCount 7 = .ok (.iand, 1) := dk_126 (dk_at dksJ15_bitCount_0 7 rfl rfl)
theorem dJ15_bitCount_8 : decode cJ15_bitCount 8 = .ok (.isub, 1) := dk_100 (dk_at dksJ15_bitCount_0 8 rfl rfl)
theorem dJ15_bitCount_9 : decode cJ15_bitCount 9 = .ok (.istore_n 0, 1) := dk_59 (dk_at dksJ15_bitCount_0 9 rfl rfl)
theorem dJ15_bitCount_10 : decode cJ15_bitCount 10 = .ok (.iload_n 0, 1) := dk_26 (dk_at dksJ15_bitCount_0 10 rfl rfl)
theorem dJ15_bitCount_11 : decode cJ15_bitCount 11 = .ok (.ldc_w 266, 3) := dk_19 1 10 (dk_at dksJ15_bitCount_0 11 rfl rfl)
theorem dJ15_bitCount_14 : decode cJ15_bitCount 14 = .ok (.iand, 1) := dk_126 (dk_at dksJ15_bitCount_0 14 rfl rfl)
theorem dJ15_bitCount_15 : decode cJ15_bitCount 15 = .ok (.iload_n 0, 1) := dk_26 (dk_at dksJ15_bitCount_0 15 rfl rfl)
theorem dJ15_bitCount_16 : decode cJ15_bitCount 16 = .ok (.iconst 2, 1) := dk_5 (dk_at dksJ15_bitCount_0 16 rfl rfl)
theorem dJ15_bitCount_17 : decode cJ15_bitCount 17 = .ok (.iushr, 1) := dk_124 (dk_at dksJ15_bitCount_0 17 rfl rfl)
theorem dJ15_bitCount_18 : decode cJ15_bitCount 18 = .ok (.ldc_w 266, 3) := dk_19 1 10 (dk_at dksJ15_bitCount_0 18 rfl rfl)
theorem dJ15_bitCount_21 : decode cJ15_bitCount 21 = .ok (.iand, 1) := dk_126 (dk_at dksJ15_bitCount_0 21 rfl rfl)
theorem dJ15_bitCount_22 : decode cJ15_bitCount 22 = .ok (.iadd, 1) := dk_96 (dk_at dksJ15_bitCount_0 22 rfl rfl)
theorem dJ15_bitCount_23 : decode cJ15_bitCount 23 = .ok (.istore_n 0, 1) := dk_59 (dk_at dksJ15_bitCount_0 23 rfl rfl)
theorem dJ15_bitCount_24 : decode cJ15_bitCount 24 = .ok (.iload_n 0, 1) := dk_26 (dk_at dksJ15_bitCount_1 0 rfl rfl)
theorem dJ15_bitCount_25 : decode cJ15_bitCount 25 = .ok (.iload_n 0, 1) := dk_26 (dk_at dksJ15_bitCount_1 1 rfl rfl)
theorem dJ15_bitCount_26 : decode cJ15_bitCount 26 = .ok (.iconst 4, 1) := dk_7 (dk_at dksJ15_bitCount_1 2 rfl rfl)
theorem dJ15_bitCount_27 : decode cJ15_bitCount 27 = .ok (.iushr, 1) := dk_124 (dk_at dksJ15_bitCount_1 3 rfl rfl)
theorem dJ15_bitCount_28 : decode cJ15_bitCount 28 = .ok (.iadd, 1) := dk_96 (dk_at dksJ15_bitCount_1 4 rfl rfl)
theorem dJ15_bitCount_29 : decode cJ15_bitCount 29 = .ok (.ldc_w 267, 3) := dk_19 1 11 (dk_at dksJ15_bitCount_1 5 rfl rfl)
theorem dJ15_bitCount_32 : decode cJ15_bitCount 32 = .ok (.iand, 1) := dk_126 (dk_at dksJ15_bitCount_1 8 rfl rfl)
theorem dJ15_bitCount_33 : decode cJ15_bitCount 33 = .ok (.istore_n 0, 1) := dk_59 (dk_at dksJ15_bitCount_1 9 rfl rfl)
theorem dJ15_bitCount_34 : decode cJ15_bitCount 34 = .ok (.iload_n 0, 1) := dk_26 (dk_at dksJ15_bitCount_1 10 rfl rfl)
theorem dJ15_bitCount_35 : decode cJ15_bitCount 35 = .ok (.iload_n 0, 1) := dk_26 (dk_at dksJ15_bitCount_1 11 rfl rfl)
theorem dJ15_bitCount_36 : decode cJ15_bitCount 36 = .ok (.bipush 8, 2) := dk_16 8 (dk_at dksJ15_bitCount_1 12 rfl rfl)
theorem dJ15_bitCount_38 : decode cJ15_bitCount 38 = .ok (.iushr, 1) := dk_124 (dk_at dksJ15_bitCount_1 14 rfl rfl)
theorem dJ15_bitCount_39 : decode cJ15_bitCount 39 = .ok (.iadd, 1) := dk_96 (dk_at dksJ15_bitCount_1 15 rfl rfl)
theorem dJ15_bitCount_40 : decode cJ15_bitCount 40 = .ok (.istore_n 0, 1) := dk_59 (dk_at dksJ15_bitCount_1 16 rfl rfl)
theorem dJ15_bitCount_41 : decode cJ15_bitCount 41 = .ok (.iload_n 0, 1) := dk_26 (dk_at dksJ15_bitCount_1 17 rfl rfl)
theorem dJ15_bitCount_42 : decode cJ15_bitCount 42 = .ok (.iload_n 0, 1) := dk_26 (dk_at dksJ15_bitCount_1 18 rfl rfl)
theorem dJ15_bitCount_43 : decode cJ15_bitCount 43 = .ok (.bipush 16, 2) := dk_16 16 (dk_at dksJ15_bitCount_1 19 rfl rfl)
theorem dJ15_bitCount_45 : decode cJ15_bitCount 45 = .ok (.iushr, 1) := dk_124 (dk_at dksJ15_bitCount_1 21 rfl rfl)
theorem dJ15_bitCount_46 : decode cJ15_bitCount 46 = .ok (.iadd, 1) := dk_96 (dk_at dksJ15_bitCount_1 22 rfl rfl)
theorem dJ15_bitCount_47 : decode cJ15_bitCount 47 = .ok (.istore_n 0, 1) := dk_59 (dk_at dksJ15_bitCount_1 23 rfl rfl)
theorem dJ15_bitCount_48 : decode cJ15_bitCount 48 = .ok (.iload_n 0, 1) := dk_26 (dk_at dksJ15_bitCount_2 0 rfl rfl)
theorem dJ15_bitCount_49 : decode cJ15_bitCount 49 = .ok (.bipush 63, 2) := dk_16 63 (dk_at dksJ15_bitCount_2 1 rfl rfl)
theorem dJ15_bitCount_51 : decode cJ15_bitCount 51 = .ok (.iand, 1) := dk_126 (dk_at dksJ15_bitCount_2 3 rfl rfl)
theorem dJ15_bitCount_52 : decode cJ15_bitCount 52 = .ok (.ireturn, 1) := dk_172 (dk_at dksJ15_bitCount_2 4 rfl rfl)
abbrev cJ15_numberOfTrailingZeros : ByteArray := prog_25_method_48_code
def yJ15_numberOfTrailingZeros : MethodName := ⟨RJ15, "numberOfTrailingZeros", "(I)I"⟩
def dkwJ15_numberOfTrailingZeros_3 : List UInt8 := [5, 124, 59, 27, 26, 4, 124, 96, 172]
abbrev dktJ15_numberOfTrailingZeros_3 : List UInt8 := dkwJ15_numberOfTrailingZeros_3 ++ []
def dkwJ15_numberOfTrailingZeros_2 : List UInt8 := [124, 59, 26, 16, 16, 164, 0, 10, 132, 1, 4, 26, 7, 124, 59, 26, 7, 164, 0, 10, 132, 1, 2, 26]
abbrev dktJ15_numberOfTrailingZeros_2 : List UInt8 := dkwJ15_numberOfTrailingZeros_2 ++ dktJ15_numberOfTrailingZeros_3
def dkwJ15_numberOfTrailingZeros_1 : List UInt8 := [164, 0, 11, 132, 1, 16, 26, 16, 16, 124, 59, 26, 17, 1, 0, 164, 0, 11, 132, 1, 8, 26, 16, 8]
abbrev dktJ15_numberOfTrailingZeros_1 : List UInt8 := dkwJ15_numberOfTrailingZeros_1 ++ dktJ15_numberOfTrailingZeros_2
def dkwJ15_numberOfTrailingZeros_0 : List UInt8 := [26, 2, 130, 26, 4, 100, 126, 59, 26, 157, 0, 8, 26, 16, 32, 126, 172, 4, 60, 26, 19, 1, 8]
abbrev dktJ15_numberOfTrailingZeros_0 : List UInt8 := dkwJ15_numberOfTrailingZeros_0 ++ dktJ15_numberOfTrailingZeros_1
theorem dksJ15_numberOfTrailingZeros_0 : cJ15_numberOfTrailingZeros.data.toList.drop 0 = dktJ15_numberOfTrailingZeros_0 := by decide +kernel
theorem dksJ15_numberOfTrailingZeros_1 : cJ15_numberOfTrailingZeros.data.toList.drop 23 = dktJ15_numberOfTrailingZeros_1 := dk_seg dksJ15_numberOfTrailingZeros_0 23 rfl rfl
theorem dksJ15_numberOfTrailingZeros_2 : cJ15_numberOfTrailingZeros.data.toList.drop 47 = dktJ15_numberOfTrailingZeros_2 := dk_seg dksJ15_numberOfTrailingZeros_1 24 rfl rfl
theorem dksJ15_numberOfTrailingZeros_3 : cJ15_numberOfTrailingZeros.data.toList.drop 71 = dktJ15_numberOfTrailingZeros_3 := dk_seg dksJ15_numberOfTrailingZeros_2 24 rfl rfl
theorem dJ15_numberOfTrailingZeros_0 : decode cJ15_numberOfTrailingZeros 0 = .ok (.iload_n 0, 1) := dk_26 (dk_at dksJ15_numberOfTrailingZeros_0 0 rfl rfl)
theorem dJ15_numberOfTrailingZeros_1 : decode cJ15_numberOfTrailingZeros 1 = .ok (.iconst (-1), 1) := dk_2 (dk_at dksJ15_numberOfTrailingZeros_0 1 rfl rfl)
theorem dJ15_numberOfTrailingZeros_2 : decode cJ15_numberOfTrailingZeros 2 = .ok (.ixor, 1) := dk_130 (dk_at dksJ15_numberOfTrailingZeros_0 2 rfl rfl)
theorem dJ15_numberOfTrailingZeros_3 : decode cJ15_numberOfTrailingZeros 3 = .ok (.iload_n 0, 1) := dk_26 (dk_at dksJ15_numberOfTrailingZeros_0 3 rfl rfl)
theorem dJ15_numberOfTrailingZeros_4 : decode cJ15_numberOfTrailingZeros 4 = .ok (.iconst 1, 1) := dk_4 (dk_at dksJ15_numberOfTrailingZeros_0 4 rfl rfl)
theorem dJ15_numberOfTrailingZeros_5 : decode cJ15_numberOfTrailingZeros 5 = .ok (.isub, 1) := dk_100 (dk_at dksJ15_numberOfTrailingZeros_0 5 rfl rfl)
theorem dJ15_numberOfTrailingZeros_6 : decode cJ15_numberOfTrailingZeros 6 = .ok (.iand, 1) := dk_126 (dk_at dksJ15_numberOfTrailingZeros_0 6 rfl rfl)
theorem dJ15_numberOfTrailingZeros_7 : decode cJ15_numberOfTrailingZeros 7 = .ok (.istore_n 0, 1) := dk_59 (dk_at dksJ15_numberOfTrailingZeros_0 7 rfl rfl)
theorem dJ15_numberOfTrailingZeros_8 : decode cJ15_numberOfTrailingZeros 8 = .ok (.iload_n 0, 1) := dk_26 (dk_at dksJ15_numberOfTrailingZeros_0 8 rfl rfl)
theorem dJ15_numberOfTrailingZeros_9 : decode cJ15_numberOfTrailingZeros 9 = .ok (.ifCond .gt 8, 3) := dk_157 0 8 (dk_at dksJ15_numberOfTrailingZeros_0 9 rfl rfl)
theorem dJ15_numberOfTrailingZeros_12 : decode cJ15_numberOfTrailingZeros 12 = .ok (.iload_n 0, 1) := dk_26 (dk_at dksJ15_numberOfTrailingZeros_0 12 rfl rfl)
theorem dJ15_numberOfTrailingZeros_13 : decode cJ15_numberOfTrailingZeros 13 = .ok (.bipush 32, 2) := dk_16 32 (dk_at dksJ15_numberOfTrailingZeros_0 13 rfl rfl)
theorem dJ15_numberOfTrailingZeros_15 : decode cJ15_numberOfTrailingZeros 15 = .ok (.iand, 1) := dk_126 (dk_at dksJ15_numberOfTrailingZeros_0 15 rfl rfl)
theorem dJ15_numberOfTrailingZeros_16 : decode cJ15_numberOfTrailingZeros 16 = .ok (.ireturn, 1) := dk_172 (dk_at dksJ15_numberOfTrailingZeros_0 16 rfl rfl)
theorem dJ15_numberOfTrailingZeros_17 : decode cJ15_numberOfTrailingZeros 17 = .ok (.iconst 1, 1) := dk_4 (dk_at dksJ15_numberOfTrailingZeros_0 17 rfl rfl)
theorem dJ15_numberOfTrailingZeros_18 : decode cJ15_numberOfTrailingZeros 18 = .ok (.istore_n 1, 1) := dk_60 (dk_at dksJ15_numberOfTrailingZeros_0 18 rfl rfl)
theorem dJ15_numberOfTrailingZeros_19 : decode cJ15_numberOfTrailingZeros 19 = .ok (.iload_n 0, 1) := dk_26 (dk_at dksJ15_numberOfTrailingZeros_0 19 rfl rfl)
theorem dJ15_numberOfTrailingZeros_20 : decode cJ15_numberOfTrailingZeros 20 = .ok (.ldc_w 264, 3) := dk_19 1 8 (dk_at dksJ15_numberOfTrailingZeros_0 20 rfl rfl)
theorem dJ15_numberOfTrailingZeros_23 : decode cJ15_numberOfTrailingZeros 23 = .ok (.if_icmp .le 11, 3) := dk_164 0 11 (dk_at dksJ15_numberOfTrailingZeros_1 0 rfl rfl)
theorem dJ15_numberOfTrailingZeros_26 : decode cJ15_numberOfTrailingZeros 26 = .ok (.iinc 1 16, 3) := dk_132 1 16 (dk_at dksJ15_numberOfTrailingZeros_1 3 rfl rfl)
theorem dJ15_numberOfTrailingZeros_29 : decode cJ15_numberOfTrailingZeros 29 = .ok (.iload_n 0, 1) := dk_26 (dk_at dksJ15_numberOfTrailingZeros_1 6 rfl rfl)
theorem dJ15_numberOfTrailingZeros_30 : decode cJ15_numberOfTrailingZeros 30 = .ok (.bipush 16, 2) := dk_16 16 (dk_at dksJ15_numberOfTrailingZeros_1 7 rfl rfl)
theorem dJ15_numberOfTrailingZeros_32 : decode cJ15_numberOfTrailingZeros 32 = .ok (.iushr, 1) := dk_124 (dk_at dksJ15_numberOfTrailingZeros_1 9 rfl rfl)
theorem dJ15_numberOfTrailingZeros_33 : decode cJ15_numberOfTrailingZeros 33 = .ok (.istore_n 0, 1) := dk_59 (dk_at dksJ15_numberOfTrailingZeros_1 10 rfl rfl)
theorem dJ15_numberOfTrailingZeros_34 : decode cJ15_numberOfTrailingZeros 34 = .ok (.iload_n 0, 1) := dk_26 (dk_at dksJ15_numberOfTrailingZeros_1 11 rfl rfl)
theorem dJ15_numberOfTrailingZeros_35 : decode cJ15_numberOfTrailingZeros 35 = .ok (.sipush 256, 3) := dk_17 1 0 (dk_at dksJ15_numberOfTrailingZeros_1 12 rfl rfl)
theorem dJ15_numberOfTrailingZeros_38 : decode cJ15_numberOfTrailingZeros 38 = .ok (.if_icmp .le 11, 3) := dk_164 0 11 (dk_at dksJ15_numberOfTrailingZeros_1 15 rfl rfl)
theorem dJ15_numberOfTrailingZeros_41 : decode cJ15_numberOfTrailingZeros 41 = .ok (.iinc 1 8, 3) := dk_132 1 8 (dk_at dksJ15_numberOfTrailingZeros_1 18 rfl rfl)
theorem dJ15_numberOfTrailingZeros_44 : decode cJ15_numberOfTrailingZeros 44 = .ok (.iload_n 0, 1) := dk_26 (dk_at dksJ15_numberOfTrailingZeros_1 21 rfl rfl)
theorem dJ15_numberOfTrailingZeros_45 : decode cJ15_numberOfTrailingZeros 45 = .ok (.bipush 8, 2) := dk_16 8 (dk_at dksJ15_numberOfTrailingZeros_1 22 rfl rfl)
theorem dJ15_numberOfTrailingZeros_47 : decode cJ15_numberOfTrailingZeros 47 = .ok (.iushr, 1) := dk_124 (dk_at dksJ15_numberOfTrailingZeros_2 0 rfl rfl)
theorem dJ15_numberOfTrailingZeros_48 : decode cJ15_numberOfTrailingZeros 48 = .ok (.istore_n 0, 1) := dk_59 (dk_at dksJ15_numberOfTrailingZeros_2 1 rfl rfl)
theorem dJ15_numberOfTrailingZeros_49 : decode cJ15_numberOfTrailingZeros 49 = .ok (.iload_n 0, 1) := dk_26 (dk_at dksJ15_numberOfTrailingZeros_2 2 rfl rfl)
theorem dJ15_numberOfTrailingZeros_50 : decode cJ15_numberOfTrailingZeros 50 = .ok (.bipush 16, 2) := dk_16 16 (dk_at dksJ15_numberOfTrailingZeros_2 3 rfl rfl)
theorem dJ15_numberOfTrailingZeros_52 : decode cJ15_numberOfTrailingZeros 52 = .ok (.if_icmp .le 10, 3) := dk_164 0 10 (dk_at dksJ15_numberOfTrailingZeros_2 5 rfl rfl)
theorem dJ15_numberOfTrailingZeros_55 : decode cJ15_numberOfTrailingZeros 55 = .ok (.iinc 1 4, 3) := dk_132 1 4 (dk_at dksJ15_numberOfTrailingZeros_2 8 rfl rfl)
theorem dJ15_numberOfTrailingZeros_58 : decode cJ15_numberOfTrailingZeros 58 = .ok (.iload_n 0, 1) := dk_26 (dk_at dksJ15_numberOfTrailingZeros_2 11 rfl rfl)
theorem dJ15_numberOfTrailingZeros_59 : decode cJ15_numberOfTrailingZeros 59 = .ok (.iconst 4, 1) := dk_7 (dk_at dksJ15_numberOfTrailingZeros_2 12 rfl rfl)
theorem dJ15_numberOfTrailingZeros_60 : decode cJ15_numberOfTrailingZeros 60 = .ok (.iushr, 1) := dk_124 (dk_at dksJ15_numberOfTrailingZeros_2 13 rfl rfl)
theorem dJ15_numberOfTrailingZeros_61 : decode cJ15_numberOfTrailingZeros 61 = .ok (.istore_n 0, 1) := dk_59 (dk_at dksJ15_numberOfTrailingZeros_2 14 rfl rfl)
theorem dJ15_numberOfTrailingZeros_62 : decode cJ15_numberOfTrailingZeros 62 = .ok (.iload_n 0, 1) := dk_26 (dk_at dksJ15_numberOfTrailingZeros_2 15 rfl rfl)
theorem dJ15_numberOfTrailingZeros_63 : decode cJ15_numberOfTrailingZeros 63 = .ok (.iconst 4, 1) := dk_7 (dk_at dksJ15_numberOfTrailingZeros_2 16 rfl rfl)
theorem dJ15_numberOfTrailingZeros_64 : decode cJ15_numberOfTrailingZeros 64 = .ok (.if_icmp .le 10, 3) := dk_164 0 10 (dk_at dksJ15_numberOfTrailingZeros_2 17 rfl rfl)
theorem dJ15_numberOfTrailingZeros_67 : decode cJ15_numberOfTrailingZeros 67 = .ok (.iinc 1 2, 3) := dk_132 1 2 (dk_at dksJ15_numberOfTrailingZeros_2 20 rfl rfl)
theorem dJ15_numberOfTrailingZeros_70 : decode cJ15_numberOfTrailingZeros 70 = .ok (.iload_n 0, 1) := dk_26 (dk_at dksJ15_numberOfTrailingZeros_2 23 rfl rfl)
theorem dJ15_numberOfTrailingZeros_71 : decode cJ15_numberOfTrailingZeros 71 = .ok (.iconst 2, 1) := dk_5 (dk_at dksJ15_numberOfTrailingZeros_3 0 rfl rfl)
theorem dJ15_numberOfTrailingZeros_72 : decode cJ15_numberOfTrailingZeros 72 = .ok (.iushr, 1) := dk_124 (dk_at dksJ15_numberOfTrailingZeros_3 1 rfl rfl)
theorem dJ15_numberOfTrailingZeros_73 : decode cJ15_numberOfTrailingZeros 73 = .ok (.istore_n 0, 1) := dk_59 (dk_at dksJ15_numberOfTrailingZeros_3 2 rfl rfl)
theorem dJ15_numberOfTrailingZeros_74 : decode cJ15_numberOfTrailingZeros 74 = .ok (.iload_n 1, 1) := dk_27 (dk_at dksJ15_numberOfTrailingZeros_3 3 rfl rfl)
theorem dJ15_numberOfTrailingZeros_75 : decode cJ15_numberOfTrailingZeros 75 = .ok (.iload_n 0, 1) := dk_26 (dk_at dksJ15_numberOfTrailingZeros_3 4 rfl rfl)
theorem dJ15_numberOfTrailingZeros_76 : decode cJ15_numberOfTrailingZeros 76 = .ok (.iconst 1, 1) := dk_4 (dk_at dksJ15_numberOfTrailingZeros_3 5 rfl rfl)
theorem dJ15_numberOfTrailingZeros_77 : decode cJ15_numberOfTrailingZeros 77 = .ok (.iushr, 1) := dk_124 (dk_at dksJ15_numberOfTrailingZeros_3 6 rfl rfl)
theorem dJ15_numberOfTrailingZeros_78 : decode cJ15_numberOfTrailingZeros 78 = .ok (.iadd, 1) := dk_96 (dk_at dksJ15_numberOfTrailingZeros_3 7 rfl rfl)
theorem dJ15_numberOfTrailingZeros_79 : decode cJ15_numberOfTrailingZeros 79 = .ok (.ireturn, 1) := dk_172 (dk_at dksJ15_numberOfTrailingZeros_3 8 rfl rfl)
theorem q155 : (Jvm.Cond.initialized "java/lang/Integer") ∈ lw_all := lw_g (lw_at lw_m1 32 rfl) rfl
theorem q678 : (Jvm.Cond.selects "java/lang/Integer" ({ cls := "java/lang/Object", name := "getClass", desc := "()Ljava/lang/Class;" } : Jvm.MethodName) ({ cls := "java/lang/Object", name := "getClass", desc := "()Ljava/lang/Class;" } : Jvm.MethodName)) ∈ lw_all := lw_g (lw_at lw_m3 75 rfl) rfl
theorem q809 : (Jvm.Cond.static ({ cls := "java/lang/Integer", name := "valueOf", desc := "(I)Ljava/lang/Integer;" } : Jvm.MethodName)) ∈ lw_all := lw_g (lw_at lw_m3 206 rfl) rfl
theorem q810 : (Jvm.Cond.code ({ cls := "java/lang/Integer", name := "valueOf", desc := "(I)Ljava/lang/Integer;" } : Jvm.MethodName) prog_25_method_22_code (1 : Nat) (Option.some (Jvm.ClassFile.FieldType.object "java/lang/Integer"))) ∈ lw_all := lw_g (lw_at lw_m3 207 rfl) rfl
theorem q811 : (Jvm.Cond.fieldLink "java/lang/Integer" (191 : Nat) "java/lang/Integer$IntegerCache" "high" "I") ∈ lw_all := lw_g (lw_at lw_m3 208 rfl) rfl
theorem q813 : (Jvm.Cond.fieldLink "java/lang/Integer" (195 : Nat) "java/lang/Integer$IntegerCache" "cache" "[Ljava/lang/Integer;") ∈ lw_all := lw_g (lw_at lw_m3 210 rfl) rfl
theorem q815 : (Jvm.Cond.classLink "java/lang/Integer" (1 : Nat) "java/lang/Integer") ∈ lw_all := lw_g (lw_at lw_m3 212 rfl) rfl
theorem q816 : (Jvm.Cond.instantiable "java/lang/Integer" (1 : Nat)) ∈ lw_all := lw_g (lw_at lw_m3 213 rfl) rfl
theorem q817 : (Jvm.Cond.methodLink "java/lang/Integer" (199 : Nat) ({ cls := "java/lang/Integer", name := "<init>", desc := "(I)V" } : Jvm.MethodName)) ∈ lw_all := lw_g (lw_at lw_m3 214 rfl) rfl
theorem q818 : (Jvm.Cond.instanceMethod ({ cls := "java/lang/Integer", name := "<init>", desc := "(I)V" } : Jvm.MethodName)) ∈ lw_all := lw_g (lw_at lw_m3 215 rfl) rfl
theorem q819 : (Jvm.Cond.code ({ cls := "java/lang/Integer", name := "<init>", desc := "(I)V" } : Jvm.MethodName) prog_25_method_23_code (2 : Nat) (Option.none : Option Jvm.ClassFile.FieldType)) ∈ lw_all := lw_g (lw_at lw_m3 216 rfl) rfl
theorem q820 : (Jvm.Cond.methodLink "java/lang/Integer" (202 : Nat) ({ cls := "java/lang/Number", name := "<init>", desc := "()V" } : Jvm.MethodName)) ∈ lw_all := lw_g (lw_at lw_m3 217 rfl) rfl
theorem q824 : (Jvm.Cond.fieldLink "java/lang/Integer" (205 : Nat) "java/lang/Integer" "value" "I") ∈ lw_all := lw_g (lw_at lw_m3 221 rfl) rfl
theorem q825 : (Jvm.Cond.laysFinal "java/lang/Integer" "java/lang/Integer" "value" "I") ∈ lw_all := lw_g (lw_at lw_m3 222 rfl) rfl
theorem q826 : (Jvm.Cond.soleField "java/lang/Integer" "value") ∈ lw_all := lw_g (lw_at lw_m3 223 rfl) rfl
theorem q827 : (Jvm.Cond.superclass "java/lang/Integer" "java/lang/Number") ∈ lw_all := lw_g (lw_at lw_m3 224 rfl) rfl
theorem q987 : (Jvm.Cond.instanceMethod ({ cls := "java/lang/Integer", name := "intValue", desc := "()I" } : Jvm.MethodName)) ∈ lw_all := lw_g (lw_at lw_m4 144 rfl) rfl
theorem q988 : (Jvm.Cond.selects "java/lang/Integer" ({ cls := "java/lang/Integer", name := "intValue", desc := "()I" } : Jvm.MethodName) ({ cls := "java/lang/Integer", name := "intValue", desc := "()I" } : Jvm.MethodName)) ∈ lw_all := lw_g (lw_at lw_m4 145 rfl) rfl
theorem q989 : (Jvm.Cond.code ({ cls := "java/lang/Integer", name := "intValue", desc := "()I" } : Jvm.MethodName) prog_25_method_27_code (1 : Nat) (Option.some Jvm.ClassFile.FieldType.int)) ∈ lw_all := lw_g (lw_at lw_m4 146 rfl) rfl
theorem q1134 : (Jvm.Cond.static ({ cls := "java/lang/Integer", name := "bitCount", desc := "(I)I" } : Jvm.MethodName)) ∈ lw_all := lw_g (lw_at lw_m5 51 rfl) rfl
theorem q1135 : (Jvm.Cond.code ({ cls := "java/lang/Integer", name := "bitCount", desc := "(I)I" } : Jvm.MethodName) prog_25_method_49_code (1 : Nat) (Option.some Jvm.ClassFile.FieldType.int)) ∈ lw_all := lw_g (lw_at lw_m5 52 rfl) rfl
theorem q1136 : (Jvm.Cond.constant "java/lang/Integer" (265 : Nat) (1431655765 : Int32)) ∈ lw_all := lw_g (lw_at lw_m5 53 rfl) rfl
theorem q1137 : (Jvm.Cond.constant "java/lang/Integer" (266 : Nat) (858993459 : Int32)) ∈ lw_all := lw_g (lw_at lw_m5 54 rfl) rfl
theorem q1138 : (Jvm.Cond.constant "java/lang/Integer" (267 : Nat) (252645135 : Int32)) ∈ lw_all := lw_g (lw_at lw_m5 55 rfl) rfl
theorem q1268 : (Jvm.Cond.static ({ cls := "java/lang/Integer", name := "numberOfTrailingZeros", desc := "(I)I" } : Jvm.MethodName)) ∈ lw_all := lw_g (lw_at lw_m5 185 rfl) rfl
theorem q1269 : (Jvm.Cond.code ({ cls := "java/lang/Integer", name := "numberOfTrailingZeros", desc := "(I)I" } : Jvm.MethodName) prog_25_method_48_code (2 : Nat) (Option.some Jvm.ClassFile.FieldType.int)) ∈ lw_all := lw_g (lw_at lw_m5 186 rfl) rfl
theorem q1270 : (Jvm.Cond.constant "java/lang/Integer" (264 : Nat) (65536 : Int32)) ∈ lw_all := lw_g (lw_at lw_m5 187 rfl) rfl
theorem q2063 : (Jvm.Cond.castable "java/lang/Integer" "java/lang/Object") ∈ lw_tbl := lw_at lw_m9 20 rfl
theorem in_J15 : ∀ w ∈ wsJ150, w ∈ lw_all := lw_in wsJ150 [825] (by decide +kernel) (by decide +kernel)

/-! java/lang/Object -/
set_option maxRecDepth 100000
def RJ16 : String := "java/lang/Object"
abbrev cJ16_init : ByteArray := object_method_1_code
def yJ16_init : MethodName := ⟨RJ16, "<init>", "()V"⟩
theorem dJ16_init_0 : decode cJ16_init 0 = .ok (.return_, 1) := by decide +kernel
theorem q164 : (Jvm.Cond.instanceMethod ({ cls := "java/lang/Object", name := "<init>", desc := "()V" } : Jvm.MethodName)) ∈ lw_all := lw_g (lw_at lw_m1 41 rfl) rfl
theorem q165 : (Jvm.Cond.code ({ cls := "java/lang/Object", name := "<init>", desc := "()V" } : Jvm.MethodName) object_method_1_code (1 : Nat) (Option.none : Option Jvm.ClassFile.FieldType)) ∈ lw_all := lw_g (lw_at lw_m1 42 rfl) rfl
theorem q660 : (Jvm.Cond.instanceMethod ({ cls := "java/lang/Object", name := "getClass", desc := "()Ljava/lang/Class;" } : Jvm.MethodName)) ∈ lw_all := lw_g (lw_at lw_m3 57 rfl) rfl
theorem q661 : (Jvm.Cond.sameMethod "java/lang/Object" "java/lang/Object" "getClass" "()Ljava/lang/Class;") ∈ lw_all := lw_g (lw_at lw_m3 58 rfl) rfl
theorem q680 : (Jvm.Cond.native ({ cls := "java/lang/Object", name := "getClass", desc := "()Ljava/lang/Class;" } : Jvm.MethodName)) ∈ lw_all := lw_g (lw_at lw_m3 77 rfl) rfl
theorem q2044 : (Jvm.Cond.initialized "java/lang/Object") ∈ lw_all := lw_g (lw_at lw_m9 1 rfl) rfl
theorem q2068 : (Jvm.Cond.declares ({ cls := "java/lang/Object", name := "getClass", desc := "()Ljava/lang/Class;" } : Jvm.MethodName)) ∈ lw_tbl := lw_at lw_m9 25 rfl

/-! java/util/AbstractList -/
set_option maxRecDepth 100000
def RJ2 : String := "java/util/AbstractList"
abbrev cJ2_init : ByteArray := prog_39_method_1_code
def yJ2_init : MethodName := ⟨RJ2, "<init>", "()V"⟩
def dkwJ2_init_0 : List UInt8 := [42, 183, 0, 1, 42, 3, 181, 0, 7, 177]
abbrev dktJ2_init_0 : List UInt8 := dkwJ2_init_0 ++ []
theorem dksJ2_init_0 : cJ2_init.data.toList.drop 0 = dktJ2_init_0 := by decide +kernel
theorem dJ2_init_0 : decode cJ2_init 0 = .ok (.aload_n 0, 1) := dk_42 (dk_at dksJ2_init_0 0 rfl rfl)
theorem dJ2_init_1 : decode cJ2_init 1 = .ok (.invokespecial 1, 3) := dk_183 0 1 (dk_at dksJ2_init_0 1 rfl rfl)
theorem dJ2_init_4 : decode cJ2_init 4 = .ok (.aload_n 0, 1) := dk_42 (dk_at dksJ2_init_0 4 rfl rfl)
theorem dJ2_init_5 : decode cJ2_init 5 = .ok (.iconst 0, 1) := dk_3 (dk_at dksJ2_init_0 5 rfl rfl)
theorem dJ2_init_6 : decode cJ2_init 6 = .ok (.putfield 7, 3) := dk_181 0 7 (dk_at dksJ2_init_0 6 rfl rfl)
theorem dJ2_init_9 : decode cJ2_init 9 = .ok (.return_, 1) := dk_177 (dk_at dksJ2_init_0 9 rfl rfl)
theorem q132 : (Jvm.Cond.initialized "java/util/AbstractList") ∈ lw_all := lw_g (lw_at lw_m1 9 rfl) rfl
theorem q376 : (Jvm.Cond.instanceMethod ({ cls := "java/util/AbstractList", name := "<init>", desc := "()V" } : Jvm.MethodName)) ∈ lw_all := lw_g (lw_at lw_m2 13 rfl) rfl
theorem q377 : (Jvm.Cond.code ({ cls := "java/util/AbstractList", name := "<init>", desc := "()V" } : Jvm.MethodName) prog_39_method_1_code (1 : Nat) (Option.none : Option Jvm.ClassFile.FieldType)) ∈ lw_all := lw_g (lw_at lw_m2 14 rfl) rfl
theorem q378 : (Jvm.Cond.methodLink "java/util/AbstractList" (1 : Nat) ({ cls := "java/util/AbstractCollection", name := "<init>", desc := "()V" } : Jvm.MethodName)) ∈ lw_all := lw_g (lw_at lw_m2 15 rfl) rfl
theorem q386 : (Jvm.Cond.fieldLink "java/util/AbstractList" (7 : Nat) "java/util/AbstractList" "modCount" "I") ∈ lw_all := lw_g (lw_at lw_m2 23 rfl) rfl
theorem q394 : (Jvm.Cond.soleField "java/util/AbstractList" "modCount") ∈ lw_all := lw_g (lw_at lw_m2 31 rfl) rfl

/-! java/util/ArrayList -/
set_option maxRecDepth 100000
def RJ3 : String := "java/util/ArrayList"
def TJ3 : u_T := fun k => match k with
  | 0 => ("java/util/AbstractList", "modCount", "I", false)
  | 1 => ("java/util/ArrayList", "elementData", "[Ljava/lang/Object;", false)
  | _ => ("java/util/ArrayList", "size", "I", false)
def tyJ3 : Nat → FieldType := fun k => match k with
  | 0 => .int
  | 1 => .array (.object "java/lang/Object")
  | _ => .int
abbrev wsJ30 : List Cond := u_ws RJ3 TJ3 3
theorem nmJ3 : ∀ a, a < 3 → ∀ b, b < 3 → a ≠ b → (TJ3 a).2.1 ≠ (TJ3 b).2.1 := by decide +kernel
theorem tyJ3_ok : ∀ k, k < 3 → parseFieldDescriptor (TJ3 k).2.2.1 = some (tyJ3 k) := by decide +kernel
abbrev cJ3_init : ByteArray := prog_40_method_2_code
def yJ3_init : MethodName := ⟨RJ3, "<init>", "()V"⟩
def dkwJ3_init_0 : List UInt8 := [42, 183, 0, 1, 42, 178, 0, 39, 181, 0, 9, 177]
abbrev dktJ3_init_0 : List UInt8 := dkwJ3_init_0 ++ []
theorem dksJ3_init_0 : cJ3_init.data.toList.drop 0 = dktJ3_init_0 := by decide +kernel
theorem dJ3_init_0 : decode cJ3_init 0 = .ok (.aload_n 0, 1) := dk_42 (dk_at dksJ3_init_0 0 rfl rfl)
theorem dJ3_init_1 : decode cJ3_init 1 = .ok (.invokespecial 1, 3) := dk_183 0 1 (dk_at dksJ3_init_0 1 rfl rfl)
theorem dJ3_init_4 : decode cJ3_init 4 = .ok (.aload_n 0, 1) := dk_42 (dk_at dksJ3_init_0 4 rfl rfl)
theorem dJ3_init_5 : decode cJ3_init 5 = .ok (.getstatic 39, 3) := dk_178 0 39 (dk_at dksJ3_init_0 5 rfl rfl)
theorem dJ3_init_8 : decode cJ3_init 8 = .ok (.putfield 9, 3) := dk_181 0 9 (dk_at dksJ3_init_0 8 rfl rfl)
theorem dJ3_init_11 : decode cJ3_init 11 = .ok (.return_, 1) := dk_177 (dk_at dksJ3_init_0 11 rfl rfl)
abbrev cJ3_add : ByteArray := prog_40_method_25_code
def yJ3_add : MethodName := ⟨RJ3, "add", "(Ljava/lang/Object;)Z"⟩
def dkwJ3_add_1 : List UInt8 := [172]
abbrev dktJ3_add_1 : List UInt8 := dkwJ3_add_1 ++ []
def dkwJ3_add_0 : List UInt8 := [42, 89, 180, 0, 63, 4, 96, 181, 0, 63, 42, 43, 42, 180, 0, 9, 42, 180, 0, 48, 182, 0, 131, 4]
abbrev dktJ3_add_0 : List UInt8 := dkwJ3_add_0 ++ dktJ3_add_1
theorem dksJ3_add_0 : cJ3_add.data.toList.drop 0 = dktJ3_add_0 := by decide +kernel
theorem dksJ3_add_1 : cJ3_add.data.toList.drop 24 = dktJ3_add_1 := dk_seg dksJ3_add_0 24 rfl rfl
theorem dJ3_add_0 : decode cJ3_add 0 = .ok (.aload_n 0, 1) := dk_42 (dk_at dksJ3_add_0 0 rfl rfl)
theorem dJ3_add_1 : decode cJ3_add 1 = .ok (.dup, 1) := dk_89 (dk_at dksJ3_add_0 1 rfl rfl)
theorem dJ3_add_2 : decode cJ3_add 2 = .ok (.getfield 63, 3) := dk_180 0 63 (dk_at dksJ3_add_0 2 rfl rfl)
theorem dJ3_add_5 : decode cJ3_add 5 = .ok (.iconst 1, 1) := dk_4 (dk_at dksJ3_add_0 5 rfl rfl)
theorem dJ3_add_6 : decode cJ3_add 6 = .ok (.iadd, 1) := dk_96 (dk_at dksJ3_add_0 6 rfl rfl)
theorem dJ3_add_7 : decode cJ3_add 7 = .ok (.putfield 63, 3) := dk_181 0 63 (dk_at dksJ3_add_0 7 rfl rfl)
theorem dJ3_add_10 : decode cJ3_add 10 = .ok (.aload_n 0, 1) := dk_42 (dk_at dksJ3_add_0 10 rfl rfl)
theorem dJ3_add_11 : decode cJ3_add 11 = .ok (.aload_n 1, 1) := dk_43 (dk_at dksJ3_add_0 11 rfl rfl)
theorem dJ3_add_12 : decode cJ3_add 12 = .ok (.aload_n 0, 1) := dk_42 (dk_at dksJ3_add_0 12 rfl rfl)
theorem dJ3_add_13 : decode cJ3_add 13 = .ok (.getfield 9, 3) := dk_180 0 9 (dk_at dksJ3_add_0 13 rfl rfl)
theorem dJ3_add_16 : decode cJ3_add 16 = .ok (.aload_n 0, 1) := dk_42 (dk_at dksJ3_add_0 16 rfl rfl)
theorem dJ3_add_17 : decode cJ3_add 17 = .ok (.getfield 48, 3) := dk_180 0 48 (dk_at dksJ3_add_0 17 rfl rfl)
theorem dJ3_add_20 : decode cJ3_add 20 = .ok (.invokevirtual 131, 3) := dk_182 0 131 (dk_at dksJ3_add_0 20 rfl rfl)
theorem dJ3_add_23 : decode cJ3_add 23 = .ok (.iconst 1, 1) := dk_4 (dk_at dksJ3_add_0 23 rfl rfl)
theorem dJ3_add_24 : decode cJ3_add 24 = .ok (.ireturn, 1) := dk_172 (dk_at dksJ3_add_1 0 rfl rfl)
abbrev cJ3_add_2 : ByteArray := prog_40_method_24_code
def yJ3_add_2 : MethodName := ⟨RJ3, "add", "(Ljava/lang/Object;[Ljava/lang/Object;I)V"⟩
def dkwJ3_add_2_0 : List UInt8 := [29, 44, 190, 160, 0, 8, 42, 182, 0, 129, 77, 44, 29, 43, 83, 42, 29, 4, 96, 181, 0, 48, 177]
abbrev dktJ3_add_2_0 : List UInt8 := dkwJ3_add_2_0 ++ []
theorem dksJ3_add_2_0 : cJ3_add_2.data.toList.drop 0 = dktJ3_add_2_0 := by decide +kernel
theorem dJ3_add_2_0 : decode cJ3_add_2 0 = .ok (.iload_n 3, 1) := dk_29 (dk_at dksJ3_add_2_0 0 rfl rfl)
theorem dJ3_add_2_1 : decode cJ3_add_2 1 = .ok (.aload_n 2, 1) := dk_44 (dk_at dksJ3_add_2_0 1 rfl rfl)
theorem dJ3_add_2_2 : decode cJ3_add_2 2 = .ok (.arraylength, 1) := dk_190 (dk_at dksJ3_add_2_0 2 rfl rfl)
theorem dJ3_add_2_3 : decode cJ3_add_2 3 = .ok (.if_icmp .ne 8, 3) := dk_160 0 8 (dk_at dksJ3_add_2_0 3 rfl rfl)
theorem dJ3_add_2_6 : decode cJ3_add_2 6 = .ok (.aload_n 0, 1) := dk_42 (dk_at dksJ3_add_2_0 6 rfl rfl)
theorem dJ3_add_2_7 : decode cJ3_add_2 7 = .ok (.invokevirtual 129, 3) := dk_182 0 129 (dk_at dksJ3_add_2_0 7 rfl rfl)
theorem dJ3_add_2_10 : decode cJ3_add_2 10 = .ok (.astore_n 2, 1) := dk_77 (dk_at dksJ3_add_2_0 10 rfl rfl)
theorem dJ3_add_2_11 : decode cJ3_add_2 11 = .ok (.aload_n 2, 1) := dk_44 (dk_at dksJ3_add_2_0 11 rfl rfl)
theorem dJ3_add_2_12 : decode cJ3_add_2 12 = .ok (.iload_n 3, 1) := dk_29 (dk_at dksJ3_add_2_0 12 rfl rfl)
theorem dJ3_add_2_13 : decode cJ3_add_2 13 = .ok (.aload_n 1, 1) := dk_43 (dk_at dksJ3_add_2_0 13 rfl rfl)
theorem dJ3_add_2_14 : decode cJ3_add_2 14 = .ok (.aastore, 1) := dk_83 (dk_at dksJ3_add_2_0 14 rfl rfl)
theorem dJ3_add_2_15 : decode cJ3_add_2 15 = .ok (.aload_n 0, 1) := dk_42 (dk_at dksJ3_add_2_0 15 rfl rfl)
theorem dJ3_add_2_16 : decode cJ3_add_2 16 = .ok (.iload_n 3, 1) := dk_29 (dk_at dksJ3_add_2_0 16 rfl rfl)
theorem dJ3_add_2_17 : decode cJ3_add_2 17 = .ok (.iconst 1, 1) := dk_4 (dk_at dksJ3_add_2_0 17 rfl rfl)
theorem dJ3_add_2_18 : decode cJ3_add_2 18 = .ok (.iadd, 1) := dk_96 (dk_at dksJ3_add_2_0 18 rfl rfl)
theorem dJ3_add_2_19 : decode cJ3_add_2 19 = .ok (.putfield 48, 3) := dk_181 0 48 (dk_at dksJ3_add_2_0 19 rfl rfl)
theorem dJ3_add_2_22 : decode cJ3_add_2 22 = .ok (.return_, 1) := dk_177 (dk_at dksJ3_add_2_0 22 rfl rfl)
abbrev cJ3_grow : ByteArray := prog_40_method_7_code
def yJ3_grow : MethodName := ⟨RJ3, "grow", "()[Ljava/lang/Object;"⟩
def dkwJ3_grow_0 : List UInt8 := [42, 42, 180, 0, 48, 4, 96, 182, 0, 69, 176]
abbrev dktJ3_grow_0 : List UInt8 := dkwJ3_grow_0 ++ []
theorem dksJ3_grow_0 : cJ3_grow.data.toList.drop 0 = dktJ3_grow_0 := by decide +kernel
theorem dJ3_grow_0 : decode cJ3_grow 0 = .ok (.aload_n 0, 1) := dk_42 (dk_at dksJ3_grow_0 0 rfl rfl)
theorem dJ3_grow_1 : decode cJ3_grow 1 = .ok (.aload_n 0, 1) := dk_42 (dk_at dksJ3_grow_0 1 rfl rfl)
theorem dJ3_grow_2 : decode cJ3_grow 2 = .ok (.getfield 48, 3) := dk_180 0 48 (dk_at dksJ3_grow_0 2 rfl rfl)
theorem dJ3_grow_5 : decode cJ3_grow 5 = .ok (.iconst 1, 1) := dk_4 (dk_at dksJ3_grow_0 5 rfl rfl)
theorem dJ3_grow_6 : decode cJ3_grow 6 = .ok (.iadd, 1) := dk_96 (dk_at dksJ3_grow_0 6 rfl rfl)
theorem dJ3_grow_7 : decode cJ3_grow 7 = .ok (.invokevirtual 69, 3) := dk_182 0 69 (dk_at dksJ3_grow_0 7 rfl rfl)
theorem dJ3_grow_10 : decode cJ3_grow 10 = .ok (.areturn, 1) := dk_176 (dk_at dksJ3_grow_0 10 rfl rfl)
abbrev cJ3_grow_2 : ByteArray := prog_40_method_6_code
def yJ3_grow_2 : MethodName := ⟨RJ3, "grow", "(I)[Ljava/lang/Object;"⟩
def dkwJ3_grow_2_2 : List UInt8 := [27, 184, 0, 79, 189, 0, 7, 90, 181, 0, 9, 176]
abbrev dktJ3_grow_2_2 : List UInt8 := dkwJ3_grow_2_2 ++ []
def dkwJ3_grow_2_1 : List UInt8 := [28, 4, 122, 184, 0, 73, 62, 42, 42, 180, 0, 9, 29, 184, 0, 66, 90, 181, 0, 9, 176, 42, 16, 10]
abbrev dktJ3_grow_2_1 : List UInt8 := dkwJ3_grow_2_1 ++ dktJ3_grow_2_2
def dkwJ3_grow_2_0 : List UInt8 := [42, 180, 0, 9, 190, 61, 28, 157, 0, 13, 42, 180, 0, 9, 178, 0, 39, 165, 0, 28, 28, 27, 28, 100]
abbrev dktJ3_grow_2_0 : List UInt8 := dkwJ3_grow_2_0 ++ dktJ3_grow_2_1
theorem dksJ3_grow_2_0 : cJ3_grow_2.data.toList.drop 0 = dktJ3_grow_2_0 := by decide +kernel
theorem dksJ3_grow_2_1 : cJ3_grow_2.data.toList.drop 24 = dktJ3_grow_2_1 := dk_seg dksJ3_grow_2_0 24 rfl rfl
theorem dksJ3_grow_2_2 : cJ3_grow_2.data.toList.drop 48 = dktJ3_grow_2_2 := dk_seg dksJ3_grow_2_1 24 rfl rfl
theorem dJ3_grow_2_0 : decode cJ3_grow_2 0 = .ok (.aload_n 0, 1) := dk_42 (dk_at dksJ3_grow_2_0 0 rfl rfl)
theorem dJ3_grow_2_1 : decode cJ3_grow_2 1 = .ok (.getfield 9, 3) := dk_180 0 9 (dk_at dksJ3_grow_2_0 1 rfl rfl)
theorem dJ3_grow_2_4 : decode cJ3_grow_2 4 = .ok (.arraylength, 1) := dk_190 (dk_at dksJ3_grow_2_0 4 rfl rfl)
theorem dJ3_grow_2_5 : decode cJ3_grow_2 5 = .ok (.istore_n 2, 1) := dk_61 (dk_at dksJ3_grow_2_0 5 rfl rfl)
theorem dJ3_grow_2_6 : decode cJ3_grow_2 6 = .ok (.iload_n 2, 1) := dk_28 (dk_at dksJ3_grow_2_0 6 rfl rfl)
theorem dJ3_grow_2_7 : decode cJ3_grow_2 7 = .ok (.ifCond .gt 13, 3) := dk_157 0 13 (dk_at dksJ3_grow_2_0 7 rfl rfl)
theorem dJ3_grow_2_10 : decode cJ3_grow_2 10 = .ok (.aload_n 0, 1) := dk_42 (dk_at dksJ3_grow_2_0 10 rfl rfl)
theorem dJ3_grow_2_11 : decode cJ3_grow_2 11 = .ok (.getfield 9, 3) := dk_180 0 9 (dk_at dksJ3_grow_2_0 11 rfl rfl)
theorem dJ3_grow_2_14 : decode cJ3_grow_2 14 = .ok (.getstatic 39, 3) := dk_178 0 39 (dk_at dksJ3_grow_2_0 14 rfl rfl)
theorem dJ3_grow_2_17 : decode cJ3_grow_2 17 = .ok (.if_acmp .eq 28, 3) := dk_165 0 28 (dk_at dksJ3_grow_2_0 17 rfl rfl)
theorem dJ3_grow_2_20 : decode cJ3_grow_2 20 = .ok (.iload_n 2, 1) := dk_28 (dk_at dksJ3_grow_2_0 20 rfl rfl)
theorem dJ3_grow_2_21 : decode cJ3_grow_2 21 = .ok (.iload_n 1, 1) := dk_27 (dk_at dksJ3_grow_2_0 21 rfl rfl)
theorem dJ3_grow_2_22 : decode cJ3_grow_2 22 = .ok (.iload_n 2, 1) := dk_28 (dk_at dksJ3_grow_2_0 22 rfl rfl)
theorem dJ3_grow_2_23 : decode cJ3_grow_2 23 = .ok (.isub, 1) := dk_100 (dk_at dksJ3_grow_2_0 23 rfl rfl)
theorem dJ3_grow_2_24 : decode cJ3_grow_2 24 = .ok (.iload_n 2, 1) := dk_28 (dk_at dksJ3_grow_2_1 0 rfl rfl)
theorem dJ3_grow_2_25 : decode cJ3_grow_2 25 = .ok (.iconst 1, 1) := dk_4 (dk_at dksJ3_grow_2_1 1 rfl rfl)
theorem dJ3_grow_2_26 : decode cJ3_grow_2 26 = .ok (.ishr, 1) := dk_122 (dk_at dksJ3_grow_2_1 2 rfl rfl)
theorem dJ3_grow_2_27 : decode cJ3_grow_2 27 = .ok (.invokestatic 73, 3) := dk_184 0 73 (dk_at dksJ3_grow_2_1 3 rfl rfl)
theorem dJ3_grow_2_30 : decode cJ3_grow_2 30 = .ok (.istore_n 3, 1) := dk_62 (dk_at dksJ3_grow_2_1 6 rfl rfl)
theorem dJ3_grow_2_31 : decode cJ3_grow_2 31 = .ok (.aload_n 0, 1) := dk_42 (dk_at dksJ3_grow_2_1 7 rfl rfl)
theorem dJ3_grow_2_32 : decode cJ3_grow_2 32 = .ok (.aload_n 0, 1) := dk_42 (dk_at dksJ3_grow_2_1 8 rfl rfl)
theorem dJ3_grow_2_33 : decode cJ3_grow_2 33 = .ok (.getfield 9, 3) := dk_180 0 9 (dk_at dksJ3_grow_2_1 9 rfl rfl)
theorem dJ3_grow_2_36 : decode cJ3_grow_2 36 = .ok (.iload_n 3, 1) := dk_29 (dk_at dksJ3_grow_2_1 12 rfl rfl)
theorem dJ3_grow_2_37 : decode cJ3_grow_2 37 = .ok (.invokestatic 66, 3) := dk_184 0 66 (dk_at dksJ3_grow_2_1 13 rfl rfl)
theorem dJ3_grow_2_40 : decode cJ3_grow_2 40 = .ok (.dup_x1, 1) := dk_90 (dk_at dksJ3_grow_2_1 16 rfl rfl)
theorem dJ3_grow_2_41 : decode cJ3_grow_2 41 = .ok (.putfield 9, 3) := dk_181 0 9 (dk_at dksJ3_grow_2_1 17 rfl rfl)
theorem dJ3_grow_2_44 : decode cJ3_grow_2 44 = .ok (.areturn, 1) := dk_176 (dk_at dksJ3_grow_2_1 20 rfl rfl)
theorem dJ3_grow_2_45 : decode cJ3_grow_2 45 = .ok (.aload_n 0, 1) := dk_42 (dk_at dksJ3_grow_2_1 21 rfl rfl)
theorem dJ3_grow_2_46 : decode cJ3_grow_2 46 = .ok (.bipush 10, 2) := dk_16 10 (dk_at dksJ3_grow_2_1 22 rfl rfl)
theorem dJ3_grow_2_48 : decode cJ3_grow_2 48 = .ok (.iload_n 1, 1) := dk_27 (dk_at dksJ3_grow_2_2 0 rfl rfl)
theorem dJ3_grow_2_49 : decode cJ3_grow_2 49 = .ok (.invokestatic 79, 3) := dk_184 0 79 (dk_at dksJ3_grow_2_2 1 rfl rfl)
theorem dJ3_grow_2_52 : decode cJ3_grow_2 52 = .ok (.anewarray 7, 3) := dk_189 0 7 (dk_at dksJ3_grow_2_2 4 rfl rfl)
theorem dJ3_grow_2_55 : decode cJ3_grow_2 55 = .ok (.dup_x1, 1) := dk_90 (dk_at dksJ3_grow_2_2 7 rfl rfl)
theorem dJ3_grow_2_56 : decode cJ3_grow_2 56 = .ok (.putfield 9, 3) := dk_181 0 9 (dk_at dksJ3_grow_2_2 8 rfl rfl)
theorem dJ3_grow_2_59 : decode cJ3_grow_2 59 = .ok (.areturn, 1) := dk_176 (dk_at dksJ3_grow_2_2 11 rfl rfl)
abbrev cJ3_size : ByteArray := prog_40_method_8_code
def yJ3_size : MethodName := ⟨RJ3, "size", "()I"⟩
theorem dJ3_size_0 : decode cJ3_size 0 = .ok (.aload_n 0, 1) := by decide +kernel
theorem dJ3_size_1 : decode cJ3_size 1 = .ok (.getfield 48, 3) := by decide +kernel
theorem dJ3_size_4 : decode cJ3_size 4 = .ok (.ireturn, 1) := by decide +kernel
abbrev cJ3_get : ByteArray := prog_40_method_20_code
def yJ3_get : MethodName := ⟨RJ3, "get", "(I)Ljava/lang/Object;"⟩
def dkwJ3_get_0 : List UInt8 := [27, 42, 180, 0, 48, 184, 0, 118, 87, 42, 27, 182, 0, 123, 176]
abbrev dktJ3_get_0 : List UInt8 := dkwJ3_get_0 ++ []
theorem dksJ3_get_0 : cJ3_get.data.toList.drop 0 = dktJ3_get_0 := by decide +kernel
theorem dJ3_get_0 : decode cJ3_get 0 = .ok (.iload_n 1, 1) := dk_27 (dk_at dksJ3_get_0 0 rfl rfl)
theorem dJ3_get_1 : decode cJ3_get 1 = .ok (.aload_n 0, 1) := dk_42 (dk_at dksJ3_get_0 1 rfl rfl)
theorem dJ3_get_2 : decode cJ3_get 2 = .ok (.getfield 48, 3) := dk_180 0 48 (dk_at dksJ3_get_0 2 rfl rfl)
theorem dJ3_get_5 : decode cJ3_get 5 = .ok (.invokestatic 118, 3) := dk_184 0 118 (dk_at dksJ3_get_0 5 rfl rfl)
theorem dJ3_get_8 : decode cJ3_get 8 = .ok (.pop, 1) := dk_87 (dk_at dksJ3_get_0 8 rfl rfl)
theorem dJ3_get_9 : decode cJ3_get 9 = .ok (.aload_n 0, 1) := dk_42 (dk_at dksJ3_get_0 9 rfl rfl)
theorem dJ3_get_10 : decode cJ3_get 10 = .ok (.iload_n 1, 1) := dk_27 (dk_at dksJ3_get_0 10 rfl rfl)
theorem dJ3_get_11 : decode cJ3_get 11 = .ok (.invokevirtual 123, 3) := dk_182 0 123 (dk_at dksJ3_get_0 11 rfl rfl)
theorem dJ3_get_14 : decode cJ3_get 14 = .ok (.areturn, 1) := dk_176 (dk_at dksJ3_get_0 14 rfl rfl)
abbrev cJ3_elementData : ByteArray := prog_40_method_18_code
def yJ3_elementData : MethodName := ⟨RJ3, "elementData", "(I)Ljava/lang/Object;"⟩
def dkwJ3_elementData_0 : List UInt8 := [42, 180, 0, 9, 27, 50, 176]
abbrev dktJ3_elementData_0 : List UInt8 := dkwJ3_elementData_0 ++ []
theorem dksJ3_elementData_0 : cJ3_elementData.data.toList.drop 0 = dktJ3_elementData_0 := by decide +kernel
theorem dJ3_elementData_0 : decode cJ3_elementData 0 = .ok (.aload_n 0, 1) := dk_42 (dk_at dksJ3_elementData_0 0 rfl rfl)
theorem dJ3_elementData_1 : decode cJ3_elementData 1 = .ok (.getfield 9, 3) := dk_180 0 9 (dk_at dksJ3_elementData_0 1 rfl rfl)
theorem dJ3_elementData_4 : decode cJ3_elementData 4 = .ok (.iload_n 1, 1) := dk_27 (dk_at dksJ3_elementData_0 4 rfl rfl)
theorem dJ3_elementData_5 : decode cJ3_elementData 5 = .ok (.aaload, 1) := dk_50 (dk_at dksJ3_elementData_0 5 rfl rfl)
theorem dJ3_elementData_6 : decode cJ3_elementData 6 = .ok (.areturn, 1) := dk_176 (dk_at dksJ3_elementData_0 6 rfl rfl)
abbrev cJ3_isEmpty : ByteArray := prog_40_method_9_code
def yJ3_isEmpty : MethodName := ⟨RJ3, "isEmpty", "()Z"⟩
def dkwJ3_isEmpty_0 : List UInt8 := [42, 180, 0, 48, 154, 0, 7, 4, 167, 0, 4, 3, 172]
abbrev dktJ3_isEmpty_0 : List UInt8 := dkwJ3_isEmpty_0 ++ []
theorem dksJ3_isEmpty_0 : cJ3_isEmpty.data.toList.drop 0 = dktJ3_isEmpty_0 := by decide +kernel
theorem dJ3_isEmpty_0 : decode cJ3_isEmpty 0 = .ok (.aload_n 0, 1) := dk_42 (dk_at dksJ3_isEmpty_0 0 rfl rfl)
theorem dJ3_isEmpty_1 : decode cJ3_isEmpty 1 = .ok (.getfield 48, 3) := dk_180 0 48 (dk_at dksJ3_isEmpty_0 1 rfl rfl)
theorem dJ3_isEmpty_4 : decode cJ3_isEmpty 4 = .ok (.ifCond .ne 7, 3) := dk_154 0 7 (dk_at dksJ3_isEmpty_0 4 rfl rfl)
theorem dJ3_isEmpty_7 : decode cJ3_isEmpty 7 = .ok (.iconst 1, 1) := dk_4 (dk_at dksJ3_isEmpty_0 7 rfl rfl)
theorem dJ3_isEmpty_8 : decode cJ3_isEmpty 8 = .ok (.goto 4, 3) := dk_167 0 4 (dk_at dksJ3_isEmpty_0 8 rfl rfl)
theorem dJ3_isEmpty_11 : decode cJ3_isEmpty 11 = .ok (.iconst 0, 1) := dk_3 (dk_at dksJ3_isEmpty_0 11 rfl rfl)
theorem dJ3_isEmpty_12 : decode cJ3_isEmpty 12 = .ok (.ireturn, 1) := dk_172 (dk_at dksJ3_isEmpty_0 12 rfl rfl)
theorem q133 : (Jvm.Cond.initialized "java/util/ArrayList") ∈ lw_all := lw_g (lw_at lw_m1 10 rfl) rfl
theorem q371 : (Jvm.Cond.instantiable "java/util/ArrayList" (3 : Nat)) ∈ lw_all := lw_g (lw_at lw_m2 8 rfl) rfl
theorem q373 : (Jvm.Cond.instanceMethod ({ cls := "java/util/ArrayList", name := "<init>", desc := "()V" } : Jvm.MethodName)) ∈ lw_all := lw_g (lw_at lw_m2 10 rfl) rfl
theorem q374 : (Jvm.Cond.code ({ cls := "java/util/ArrayList", name := "<init>", desc := "()V" } : Jvm.MethodName) prog_40_method_2_code (1 : Nat) (Option.none : Option Jvm.ClassFile.FieldType)) ∈ lw_all := lw_g (lw_at lw_m2 11 rfl) rfl
theorem q375 : (Jvm.Cond.methodLink "java/util/ArrayList" (1 : Nat) ({ cls := "java/util/AbstractList", name := "<init>", desc := "()V" } : Jvm.MethodName)) ∈ lw_all := lw_g (lw_at lw_m2 12 rfl) rfl
theorem q382 : (Jvm.Cond.fieldLink "java/util/ArrayList" (39 : Nat) "java/util/ArrayList" "DEFAULTCAPACITY_EMPTY_ELEMENTDATA" "[Ljava/lang/Object;") ∈ lw_all := lw_g (lw_at lw_m2 19 rfl) rfl
theorem q383 : (Jvm.Cond.laysStatic "java/util/ArrayList" "DEFAULTCAPACITY_EMPTY_ELEMENTDATA" "[Ljava/lang/Object;") ∈ lw_tbl := lw_at lw_m2 20 rfl
theorem q384 : (Jvm.Cond.fieldLink "java/util/ArrayList" (9 : Nat) "java/util/ArrayList" "elementData" "[Ljava/lang/Object;") ∈ lw_all := lw_g (lw_at lw_m2 21 rfl) rfl
theorem q385 : (Jvm.Cond.fieldLink "java/util/ArrayList" (48 : Nat) "java/util/ArrayList" "size" "I") ∈ lw_all := lw_g (lw_at lw_m2 22 rfl) rfl
theorem q387 : (Jvm.Cond.fieldLink "java/util/ArrayList" (63 : Nat) "java/util/ArrayList" "modCount" "I") ∈ lw_all := lw_g (lw_at lw_m2 24 rfl) rfl
theorem q388 : (Jvm.Cond.sameField "java/util/ArrayList" "java/util/AbstractList" "modCount" "I") ∈ lw_all := lw_g (lw_at lw_m2 25 rfl) rfl
theorem q389 : (Jvm.Cond.lays "java/util/ArrayList" "java/util/ArrayList" "elementData" "[Ljava/lang/Object;") ∈ lw_all := lw_g (lw_at lw_m2 26 rfl) rfl
theorem q390 : (Jvm.Cond.soleField "java/util/ArrayList" "elementData") ∈ lw_all := lw_g (lw_at lw_m2 27 rfl) rfl
theorem q391 : (Jvm.Cond.lays "java/util/ArrayList" "java/util/ArrayList" "size" "I") ∈ lw_all := lw_g (lw_at lw_m2 28 rfl) rfl
theorem q392 : (Jvm.Cond.soleField "java/util/ArrayList" "size") ∈ lw_all := lw_g (lw_at lw_m2 29 rfl) rfl
theorem q393 : (Jvm.Cond.lays "java/util/ArrayList" "java/util/AbstractList" "modCount" "I") ∈ lw_all := lw_g (lw_at lw_m2 30 rfl) rfl
theorem q395 : (Jvm.Cond.superclass "java/util/ArrayList" "java/util/AbstractList") ∈ lw_all := lw_g (lw_at lw_m2 32 rfl) rfl
theorem q631 : (Jvm.Cond.instanceMethod ({ cls := "java/util/ArrayList", name := "add", desc := "(Ljava/lang/Object;)Z" } : Jvm.MethodName)) ∈ lw_all := lw_g (lw_at lw_m3 28 rfl) rfl
theorem q632 : (Jvm.Cond.selects "java/util/ArrayList" ({ cls := "java/util/ArrayList", name := "add", desc := "(Ljava/lang/Object;)Z" } : Jvm.MethodName) ({ cls := "java/util/ArrayList", name := "add", desc := "(Ljava/lang/Object;)Z" } : Jvm.MethodName)) ∈ lw_all := lw_g (lw_at lw_m3 29 rfl) rfl
theorem q633 : (Jvm.Cond.code ({ cls := "java/util/ArrayList", name := "add", desc := "(Ljava/lang/Object;)Z" } : Jvm.MethodName) prog_40_method_25_code (2 : Nat) (Option.some Jvm.ClassFile.FieldType.boolean)) ∈ lw_all := lw_g (lw_at lw_m3 30 rfl) rfl
theorem q634 : (Jvm.Cond.methodLink "java/util/ArrayList" (131 : Nat) ({ cls := "java/util/ArrayList", name := "add", desc := "(Ljava/lang/Object;[Ljava/lang/Object;I)V" } : Jvm.MethodName)) ∈ lw_all := lw_g (lw_at lw_m3 31 rfl) rfl
theorem q635 : (Jvm.Cond.privateMethod ({ cls := "java/util/ArrayList", name := "add", desc := "(Ljava/lang/Object;[Ljava/lang/Object;I)V" } : Jvm.MethodName)) ∈ lw_tbl := lw_at lw_m3 32 rfl
theorem q636 : (Jvm.Cond.instanceMethod ({ cls := "java/util/ArrayList", name := "add", desc := "(Ljava/lang/Object;[Ljava/lang/Object;I)V" } : Jvm.MethodName)) ∈ lw_all := lw_g (lw_at lw_m3 33 rfl) rfl
theorem q637 : (Jvm.Cond.code ({ cls := "java/util/ArrayList", name := "add", desc := "(Ljava/lang/Object;[Ljava/lang/Object;I)V" } : Jvm.MethodName) prog_40_method_24_code (4 : Nat) (Option.none : Option Jvm.ClassFile.FieldType)) ∈ lw_all := lw_g (lw_at lw_m3 34 rfl) rfl
theorem q638 : (Jvm.Cond.methodLink "java/util/ArrayList" (129 : Nat) ({ cls := "java/util/ArrayList", name := "grow", desc := "()[Ljava/lang/Object;" } : Jvm.MethodName)) ∈ lw_all := lw_g (lw_at lw_m3 35 rfl) rfl
theorem q639 : (Jvm.Cond.privateMethod ({ cls := "java/util/ArrayList", name := "grow", desc := "()[Ljava/lang/Object;" } : Jvm.MethodName)) ∈ lw_tbl := lw_at lw_m3 36 rfl
theorem q640 : (Jvm.Cond.instanceMethod ({ cls := "java/util/ArrayList", name := "grow", desc := "()[Ljava/lang/Object;" } : Jvm.MethodName)) ∈ lw_all := lw_g (lw_at lw_m3 37 rfl) rfl
theorem q641 : (Jvm.Cond.code ({ cls := "java/util/ArrayList", name := "grow", desc := "()[Ljava/lang/Object;" } : Jvm.MethodName) prog_40_method_7_code (1 : Nat) (Option.some (Jvm.ClassFile.FieldType.array (Jvm.ClassFile.FieldType.object "java/lang/Object")))) ∈ lw_all := lw_g (lw_at lw_m3 38 rfl) rfl
theorem q642 : (Jvm.Cond.methodLink "java/util/ArrayList" (69 : Nat) ({ cls := "java/util/ArrayList", name := "grow", desc := "(I)[Ljava/lang/Object;" } : Jvm.MethodName)) ∈ lw_all := lw_g (lw_at lw_m3 39 rfl) rfl
theorem q643 : (Jvm.Cond.privateMethod ({ cls := "java/util/ArrayList", name := "grow", desc := "(I)[Ljava/lang/Object;" } : Jvm.MethodName)) ∈ lw_tbl := lw_at lw_m3 40 rfl
theorem q644 : (Jvm.Cond.instanceMethod ({ cls := "java/util/ArrayList", name := "grow", desc := "(I)[Ljava/lang/Object;" } : Jvm.MethodName)) ∈ lw_all := lw_g (lw_at lw_m3 41 rfl) rfl
theorem q645 : (Jvm.Cond.code ({ cls := "java/util/ArrayList", name := "grow", desc := "(I)[Ljava/lang/Object;" } : Jvm.MethodName) prog_40_method_6_code (4 : Nat) (Option.some (Jvm.ClassFile.FieldType.array (Jvm.ClassFile.FieldType.object "java/lang/Object")))) ∈ lw_all := lw_g (lw_at lw_m3 42 rfl) rfl
theorem q646 : (Jvm.Cond.methodLink "java/util/ArrayList" (73 : Nat) ({ cls := "jdk/internal/util/ArraysSupport", name := "newLength", desc := "(III)I" } : Jvm.MethodName)) ∈ lw_all := lw_g (lw_at lw_m3 43 rfl) rfl
theorem q656 : (Jvm.Cond.methodLink "java/util/ArrayList" (66 : Nat) ({ cls := "java/util/Arrays", name := "copyOf", desc := "([Ljava/lang/Object;I)[Ljava/lang/Object;" } : Jvm.MethodName)) ∈ lw_all := lw_g (lw_at lw_m3 53 rfl) rfl
theorem q679 : (Jvm.Cond.selects "java/util/ArrayList" ({ cls := "java/lang/Object", name := "getClass", desc := "()Ljava/lang/Class;" } : Jvm.MethodName) ({ cls := "java/lang/Object", name := "getClass", desc := "()Ljava/lang/Class;" } : Jvm.MethodName)) ∈ lw_all := lw_g (lw_at lw_m3 76 rfl) rfl
theorem q689 : (Jvm.Cond.methodLink "java/util/ArrayList" (79 : Nat) ({ cls := "java/lang/Math", name := "max", desc := "(II)I" } : Jvm.MethodName)) ∈ lw_all := lw_g (lw_at lw_m3 86 rfl) rfl
theorem q690 : (Jvm.Cond.classLink "java/util/ArrayList" (7 : Nat) "java/lang/Object") ∈ lw_all := lw_g (lw_at lw_m3 87 rfl) rfl
theorem q692 : (Jvm.Cond.instanceMethod ({ cls := "java/util/ArrayList", name := "size", desc := "()I" } : Jvm.MethodName)) ∈ lw_all := lw_g (lw_at lw_m3 89 rfl) rfl
theorem q693 : (Jvm.Cond.selects "java/util/ArrayList" ({ cls := "java/util/ArrayList", name := "size", desc := "()I" } : Jvm.MethodName) ({ cls := "java/util/ArrayList", name := "size", desc := "()I" } : Jvm.MethodName)) ∈ lw_all := lw_g (lw_at lw_m3 90 rfl) rfl
theorem q694 : (Jvm.Cond.code ({ cls := "java/util/ArrayList", name := "size", desc := "()I" } : Jvm.MethodName) prog_40_method_8_code (1 : Nat) (Option.some Jvm.ClassFile.FieldType.int)) ∈ lw_all := lw_g (lw_at lw_m3 91 rfl) rfl
theorem q696 : (Jvm.Cond.instanceMethod ({ cls := "java/util/ArrayList", name := "get", desc := "(I)Ljava/lang/Object;" } : Jvm.MethodName)) ∈ lw_all := lw_g (lw_at lw_m3 93 rfl) rfl
theorem q697 : (Jvm.Cond.selects "java/util/ArrayList" ({ cls := "java/util/ArrayList", name := "get", desc := "(I)Ljava/lang/Object;" } : Jvm.MethodName) ({ cls := "java/util/ArrayList", name := "get", desc := "(I)Ljava/lang/Object;" } : Jvm.MethodName)) ∈ lw_all := lw_g (lw_at lw_m3 94 rfl) rfl
theorem q698 : (Jvm.Cond.code ({ cls := "java/util/ArrayList", name := "get", desc := "(I)Ljava/lang/Object;" } : Jvm.MethodName) prog_40_method_20_code (2 : Nat) (Option.some (Jvm.ClassFile.FieldType.object "java/lang/Object"))) ∈ lw_all := lw_g (lw_at lw_m3 95 rfl) rfl
theorem q699 : (Jvm.Cond.methodLink "java/util/ArrayList" (118 : Nat) ({ cls := "java/util/Objects", name := "checkIndex", desc := "(II)I" } : Jvm.MethodName)) ∈ lw_all := lw_g (lw_at lw_m3 96 rfl) rfl
theorem q703 : (Jvm.Cond.methodLink "java/util/ArrayList" (123 : Nat) ({ cls := "java/util/ArrayList", name := "elementData", desc := "(I)Ljava/lang/Object;" } : Jvm.MethodName)) ∈ lw_all := lw_g (lw_at lw_m3 100 rfl) rfl
theorem q704 : (Jvm.Cond.instanceMethod ({ cls := "java/util/ArrayList", name := "elementData", desc := "(I)Ljava/lang/Object;" } : Jvm.MethodName)) ∈ lw_all := lw_g (lw_at lw_m3 101 rfl) rfl
theorem q705 : (Jvm.Cond.selects "java/util/ArrayList" ({ cls := "java/util/ArrayList", name := "elementData", desc := "(I)Ljava/lang/Object;" } : Jvm.MethodName) ({ cls := "java/util/ArrayList", name := "elementData", desc := "(I)Ljava/lang/Object;" } : Jvm.MethodName)) ∈ lw_all := lw_g (lw_at lw_m3 102 rfl) rfl
theorem q706 : (Jvm.Cond.code ({ cls := "java/util/ArrayList", name := "elementData", desc := "(I)Ljava/lang/Object;" } : Jvm.MethodName) prog_40_method_18_code (2 : Nat) (Option.some (Jvm.ClassFile.FieldType.object "java/lang/Object"))) ∈ lw_all := lw_g (lw_at lw_m3 103 rfl) rfl
theorem q834 : (Jvm.Cond.instanceMethod ({ cls := "java/util/ArrayList", name := "isEmpty", desc := "()Z" } : Jvm.MethodName)) ∈ lw_all := lw_g (lw_at lw_m3 231 rfl) rfl
theorem q835 : (Jvm.Cond.selects "java/util/ArrayList" ({ cls := "java/util/ArrayList", name := "isEmpty", desc := "()Z" } : Jvm.MethodName) ({ cls := "java/util/ArrayList", name := "isEmpty", desc := "()Z" } : Jvm.MethodName)) ∈ lw_all := lw_g (lw_at lw_m3 232 rfl) rfl
theorem q836 : (Jvm.Cond.code ({ cls := "java/util/ArrayList", name := "isEmpty", desc := "()Z" } : Jvm.MethodName) prog_40_method_9_code (1 : Nat) (Option.some Jvm.ClassFile.FieldType.boolean)) ∈ lw_all := lw_g (lw_at lw_m3 233 rfl) rfl
theorem q2052 : (Jvm.Cond.castable "java/util/ArrayList" "java/lang/Object") ∈ lw_tbl := lw_at lw_m9 9 rfl
theorem in_J3 : ∀ w ∈ wsJ30, w ∈ lw_all := lw_in wsJ30 [393, 389, 391] (by decide +kernel) (by decide +kernel)

/-! java/lang/String -/
set_option maxRecDepth 100000
def RJ4 : String := "java/lang/String"
abbrev cJ4_length : ByteArray := prog_31_method_54_code
def yJ4_length : MethodName := ⟨RJ4, "length", "()I"⟩
def dkwJ4_length_0 : List UInt8 := [42, 180, 0, 9, 190, 42, 182, 1, 79, 122, 172]
abbrev dktJ4_length_0 : List UInt8 := dkwJ4_length_0 ++ []
theorem dksJ4_length_0 : cJ4_length.data.toList.drop 0 = dktJ4_length_0 := by decide +kernel
theorem dJ4_length_0 : decode cJ4_length 0 = .ok (.aload_n 0, 1) := dk_42 (dk_at dksJ4_length_0 0 rfl rfl)
theorem dJ4_length_1 : decode cJ4_length 1 = .ok (.getfield 9, 3) := dk_180 0 9 (dk_at dksJ4_length_0 1 rfl rfl)
theorem dJ4_length_4 : decode cJ4_length 4 = .ok (.arraylength, 1) := dk_190 (dk_at dksJ4_length_0 4 rfl rfl)
theorem dJ4_length_5 : decode cJ4_length 5 = .ok (.aload_n 0, 1) := dk_42 (dk_at dksJ4_length_0 5 rfl rfl)
theorem dJ4_length_6 : decode cJ4_length 6 = .ok (.invokevirtual 335, 3) := dk_182 1 79 (dk_at dksJ4_length_0 6 rfl rfl)
theorem dJ4_length_9 : decode cJ4_length 9 = .ok (.ishr, 1) := dk_122 (dk_at dksJ4_length_0 9 rfl rfl)
theorem dJ4_length_10 : decode cJ4_length 10 = .ok (.ireturn, 1) := dk_172 (dk_at dksJ4_length_0 10 rfl rfl)
abbrev cJ4_coder : ByteArray := prog_31_method_152_code
def yJ4_coder : MethodName := ⟨RJ4, "coder", "()B"⟩
def dkwJ4_coder_0 : List UInt8 := [178, 0, 38, 153, 0, 10, 42, 180, 0, 15, 167, 0, 4, 4, 172]
abbrev dktJ4_coder_0 : List UInt8 := dkwJ4_coder_0 ++ []
theorem dksJ4_coder_0 : cJ4_coder.data.toList.drop 0 = dktJ4_coder_0 := by decide +kernel
theorem dJ4_coder_0 : decode cJ4_coder 0 = .ok (.getstatic 38, 3) := dk_178 0 38 (dk_at dksJ4_coder_0 0 rfl rfl)
theorem dJ4_coder_3 : decode cJ4_coder 3 = .ok (.ifCond .eq 10, 3) := dk_153 0 10 (dk_at dksJ4_coder_0 3 rfl rfl)
theorem dJ4_coder_6 : decode cJ4_coder 6 = .ok (.aload_n 0, 1) := dk_42 (dk_at dksJ4_coder_0 6 rfl rfl)
theorem dJ4_coder_7 : decode cJ4_coder 7 = .ok (.getfield 15, 3) := dk_180 0 15 (dk_at dksJ4_coder_0 7 rfl rfl)
theorem dJ4_coder_10 : decode cJ4_coder 10 = .ok (.goto 4, 3) := dk_167 0 4 (dk_at dksJ4_coder_0 10 rfl rfl)
theorem dJ4_coder_13 : decode cJ4_coder 13 = .ok (.iconst 1, 1) := dk_4 (dk_at dksJ4_coder_0 13 rfl rfl)
theorem dJ4_coder_14 : decode cJ4_coder 14 = .ok (.ireturn, 1) := dk_172 (dk_at dksJ4_coder_0 14 rfl rfl)
abbrev cJ4_charAt : ByteArray := prog_31_method_56_code
def yJ4_charAt : MethodName := ⟨RJ4, "charAt", "(I)C"⟩
def dkwJ4_charAt_1 : List UInt8 := [172]
abbrev dktJ4_charAt_1 : List UInt8 := dkwJ4_charAt_1 ++ []
def dkwJ4_charAt_0 : List UInt8 := [42, 182, 1, 236, 153, 0, 12, 42, 180, 0, 9, 27, 184, 1, 239, 172, 42, 180, 0, 9, 27, 184, 1, 242]
abbrev dktJ4_charAt_0 : List UInt8 := dkwJ4_charAt_0 ++ dktJ4_charAt_1
theorem dksJ4_charAt_0 : cJ4_charAt.data.toList.drop 0 = dktJ4_charAt_0 := by decide +kernel
theorem dksJ4_charAt_1 : cJ4_charAt.data.toList.drop 24 = dktJ4_charAt_1 := dk_seg dksJ4_charAt_0 24 rfl rfl
theorem dJ4_charAt_0 : decode cJ4_charAt 0 = .ok (.aload_n 0, 1) := dk_42 (dk_at dksJ4_charAt_0 0 rfl rfl)
theorem dJ4_charAt_1 : decode cJ4_charAt 1 = .ok (.invokevirtual 492, 3) := dk_182 1 236 (dk_at dksJ4_charAt_0 1 rfl rfl)
theorem dJ4_charAt_4 : decode cJ4_charAt 4 = .ok (.ifCond .eq 12, 3) := dk_153 0 12 (dk_at dksJ4_charAt_0 4 rfl rfl)
theorem dJ4_charAt_7 : decode cJ4_charAt 7 = .ok (.aload_n 0, 1) := dk_42 (dk_at dksJ4_charAt_0 7 rfl rfl)
theorem dJ4_charAt_8 : decode cJ4_charAt 8 = .ok (.getfield 9, 3) := dk_180 0 9 (dk_at dksJ4_charAt_0 8 rfl rfl)
theorem dJ4_charAt_11 : decode cJ4_charAt 11 = .ok (.iload_n 1, 1) := dk_27 (dk_at dksJ4_charAt_0 11 rfl rfl)
theorem dJ4_charAt_12 : decode cJ4_charAt 12 = .ok (.invokestatic 495, 3) := dk_184 1 239 (dk_at dksJ4_charAt_0 12 rfl rfl)
theorem dJ4_charAt_15 : decode cJ4_charAt 15 = .ok (.ireturn, 1) := dk_172 (dk_at dksJ4_charAt_0 15 rfl rfl)
theorem dJ4_charAt_16 : decode cJ4_charAt 16 = .ok (.aload_n 0, 1) := dk_42 (dk_at dksJ4_charAt_0 16 rfl rfl)
theorem dJ4_charAt_17 : decode cJ4_charAt 17 = .ok (.getfield 9, 3) := dk_180 0 9 (dk_at dksJ4_charAt_0 17 rfl rfl)
theorem dJ4_charAt_20 : decode cJ4_charAt 20 = .ok (.iload_n 1, 1) := dk_27 (dk_at dksJ4_charAt_0 20 rfl rfl)
theorem dJ4_charAt_21 : decode cJ4_charAt 21 = .ok (.invokestatic 498, 3) := dk_184 1 242 (dk_at dksJ4_charAt_0 21 rfl rfl)
theorem dJ4_charAt_24 : decode cJ4_charAt 24 = .ok (.ireturn, 1) := dk_172 (dk_at dksJ4_charAt_1 0 rfl rfl)
abbrev cJ4_isLatin1 : ByteArray := prog_31_method_154_code
def yJ4_isLatin1 : MethodName := ⟨RJ4, "isLatin1", "()Z"⟩
def dkwJ4_isLatin1_0 : List UInt8 := [178, 0, 38, 153, 0, 14, 42, 180, 0, 15, 154, 0, 7, 4, 167, 0, 4, 3, 172]
abbrev dktJ4_isLatin1_0 : List UInt8 := dkwJ4_isLatin1_0 ++ []
theorem dksJ4_isLatin1_0 : cJ4_isLatin1.data.toList.drop 0 = dktJ4_isLatin1_0 := by decide +kernel
theorem dJ4_isLatin1_0 : decode cJ4_isLatin1 0 = .ok (.getstatic 38, 3) := dk_178 0 38 (dk_at dksJ4_isLatin1_0 0 rfl rfl)
theorem dJ4_isLatin1_3 : decode cJ4_isLatin1 3 = .ok (.ifCond .eq 14, 3) := dk_153 0 14 (dk_at dksJ4_isLatin1_0 3 rfl rfl)
theorem dJ4_isLatin1_6 : decode cJ4_isLatin1 6 = .ok (.aload_n 0, 1) := dk_42 (dk_at dksJ4_isLatin1_0 6 rfl rfl)
theorem dJ4_isLatin1_7 : decode cJ4_isLatin1 7 = .ok (.getfield 15, 3) := dk_180 0 15 (dk_at dksJ4_isLatin1_0 7 rfl rfl)
theorem dJ4_isLatin1_10 : decode cJ4_isLatin1 10 = .ok (.ifCond .ne 7, 3) := dk_154 0 7 (dk_at dksJ4_isLatin1_0 10 rfl rfl)
theorem dJ4_isLatin1_13 : decode cJ4_isLatin1 13 = .ok (.iconst 1, 1) := dk_4 (dk_at dksJ4_isLatin1_0 13 rfl rfl)
theorem dJ4_isLatin1_14 : decode cJ4_isLatin1 14 = .ok (.goto 4, 3) := dk_167 0 4 (dk_at dksJ4_isLatin1_0 14 rfl rfl)
theorem dJ4_isLatin1_17 : decode cJ4_isLatin1 17 = .ok (.iconst 0, 1) := dk_3 (dk_at dksJ4_isLatin1_0 17 rfl rfl)
theorem dJ4_isLatin1_18 : decode cJ4_isLatin1 18 = .ok (.ireturn, 1) := dk_172 (dk_at dksJ4_isLatin1_0 18 rfl rfl)
abbrev cJ4_checkIndex : ByteArray := prog_31_method_155_code
def yJ4_checkIndex : MethodName := ⟨RJ4, "checkIndex", "(II)V"⟩
def dkwJ4_checkIndex_0 : List UInt8 := [26, 27, 178, 4, 29, 184, 4, 35, 87, 177]
abbrev dktJ4_checkIndex_0 : List UInt8 := dkwJ4_checkIndex_0 ++ []
theorem dksJ4_checkIndex_0 : cJ4_checkIndex.data.toList.drop 0 = dktJ4_checkIndex_0 := by decide +kernel
theorem dJ4_checkIndex_0 : decode cJ4_checkIndex 0 = .ok (.iload_n 0, 1) := dk_26 (dk_at dksJ4_checkIndex_0 0 rfl rfl)
theorem dJ4_checkIndex_1 : decode cJ4_checkIndex 1 = .ok (.iload_n 1, 1) := dk_27 (dk_at dksJ4_checkIndex_0 1 rfl rfl)
theorem dJ4_checkIndex_2 : decode cJ4_checkIndex 2 = .ok (.getstatic 1053, 3) := dk_178 4 29 (dk_at dksJ4_checkIndex_0 2 rfl rfl)
theorem dJ4_checkIndex_5 : decode cJ4_checkIndex 5 = .ok (.invokestatic 1059, 3) := dk_184 4 35 (dk_at dksJ4_checkIndex_0 5 rfl rfl)
theorem dJ4_checkIndex_8 : decode cJ4_checkIndex 8 = .ok (.pop, 1) := dk_87 (dk_at dksJ4_checkIndex_0 8 rfl rfl)
theorem dJ4_checkIndex_9 : decode cJ4_checkIndex 9 = .ok (.return_, 1) := dk_177 (dk_at dksJ4_checkIndex_0 9 rfl rfl)
theorem q134 : (Jvm.Cond.initialized "java/lang/String") ∈ lw_all := lw_g (lw_at lw_m1 11 rfl) rfl
theorem q424 : (Jvm.Cond.instanceMethod ({ cls := "java/lang/String", name := "length", desc := "()I" } : Jvm.MethodName)) ∈ lw_all := lw_g (lw_at lw_m2 61 rfl) rfl
theorem q425 : (Jvm.Cond.selects "java/lang/String" ({ cls := "java/lang/String", name := "length", desc := "()I" } : Jvm.MethodName) ({ cls := "java/lang/String", name := "length", desc := "()I" } : Jvm.MethodName)) ∈ lw_all := lw_g (lw_at lw_m2 62 rfl) rfl
theorem q426 : (Jvm.Cond.code ({ cls := "java/lang/String", name := "length", desc := "()I" } : Jvm.MethodName) prog_31_method_54_code (1 : Nat) (Option.some Jvm.ClassFile.FieldType.int)) ∈ lw_all := lw_g (lw_at lw_m2 63 rfl) rfl
theorem q427 : (Jvm.Cond.methodLink "java/lang/String" (335 : Nat) ({ cls := "java/lang/String", name := "coder", desc := "()B" } : Jvm.MethodName)) ∈ lw_all := lw_g (lw_at lw_m2 64 rfl) rfl
theorem q428 : (Jvm.Cond.instanceMethod ({ cls := "java/lang/String", name := "coder", desc := "()B" } : Jvm.MethodName)) ∈ lw_all := lw_g (lw_at lw_m2 65 rfl) rfl
theorem q429 : (Jvm.Cond.selects "java/lang/String" ({ cls := "java/lang/String", name := "coder", desc := "()B" } : Jvm.MethodName) ({ cls := "java/lang/String", name := "coder", desc := "()B" } : Jvm.MethodName)) ∈ lw_all := lw_g (lw_at lw_m2 66 rfl) rfl
theorem q430 : (Jvm.Cond.code ({ cls := "java/lang/String", name := "coder", desc := "()B" } : Jvm.MethodName) prog_31_method_152_code (1 : Nat) (Option.some Jvm.ClassFile.FieldType.byte)) ∈ lw_all := lw_g (lw_at lw_m2 67 rfl) rfl
theorem q431 : (Jvm.Cond.fieldLink "java/lang/String" (38 : Nat) "java/lang/String" "COMPACT_STRINGS" "Z") ∈ lw_all := lw_g (lw_at lw_m2 68 rfl) rfl
theorem q432 : (Jvm.Cond.laysStatic "java/lang/String" "COMPACT_STRINGS" "Z") ∈ lw_tbl := lw_at lw_m2 69 rfl
theorem q434 : (Jvm.Cond.instanceMethod ({ cls := "java/lang/String", name := "charAt", desc := "(I)C" } : Jvm.MethodName)) ∈ lw_all := lw_g (lw_at lw_m2 71 rfl) rfl
theorem q435 : (Jvm.Cond.selects "java/lang/String" ({ cls := "java/lang/String", name := "charAt", desc := "(I)C" } : Jvm.MethodName) ({ cls := "java/lang/String", name := "charAt", desc := "(I)C" } : Jvm.MethodName)) ∈ lw_all := lw_g (lw_at lw_m2 72 rfl) rfl
theorem q436 : (Jvm.Cond.code ({ cls := "java/lang/String", name := "charAt", desc := "(I)C" } : Jvm.MethodName) prog_31_method_56_code (2 : Nat) (Option.some Jvm.ClassFile.FieldType.char)) ∈ lw_all := lw_g (lw_at lw_m2 73 rfl) rfl
theorem q437 : (Jvm.Cond.methodLink "java/lang/String" (492 : Nat) ({ cls := "java/lang/String", name := "isLatin1", desc := "()Z" } : Jvm.MethodName)) ∈ lw_all := lw_g (lw_at lw_m2 74 rfl) rfl
theorem q438 : (Jvm.Cond.instanceMethod ({ cls := "java/lang/String", name := "isLatin1", desc := "()Z" } : Jvm.MethodName)) ∈ lw_all := lw_g (lw_at lw_m2 75 rfl) rfl
theorem q439 : (Jvm.Cond.selects "java/lang/String" ({ cls := "java/lang/String", name := "isLatin1", desc := "()Z" } : Jvm.MethodName) ({ cls := "java/lang/String", name := "isLatin1", desc := "()Z" } : Jvm.MethodName)) ∈ lw_all := lw_g (lw_at lw_m2 76 rfl) rfl
theorem q440 : (Jvm.Cond.code ({ cls := "java/lang/String", name := "isLatin1", desc := "()Z" } : Jvm.MethodName) prog_31_method_154_code (1 : Nat) (Option.some Jvm.ClassFile.FieldType.boolean)) ∈ lw_all := lw_g (lw_at lw_m2 77 rfl) rfl
theorem q441 : (Jvm.Cond.methodLink "java/lang/String" (495 : Nat) ({ cls := "java/lang/StringLatin1", name := "charAt", desc := "([BI)C" } : Jvm.MethodName)) ∈ lw_all := lw_g (lw_at lw_m2 78 rfl) rfl
theorem q445 : (Jvm.Cond.static ({ cls := "java/lang/String", name := "checkIndex", desc := "(II)V" } : Jvm.MethodName)) ∈ lw_all := lw_g (lw_at lw_m2 82 rfl) rfl
theorem q446 : (Jvm.Cond.code ({ cls := "java/lang/String", name := "checkIndex", desc := "(II)V" } : Jvm.MethodName) prog_31_method_155_code (2 : Nat) (Option.none : Option Jvm.ClassFile.FieldType)) ∈ lw_all := lw_g (lw_at lw_m2 83 rfl) rfl
theorem q447 : (Jvm.Cond.fieldLink "java/lang/String" (1053 : Nat) "jdk/internal/util/Preconditions" "SIOOBE_FORMATTER" "Ljava/util/function/BiFunction;") ∈ lw_all := lw_g (lw_at lw_m2 84 rfl) rfl
theorem q449 : (Jvm.Cond.methodLink "java/lang/String" (1059 : Nat) ({ cls := "jdk/internal/util/Preconditions", name := "checkIndex", desc := "(IILjava/util/function/BiFunction;)I" } : Jvm.MethodName)) ∈ lw_all := lw_g (lw_at lw_m2 86 rfl) rfl
theorem q452 : (Jvm.Cond.methodLink "java/lang/String" (498 : Nat) ({ cls := "java/lang/StringUTF16", name := "charAt", desc := "([BI)C" } : Jvm.MethodName)) ∈ lw_all := lw_g (lw_at lw_m2 89 rfl) rfl
theorem q2047 : (Jvm.Cond.castable "java/lang/String" "java/lang/Object") ∈ lw_tbl := lw_at lw_m9 4 rfl
theorem q2078 : (Jvm.Cond.fieldLink "java/lang/String" (9 : Nat) "java/lang/String" "value" "[B") ∈ lw_all := lw_g (lw_at lw_m9 35 rfl) rfl
theorem q2079 : (Jvm.Cond.fieldLink "java/lang/String" (15 : Nat) "java/lang/String" "coder" "B") ∈ lw_all := lw_g (lw_at lw_m9 36 rfl) rfl

/-! java/lang/StringLatin1 -/
set_option maxRecDepth 100000
def RJ5 : String := "java/lang/StringLatin1"
abbrev cJ5_charAt : ByteArray := prog_32_method_2_code
def yJ5_charAt : MethodName := ⟨RJ5, "charAt", "([BI)C"⟩
def dkwJ5_charAt_0 : List UInt8 := [27, 42, 190, 184, 0, 9, 42, 27, 51, 17, 0, 255, 126, 146, 172]
abbrev dktJ5_charAt_0 : List UInt8 := dkwJ5_charAt_0 ++ []
theorem dksJ5_charAt_0 : cJ5_charAt.data.toList.drop 0 = dktJ5_charAt_0 := by decide +kernel
theorem dJ5_charAt_0 : decode cJ5_charAt 0 = .ok (.iload_n 1, 1) := dk_27 (dk_at dksJ5_charAt_0 0 rfl rfl)
theorem dJ5_charAt_1 : decode cJ5_charAt 1 = .ok (.aload_n 0, 1) := dk_42 (dk_at dksJ5_charAt_0 1 rfl rfl)
theorem dJ5_charAt_2 : decode cJ5_charAt 2 = .ok (.arraylength, 1) := dk_190 (dk_at dksJ5_charAt_0 2 rfl rfl)
theorem dJ5_charAt_3 : decode cJ5_charAt 3 = .ok (.invokestatic 9, 3) := dk_184 0 9 (dk_at dksJ5_charAt_0 3 rfl rfl)
theorem dJ5_charAt_6 : decode cJ5_charAt 6 = .ok (.aload_n 0, 1) := dk_42 (dk_at dksJ5_charAt_0 6 rfl rfl)
theorem dJ5_charAt_7 : decode cJ5_charAt 7 = .ok (.iload_n 1, 1) := dk_27 (dk_at dksJ5_charAt_0 7 rfl rfl)
theorem dJ5_charAt_8 : decode cJ5_charAt 8 = .ok (.baload, 1) := dk_51 (dk_at dksJ5_charAt_0 8 rfl rfl)
theorem dJ5_charAt_9 : decode cJ5_charAt 9 = .ok (.sipush 255, 3) := dk_17 0 255 (dk_at dksJ5_charAt_0 9 rfl rfl)
theorem dJ5_charAt_12 : decode cJ5_charAt 12 = .ok (.iand, 1) := dk_126 (dk_at dksJ5_charAt_0 12 rfl rfl)
theorem dJ5_charAt_13 : decode cJ5_charAt 13 = .ok (.i2c, 1) := dk_146 (dk_at dksJ5_charAt_0 13 rfl rfl)
theorem dJ5_charAt_14 : decode cJ5_charAt 14 = .ok (.ireturn, 1) := dk_172 (dk_at dksJ5_charAt_0 14 rfl rfl)
theorem q135 : (Jvm.Cond.initialized "java/lang/StringLatin1") ∈ lw_all := lw_g (lw_at lw_m1 12 rfl) rfl
theorem q442 : (Jvm.Cond.static ({ cls := "java/lang/StringLatin1", name := "charAt", desc := "([BI)C" } : Jvm.MethodName)) ∈ lw_all := lw_g (lw_at lw_m2 79 rfl) rfl
theorem q443 : (Jvm.Cond.code ({ cls := "java/lang/StringLatin1", name := "charAt", desc := "([BI)C" } : Jvm.MethodName) prog_32_method_2_code (2 : Nat) (Option.some Jvm.ClassFile.FieldType.char)) ∈ lw_all := lw_g (lw_at lw_m2 80 rfl) rfl
theorem q444 : (Jvm.Cond.methodLink "java/lang/StringLatin1" (9 : Nat) ({ cls := "java/lang/String", name := "checkIndex", desc := "(II)V" } : Jvm.MethodName)) ∈ lw_all := lw_g (lw_at lw_m2 81 rfl) rfl

/-! jdk/internal/util/Preconditions -/
set_option maxRecDepth 100000
def RJ6 : String := "jdk/internal/util/Preconditions"
abbrev cJ6_checkIndex : ByteArray := prog_48_method_11_code
def yJ6_checkIndex : MethodName := ⟨RJ6, "checkIndex", "(IILjava/util/function/BiFunction;)I"⟩
def dkwJ6_checkIndex_0 : List UInt8 := [26, 155, 0, 8, 26, 27, 161, 0, 10, 44, 26, 27, 184, 0, 95, 191, 26, 172]
abbrev dktJ6_checkIndex_0 : List UInt8 := dkwJ6_checkIndex_0 ++ []
theorem dksJ6_checkIndex_0 : cJ6_checkIndex.data.toList.drop 0 = dktJ6_checkIndex_0 := by decide +kernel
theorem dJ6_checkIndex_0 : decode cJ6_checkIndex 0 = .ok (.iload_n 0, 1) := dk_26 (dk_at dksJ6_checkIndex_0 0 rfl rfl)
theorem dJ6_checkIndex_1 : decode cJ6_checkIndex 1 = .ok (.ifCond .lt 8, 3) := dk_155 0 8 (dk_at dksJ6_checkIndex_0 1 rfl rfl)
theorem dJ6_checkIndex_4 : decode cJ6_checkIndex 4 = .ok (.iload_n 0, 1) := dk_26 (dk_at dksJ6_checkIndex_0 4 rfl rfl)
theorem dJ6_checkIndex_5 : decode cJ6_checkIndex 5 = .ok (.iload_n 1, 1) := dk_27 (dk_at dksJ6_checkIndex_0 5 rfl rfl)
theorem dJ6_checkIndex_6 : decode cJ6_checkIndex 6 = .ok (.if_icmp .lt 10, 3) := dk_161 0 10 (dk_at dksJ6_checkIndex_0 6 rfl rfl)
theorem dJ6_checkIndex_9 : decode cJ6_checkIndex 9 = .ok (.aload_n 2, 1) := dk_44 (dk_at dksJ6_checkIndex_0 9 rfl rfl)
theorem dJ6_checkIndex_10 : decode cJ6_checkIndex 10 = .ok (.iload_n 0, 1) := dk_26 (dk_at dksJ6_checkIndex_0 10 rfl rfl)
theorem dJ6_checkIndex_11 : decode cJ6_checkIndex 11 = .ok (.iload_n 1, 1) := dk_27 (dk_at dksJ6_checkIndex_0 11 rfl rfl)
theorem dJ6_checkIndex_12 : decode cJ6_checkIndex 12 = .ok (.invokestatic 95, 3) := dk_184 0 95 (dk_at dksJ6_checkIndex_0 12 rfl rfl)
theorem dJ6_checkIndex_15 : decode cJ6_checkIndex 15 = .ok (.athrow, 1) := dk_191 (dk_at dksJ6_checkIndex_0 15 rfl rfl)
theorem dJ6_checkIndex_16 : decode cJ6_checkIndex 16 = .ok (.iload_n 0, 1) := dk_26 (dk_at dksJ6_checkIndex_0 16 rfl rfl)
theorem dJ6_checkIndex_17 : decode cJ6_checkIndex 17 = .ok (.ireturn, 1) := dk_172 (dk_at dksJ6_checkIndex_0 17 rfl rfl)
theorem q136 : (Jvm.Cond.initialized "jdk/internal/util/Preconditions") ∈ lw_all := lw_g (lw_at lw_m1 13 rfl) rfl
theorem q448 : (Jvm.Cond.laysStatic "jdk/internal/util/Preconditions" "SIOOBE_FORMATTER" "Ljava/util/function/BiFunction;") ∈ lw_tbl := lw_at lw_m2 85 rfl
theorem q450 : (Jvm.Cond.static ({ cls := "jdk/internal/util/Preconditions", name := "checkIndex", desc := "(IILjava/util/function/BiFunction;)I" } : Jvm.MethodName)) ∈ lw_all := lw_g (lw_at lw_m2 87 rfl) rfl
theorem q451 : (Jvm.Cond.code ({ cls := "jdk/internal/util/Preconditions", name := "checkIndex", desc := "(IILjava/util/function/BiFunction;)I" } : Jvm.MethodName) prog_48_method_11_code (3 : Nat) (Option.some Jvm.ClassFile.FieldType.int)) ∈ lw_all := lw_g (lw_at lw_m2 88 rfl) rfl

/-! java/lang/StringUTF16 -/
set_option maxRecDepth 100000
def RJ7 : String := "java/lang/StringUTF16"
abbrev cJ7_charAt : ByteArray := prog_33_method_83_code
def yJ7_charAt : MethodName := ⟨RJ7, "charAt", "([BI)C"⟩
def dkwJ7_charAt_0 : List UInt8 := [27, 42, 184, 0, 67, 42, 27, 184, 0, 71, 172]
abbrev dktJ7_charAt_0 : List UInt8 := dkwJ7_charAt_0 ++ []
theorem dksJ7_charAt_0 : cJ7_charAt.data.toList.drop 0 = dktJ7_charAt_0 := by decide +kernel
theorem dJ7_charAt_0 : decode cJ7_charAt 0 = .ok (.iload_n 1, 1) := dk_27 (dk_at dksJ7_charAt_0 0 rfl rfl)
theorem dJ7_charAt_1 : decode cJ7_charAt 1 = .ok (.aload_n 0, 1) := dk_42 (dk_at dksJ7_charAt_0 1 rfl rfl)
theorem dJ7_charAt_2 : decode cJ7_charAt 2 = .ok (.invokestatic 67, 3) := dk_184 0 67 (dk_at dksJ7_charAt_0 2 rfl rfl)
theorem dJ7_charAt_5 : decode cJ7_charAt 5 = .ok (.aload_n 0, 1) := dk_42 (dk_at dksJ7_charAt_0 5 rfl rfl)
theorem dJ7_charAt_6 : decode cJ7_charAt 6 = .ok (.iload_n 1, 1) := dk_27 (dk_at dksJ7_charAt_0 6 rfl rfl)
theorem dJ7_charAt_7 : decode cJ7_charAt 7 = .ok (.invokestatic 71, 3) := dk_184 0 71 (dk_at dksJ7_charAt_0 7 rfl rfl)
theorem dJ7_charAt_10 : decode cJ7_charAt 10 = .ok (.ireturn, 1) := dk_172 (dk_at dksJ7_charAt_0 10 rfl rfl)
abbrev cJ7_checkIndex : ByteArray := prog_33_method_91_code
def yJ7_checkIndex : MethodName := ⟨RJ7, "checkIndex", "(I[B)V"⟩
def dkwJ7_checkIndex_0 : List UInt8 := [26, 43, 184, 0, 48, 184, 1, 158, 177]
abbrev dktJ7_checkIndex_0 : List UInt8 := dkwJ7_checkIndex_0 ++ []
theorem dksJ7_checkIndex_0 : cJ7_checkIndex.data.toList.drop 0 = dktJ7_checkIndex_0 := by decide +kernel
theorem dJ7_checkIndex_0 : decode cJ7_checkIndex 0 = .ok (.iload_n 0, 1) := dk_26 (dk_at dksJ7_checkIndex_0 0 rfl rfl)
theorem dJ7_checkIndex_1 : decode cJ7_checkIndex 1 = .ok (.aload_n 1, 1) := dk_43 (dk_at dksJ7_checkIndex_0 1 rfl rfl)
theorem dJ7_checkIndex_2 : decode cJ7_checkIndex 2 = .ok (.invokestatic 48, 3) := dk_184 0 48 (dk_at dksJ7_checkIndex_0 2 rfl rfl)
theorem dJ7_checkIndex_5 : decode cJ7_checkIndex 5 = .ok (.invokestatic 414, 3) := dk_184 1 158 (dk_at dksJ7_checkIndex_0 5 rfl rfl)
theorem dJ7_checkIndex_8 : decode cJ7_checkIndex 8 = .ok (.return_, 1) := dk_177 (dk_at dksJ7_checkIndex_0 8 rfl rfl)
abbrev cJ7_length : ByteArray := prog_33_method_6_code
def yJ7_length : MethodName := ⟨RJ7, "length", "([B)I"⟩
def dkwJ7_length_0 : List UInt8 := [42, 190, 4, 122, 172]
abbrev dktJ7_length_0 : List UInt8 := dkwJ7_length_0 ++ []
theorem dksJ7_length_0 : cJ7_length.data.toList.drop 0 = dktJ7_length_0 := by decide +kernel
theorem dJ7_length_0 : decode cJ7_length 0 = .ok (.aload_n 0, 1) := dk_42 (dk_at dksJ7_length_0 0 rfl rfl)
theorem dJ7_length_1 : decode cJ7_length 1 = .ok (.arraylength, 1) := dk_190 (dk_at dksJ7_length_0 1 rfl rfl)
theorem dJ7_length_2 : decode cJ7_length 2 = .ok (.iconst 1, 1) := dk_4 (dk_at dksJ7_length_0 2 rfl rfl)
theorem dJ7_length_3 : decode cJ7_length 3 = .ok (.ishr, 1) := dk_122 (dk_at dksJ7_length_0 3 rfl rfl)
theorem dJ7_length_4 : decode cJ7_length 4 = .ok (.ireturn, 1) := dk_172 (dk_at dksJ7_length_0 4 rfl rfl)
abbrev cJ7_getChar : ByteArray := prog_33_method_5_code
def yJ7_getChar : MethodName := ⟨RJ7, "getChar", "([BI)C"⟩
def dkwJ7_getChar_2 : List UInt8 := [51, 17, 0, 255, 126, 178, 0, 63, 120, 128, 146, 172]
abbrev dktJ7_getChar_2 : List UInt8 := dkwJ7_getChar_2 ++ []
def dkwJ7_getChar_1 : List UInt8 := [183, 0, 56, 191, 27, 4, 120, 60, 42, 27, 132, 1, 1, 51, 17, 0, 255, 126, 178, 0, 59, 120, 42, 27]
abbrev dktJ7_getChar_1 : List UInt8 := dkwJ7_getChar_1 ++ dktJ7_getChar_2
def dkwJ7_getChar_0 : List UInt8 := [178, 0, 44, 154, 0, 25, 27, 155, 0, 11, 27, 42, 184, 0, 48, 161, 0, 13, 187, 0, 52, 89, 18, 54]
abbrev dktJ7_getChar_0 : List UInt8 := dkwJ7_getChar_0 ++ dktJ7_getChar_1
theorem dksJ7_getChar_0 : cJ7_getChar.data.toList.drop 0 = dktJ7_getChar_0 := by decide +kernel
theorem dksJ7_getChar_1 : cJ7_getChar.data.toList.drop 24 = dktJ7_getChar_1 := dk_seg dksJ7_getChar_0 24 rfl rfl
theorem dksJ7_getChar_2 : cJ7_getChar.data.toList.drop 48 = dktJ7_getChar_2 := dk_seg dksJ7_getChar_1 24 rfl rfl
theorem dJ7_getChar_0 : decode cJ7_getChar 0 = .ok (.getstatic 44, 3) := dk_178 0 44 (dk_at dksJ7_getChar_0 0 rfl rfl)
theorem dJ7_getChar_3 : decode cJ7_getChar 3 = .ok (.ifCond .ne 25, 3) := dk_154 0 25 (dk_at dksJ7_getChar_0 3 rfl rfl)
theorem dJ7_getChar_6 : decode cJ7_getChar 6 = .ok (.iload_n 1, 1) := dk_27 (dk_at dksJ7_getChar_0 6 rfl rfl)
theorem dJ7_getChar_7 : decode cJ7_getChar 7 = .ok (.ifCond .lt 11, 3) := dk_155 0 11 (dk_at dksJ7_getChar_0 7 rfl rfl)
theorem dJ7_getChar_10 : decode cJ7_getChar 10 = .ok (.iload_n 1, 1) := dk_27 (dk_at dksJ7_getChar_0 10 rfl rfl)
theorem dJ7_getChar_11 : decode cJ7_getChar 11 = .ok (.aload_n 0, 1) := dk_42 (dk_at dksJ7_getChar_0 11 rfl rfl)
theorem dJ7_getChar_12 : decode cJ7_getChar 12 = .ok (.invokestatic 48, 3) := dk_184 0 48 (dk_at dksJ7_getChar_0 12 rfl rfl)
theorem dJ7_getChar_15 : decode cJ7_getChar 15 = .ok (.if_icmp .lt 13, 3) := dk_161 0 13 (dk_at dksJ7_getChar_0 15 rfl rfl)
theorem dJ7_getChar_18 : decode cJ7_getChar 18 = .ok (.new 52, 3) := dk_187 0 52 (dk_at dksJ7_getChar_0 18 rfl rfl)
theorem dJ7_getChar_21 : decode cJ7_getChar 21 = .ok (.dup, 1) := dk_89 (dk_at dksJ7_getChar_0 21 rfl rfl)
theorem dJ7_getChar_22 : decode cJ7_getChar 22 = .ok (.ldc 54, 2) := dk_18 54 (dk_at dksJ7_getChar_0 22 rfl rfl)
theorem dJ7_getChar_24 : decode cJ7_getChar 24 = .ok (.invokespecial 56, 3) := dk_183 0 56 (dk_at dksJ7_getChar_1 0 rfl rfl)
theorem dJ7_getChar_27 : decode cJ7_getChar 27 = .ok (.athrow, 1) := dk_191 (dk_at dksJ7_getChar_1 3 rfl rfl)
theorem dJ7_getChar_28 : decode cJ7_getChar 28 = .ok (.iload_n 1, 1) := dk_27 (dk_at dksJ7_getChar_1 4 rfl rfl)
theorem dJ7_getChar_29 : decode cJ7_getChar 29 = .ok (.iconst 1, 1) := dk_4 (dk_at dksJ7_getChar_1 5 rfl rfl)
theorem dJ7_getChar_30 : decode cJ7_getChar 30 = .ok (.ishl, 1) := dk_120 (dk_at dksJ7_getChar_1 6 rfl rfl)
theorem dJ7_getChar_31 : decode cJ7_getChar 31 = .ok (.istore_n 1, 1) := dk_60 (dk_at dksJ7_getChar_1 7 rfl rfl)
theorem dJ7_getChar_32 : decode cJ7_getChar 32 = .ok (.aload_n 0, 1) := dk_42 (dk_at dksJ7_getChar_1 8 rfl rfl)
theorem dJ7_getChar_33 : decode cJ7_getChar 33 = .ok (.iload_n 1, 1) := dk_27 (dk_at dksJ7_getChar_1 9 rfl rfl)
theorem dJ7_getChar_34 : decode cJ7_getChar 34 = .ok (.iinc 1 1, 3) := dk_132 1 1 (dk_at dksJ7_getChar_1 10 rfl rfl)
theorem dJ7_getChar_37 : decode cJ7_getChar 37 = .ok (.baload, 1) := dk_51 (dk_at dksJ7_getChar_1 13 rfl rfl)
theorem dJ7_getChar_38 : decode cJ7_getChar 38 = .ok (.sipush 255, 3) := dk_17 0 255 (dk_at dksJ7_getChar_1 14 rfl rfl)
theorem dJ7_getChar_41 : decode cJ7_getChar 41 = .ok (.iand, 1) := dk_126 (dk_at dksJ7_getChar_1 17 rfl rfl)
theorem dJ7_getChar_42 : decode cJ7_getChar 42 = .ok (.getstatic 59, 3) := dk_178 0 59 (dk_at dksJ7_getChar_1 18 rfl rfl)
theorem dJ7_getChar_45 : decode cJ7_getChar 45 = .ok (.ishl, 1) := dk_120 (dk_at dksJ7_getChar_1 21 rfl rfl)
theorem dJ7_getChar_46 : decode cJ7_getChar 46 = .ok (.aload_n 0, 1) := dk_42 (dk_at dksJ7_getChar_1 22 rfl rfl)
theorem dJ7_getChar_47 : decode cJ7_getChar 47 = .ok (.iload_n 1, 1) := dk_27 (dk_at dksJ7_getChar_1 23 rfl rfl)
theorem dJ7_getChar_48 : decode cJ7_getChar 48 = .ok (.baload, 1) := dk_51 (dk_at dksJ7_getChar_2 0 rfl rfl)
theorem dJ7_getChar_49 : decode cJ7_getChar 49 = .ok (.sipush 255, 3) := dk_17 0 255 (dk_at dksJ7_getChar_2 1 rfl rfl)
theorem dJ7_getChar_52 : decode cJ7_getChar 52 = .ok (.iand, 1) := dk_126 (dk_at dksJ7_getChar_2 4 rfl rfl)
theorem dJ7_getChar_53 : decode cJ7_getChar 53 = .ok (.getstatic 63, 3) := dk_178 0 63 (dk_at dksJ7_getChar_2 5 rfl rfl)
theorem dJ7_getChar_56 : decode cJ7_getChar 56 = .ok (.ishl, 1) := dk_120 (dk_at dksJ7_getChar_2 8 rfl rfl)
theorem dJ7_getChar_57 : decode cJ7_getChar 57 = .ok (.ior, 1) := dk_128 (dk_at dksJ7_getChar_2 9 rfl rfl)
theorem dJ7_getChar_58 : decode cJ7_getChar 58 = .ok (.i2c, 1) := dk_146 (dk_at dksJ7_getChar_2 10 rfl rfl)
theorem dJ7_getChar_59 : decode cJ7_getChar 59 = .ok (.ireturn, 1) := dk_172 (dk_at dksJ7_getChar_2 11 rfl rfl)
theorem q137 : (Jvm.Cond.initialized "java/lang/StringUTF16") ∈ lw_all := lw_g (lw_at lw_m1 14 rfl) rfl
theorem q453 : (Jvm.Cond.static ({ cls := "java/lang/StringUTF16", name := "charAt", desc := "([BI)C" } : Jvm.MethodName)) ∈ lw_all := lw_g (lw_at lw_m2 90 rfl) rfl
theorem q454 : (Jvm.Cond.code ({ cls := "java/lang/StringUTF16", name := "charAt", desc := "([BI)C" } : Jvm.MethodName) prog_33_method_83_code (2 : Nat) (Option.some Jvm.ClassFile.FieldType.char)) ∈ lw_all := lw_g (lw_at lw_m2 91 rfl) rfl
theorem q455 : (Jvm.Cond.methodLink "java/lang/StringUTF16" (67 : Nat) ({ cls := "java/lang/StringUTF16", name := "checkIndex", desc := "(I[B)V" } : Jvm.MethodName)) ∈ lw_all := lw_g (lw_at lw_m2 92 rfl) rfl
theorem q456 : (Jvm.Cond.static ({ cls := "java/lang/StringUTF16", name := "checkIndex", desc := "(I[B)V" } : Jvm.MethodName)) ∈ lw_all := lw_g (lw_at lw_m2 93 rfl) rfl
theorem q457 : (Jvm.Cond.code ({ cls := "java/lang/StringUTF16", name := "checkIndex", desc := "(I[B)V" } : Jvm.MethodName) prog_33_method_91_code (2 : Nat) (Option.none : Option Jvm.ClassFile.FieldType)) ∈ lw_all := lw_g (lw_at lw_m2 94 rfl) rfl
theorem q458 : (Jvm.Cond.methodLink "java/lang/StringUTF16" (48 : Nat) ({ cls := "java/lang/StringUTF16", name := "length", desc := "([B)I" } : Jvm.MethodName)) ∈ lw_all := lw_g (lw_at lw_m2 95 rfl) rfl
theorem q459 : (Jvm.Cond.static ({ cls := "java/lang/StringUTF16", name := "length", desc := "([B)I" } : Jvm.MethodName)) ∈ lw_all := lw_g (lw_at lw_m2 96 rfl) rfl
theorem q460 : (Jvm.Cond.code ({ cls := "java/lang/StringUTF16", name := "length", desc := "([B)I" } : Jvm.MethodName) prog_33_method_6_code (1 : Nat) (Option.some Jvm.ClassFile.FieldType.int)) ∈ lw_all := lw_g (lw_at lw_m2 97 rfl) rfl
theorem q461 : (Jvm.Cond.methodLink "java/lang/StringUTF16" (414 : Nat) ({ cls := "java/lang/String", name := "checkIndex", desc := "(II)V" } : Jvm.MethodName)) ∈ lw_all := lw_g (lw_at lw_m2 98 rfl) rfl
theorem q462 : (Jvm.Cond.methodLink "java/lang/StringUTF16" (71 : Nat) ({ cls := "java/lang/StringUTF16", name := "getChar", desc := "([BI)C" } : Jvm.MethodName)) ∈ lw_all := lw_g (lw_at lw_m2 99 rfl) rfl
theorem q463 : (Jvm.Cond.static ({ cls := "java/lang/StringUTF16", name := "getChar", desc := "([BI)C" } : Jvm.MethodName)) ∈ lw_all := lw_g (lw_at lw_m2 100 rfl) rfl
theorem q464 : (Jvm.Cond.code ({ cls := "java/lang/StringUTF16", name := "getChar", desc := "([BI)C" } : Jvm.MethodName) prog_33_method_5_code (2 : Nat) (Option.some Jvm.ClassFile.FieldType.char)) ∈ lw_all := lw_g (lw_at lw_m2 101 rfl) rfl
theorem q465 : (Jvm.Cond.fieldLink "java/lang/StringUTF16" (44 : Nat) "java/lang/StringUTF16" "$assertionsDisabled" "Z") ∈ lw_all := lw_g (lw_at lw_m2 102 rfl) rfl
theorem q466 : (Jvm.Cond.laysStatic "java/lang/StringUTF16" "$assertionsDisabled" "Z") ∈ lw_tbl := lw_at lw_m2 103 rfl
theorem q467 : (Jvm.Cond.fieldLink "java/lang/StringUTF16" (59 : Nat) "java/lang/StringUTF16" "HI_BYTE_SHIFT" "I") ∈ lw_all := lw_g (lw_at lw_m2 104 rfl) rfl
theorem q468 : (Jvm.Cond.laysStatic "java/lang/StringUTF16" "HI_BYTE_SHIFT" "I") ∈ lw_tbl := lw_at lw_m2 105 rfl
theorem q469 : (Jvm.Cond.fieldLink "java/lang/StringUTF16" (63 : Nat) "java/lang/StringUTF16" "LO_BYTE_SHIFT" "I") ∈ lw_all := lw_g (lw_at lw_m2 106 rfl) rfl
theorem q470 : (Jvm.Cond.laysStatic "java/lang/StringUTF16" "LO_BYTE_SHIFT" "I") ∈ lw_tbl := lw_at lw_m2 107 rfl

/-! java/lang/Math -/
set_option maxRecDepth 100000
def RJ8 : String := "java/lang/Math"
abbrev cJ8_min : ByteArray := prog_28_method_69_code
def yJ8_min : MethodName := ⟨RJ8, "min", "(II)I"⟩
def dkwJ8_min_0 : List UInt8 := [26, 27, 163, 0, 7, 26, 167, 0, 4, 27, 172]
abbrev dktJ8_min_0 : List UInt8 := dkwJ8_min_0 ++ []
theorem dksJ8_min_0 : cJ8_min.data.toList.drop 0 = dktJ8_min_0 := by decide +kernel
theorem dJ8_min_0 : decode cJ8_min 0 = .ok (.iload_n 0, 1) := dk_26 (dk_at dksJ8_min_0 0 rfl rfl)
theorem dJ8_min_1 : decode cJ8_min 1 = .ok (.iload_n 1, 1) := dk_27 (dk_at dksJ8_min_0 1 rfl rfl)
theorem dJ8_min_2 : decode cJ8_min 2 = .ok (.if_icmp .gt 7, 3) := dk_163 0 7 (dk_at dksJ8_min_0 2 rfl rfl)
theorem dJ8_min_5 : decode cJ8_min 5 = .ok (.iload_n 0, 1) := dk_26 (dk_at dksJ8_min_0 5 rfl rfl)
theorem dJ8_min_6 : decode cJ8_min 6 = .ok (.goto 4, 3) := dk_167 0 4 (dk_at dksJ8_min_0 6 rfl rfl)
theorem dJ8_min_9 : decode cJ8_min 9 = .ok (.iload_n 1, 1) := dk_27 (dk_at dksJ8_min_0 9 rfl rfl)
theorem dJ8_min_10 : decode cJ8_min 10 = .ok (.ireturn, 1) := dk_172 (dk_at dksJ8_min_0 10 rfl rfl)
abbrev cJ8_max : ByteArray := prog_28_method_65_code
def yJ8_max : MethodName := ⟨RJ8, "max", "(II)I"⟩
def dkwJ8_max_0 : List UInt8 := [26, 27, 161, 0, 7, 26, 167, 0, 4, 27, 172]
abbrev dktJ8_max_0 : List UInt8 := dkwJ8_max_0 ++ []
theorem dksJ8_max_0 : cJ8_max.data.toList.drop 0 = dktJ8_max_0 := by decide +kernel
theorem dJ8_max_0 : decode cJ8_max 0 = .ok (.iload_n 0, 1) := dk_26 (dk_at dksJ8_max_0 0 rfl rfl)
theorem dJ8_max_1 : decode cJ8_max 1 = .ok (.iload_n 1, 1) := dk_27 (dk_at dksJ8_max_0 1 rfl rfl)
theorem dJ8_max_2 : decode cJ8_max 2 = .ok (.if_icmp .lt 7, 3) := dk_161 0 7 (dk_at dksJ8_max_0 2 rfl rfl)
theorem dJ8_max_5 : decode cJ8_max 5 = .ok (.iload_n 0, 1) := dk_26 (dk_at dksJ8_max_0 5 rfl rfl)
theorem dJ8_max_6 : decode cJ8_max 6 = .ok (.goto 4, 3) := dk_167 0 4 (dk_at dksJ8_max_0 6 rfl rfl)
theorem dJ8_max_9 : decode cJ8_max 9 = .ok (.iload_n 1, 1) := dk_27 (dk_at dksJ8_max_0 9 rfl rfl)
theorem dJ8_max_10 : decode cJ8_max 10 = .ok (.ireturn, 1) := dk_172 (dk_at dksJ8_max_0 10 rfl rfl)
abbrev cJ8_min_2 : ByteArray := prog_28_method_70_code
def yJ8_min_2 : MethodName := ⟨RJ8, "min", "(JJ)J"⟩
def dkwJ8_min_2_0 : List UInt8 := [30, 32, 148, 157, 0, 7, 30, 167, 0, 4, 32, 173]
abbrev dktJ8_min_2_0 : List UInt8 := dkwJ8_min_2_0 ++ []
theorem dksJ8_min_2_0 : cJ8_min_2.data.toList.drop 0 = dktJ8_min_2_0 := by decide +kernel
theorem dJ8_min_2_0 : decode cJ8_min_2 0 = .ok (.lload_n 0, 1) := dk_30 (dk_at dksJ8_min_2_0 0 rfl rfl)
theorem dJ8_min_2_1 : decode cJ8_min_2 1 = .ok (.lload_n 2, 1) := dk_32 (dk_at dksJ8_min_2_0 1 rfl rfl)
theorem dJ8_min_2_2 : decode cJ8_min_2 2 = .ok (.lcmp, 1) := dk_148 (dk_at dksJ8_min_2_0 2 rfl rfl)
theorem dJ8_min_2_3 : decode cJ8_min_2 3 = .ok (.ifCond .gt 7, 3) := dk_157 0 7 (dk_at dksJ8_min_2_0 3 rfl rfl)
theorem dJ8_min_2_6 : decode cJ8_min_2 6 = .ok (.lload_n 0, 1) := dk_30 (dk_at dksJ8_min_2_0 6 rfl rfl)
theorem dJ8_min_2_7 : decode cJ8_min_2 7 = .ok (.goto 4, 3) := dk_167 0 4 (dk_at dksJ8_min_2_0 7 rfl rfl)
theorem dJ8_min_2_10 : decode cJ8_min_2 10 = .ok (.lload_n 2, 1) := dk_32 (dk_at dksJ8_min_2_0 10 rfl rfl)
theorem dJ8_min_2_11 : decode cJ8_min_2 11 = .ok (.lreturn, 1) := dk_173 (dk_at dksJ8_min_2_0 11 rfl rfl)
abbrev cJ8_max_2 : ByteArray := prog_28_method_66_code
def yJ8_max_2 : MethodName := ⟨RJ8, "max", "(JJ)J"⟩
def dkwJ8_max_2_0 : List UInt8 := [30, 32, 148, 155, 0, 7, 30, 167, 0, 4, 32, 173]
abbrev dktJ8_max_2_0 : List UInt8 := dkwJ8_max_2_0 ++ []
theorem dksJ8_max_2_0 : cJ8_max_2.data.toList.drop 0 = dktJ8_max_2_0 := by decide +kernel
theorem dJ8_max_2_0 : decode cJ8_max_2 0 = .ok (.lload_n 0, 1) := dk_30 (dk_at dksJ8_max_2_0 0 rfl rfl)
theorem dJ8_max_2_1 : decode cJ8_max_2 1 = .ok (.lload_n 2, 1) := dk_32 (dk_at dksJ8_max_2_0 1 rfl rfl)
theorem dJ8_max_2_2 : decode cJ8_max_2 2 = .ok (.lcmp, 1) := dk_148 (dk_at dksJ8_max_2_0 2 rfl rfl)
theorem dJ8_max_2_3 : decode cJ8_max_2 3 = .ok (.ifCond .lt 7, 3) := dk_155 0 7 (dk_at dksJ8_max_2_0 3 rfl rfl)
theorem dJ8_max_2_6 : decode cJ8_max_2 6 = .ok (.lload_n 0, 1) := dk_30 (dk_at dksJ8_max_2_0 6 rfl rfl)
theorem dJ8_max_2_7 : decode cJ8_max_2 7 = .ok (.goto 4, 3) := dk_167 0 4 (dk_at dksJ8_max_2_0 7 rfl rfl)
theorem dJ8_max_2_10 : decode cJ8_max_2 10 = .ok (.lload_n 2, 1) := dk_32 (dk_at dksJ8_max_2_0 10 rfl rfl)
theorem dJ8_max_2_11 : decode cJ8_max_2 11 = .ok (.lreturn, 1) := dk_173 (dk_at dksJ8_max_2_0 11 rfl rfl)
theorem q138 : (Jvm.Cond.initialized "java/lang/Math") ∈ lw_all := lw_g (lw_at lw_m1 15 rfl) rfl
theorem q476 : (Jvm.Cond.static ({ cls := "java/lang/Math", name := "min", desc := "(II)I" } : Jvm.MethodName)) ∈ lw_all := lw_g (lw_at lw_m2 113 rfl) rfl
theorem q477 : (Jvm.Cond.code ({ cls := "java/lang/Math", name := "min", desc := "(II)I" } : Jvm.MethodName) prog_28_method_69_code (2 : Nat) (Option.some Jvm.ClassFile.FieldType.int)) ∈ lw_all := lw_g (lw_at lw_m2 114 rfl) rfl
theorem q650 : (Jvm.Cond.static ({ cls := "java/lang/Math", name := "max", desc := "(II)I" } : Jvm.MethodName)) ∈ lw_all := lw_g (lw_at lw_m3 47 rfl) rfl
theorem q651 : (Jvm.Cond.code ({ cls := "java/lang/Math", name := "max", desc := "(II)I" } : Jvm.MethodName) prog_28_method_65_code (2 : Nat) (Option.some Jvm.ClassFile.FieldType.int)) ∈ lw_all := lw_g (lw_at lw_m3 48 rfl) rfl
theorem q998 : (Jvm.Cond.static ({ cls := "java/lang/Math", name := "min", desc := "(JJ)J" } : Jvm.MethodName)) ∈ lw_all := lw_g (lw_at lw_m4 155 rfl) rfl
theorem q999 : (Jvm.Cond.code ({ cls := "java/lang/Math", name := "min", desc := "(JJ)J" } : Jvm.MethodName) prog_28_method_70_code (4 : Nat) (Option.some Jvm.ClassFile.FieldType.long)) ∈ lw_all := lw_g (lw_at lw_m4 156 rfl) rfl
theorem q1001 : (Jvm.Cond.static ({ cls := "java/lang/Math", name := "max", desc := "(JJ)J" } : Jvm.MethodName)) ∈ lw_all := lw_g (lw_at lw_m4 158 rfl) rfl
theorem q1002 : (Jvm.Cond.code ({ cls := "java/lang/Math", name := "max", desc := "(JJ)J" } : Jvm.MethodName) prog_28_method_66_code (4 : Nat) (Option.some Jvm.ClassFile.FieldType.long)) ∈ lw_all := lw_g (lw_at lw_m4 159 rfl) rfl

/-! java/lang/Throwable -/
set_option maxRecDepth 100000
def RJ9 : String := "java/lang/Throwable"
def TJ9 : u_T := fun k => match k with
  | 0 => ("java/lang/Throwable", "cause", "Ljava/lang/Throwable;", false)
  | 1 => ("java/lang/Throwable", "stackTrace", "[Ljava/lang/StackTraceElement;", false)
  | 2 => ("java/lang/Throwable", "suppressedExceptions", "Ljava/util/List;", false)
  | 3 => ("java/lang/Throwable", "detailMessage", "Ljava/lang/String;", false)
  | _ => ("java/lang/Throwable", "backtrace", "Ljava/lang/Object;", false)
def tyJ9 : Nat → FieldType := fun k => match k with
  | 0 => .object "java/lang/Throwable"
  | 1 => .array (.object "java/lang/StackTraceElement")
  | 2 => .object "java/util/List"
  | 3 => .object "java/lang/String"
  | _ => .object "java/lang/Object"
abbrev wsJ90 : List Cond := u_ws RJ9 TJ9 5
theorem nmJ9 : ∀ a, a < 5 → ∀ b, b < 5 → a ≠ b → (TJ9 a).2.1 ≠ (TJ9 b).2.1 := by decide +kernel
theorem tyJ9_ok : ∀ k, k < 5 → parseFieldDescriptor (TJ9 k).2.2.1 = some (tyJ9 k) := by decide +kernel
abbrev cJ9_init : ByteArray := prog_35_method_1_code
def yJ9_init : MethodName := ⟨RJ9, "<init>", "()V"⟩
def dkwJ9_init_1 : List UInt8 := [182, 0, 27, 87, 177]
abbrev dktJ9_init_1 : List UInt8 := dkwJ9_init_1 ++ []
def dkwJ9_init_0 : List UInt8 := [42, 183, 0, 1, 42, 42, 181, 0, 7, 42, 178, 0, 13, 181, 0, 17, 42, 178, 0, 20, 181, 0, 24, 42]
abbrev dktJ9_init_0 : List UInt8 := dkwJ9_init_0 ++ dktJ9_init_1
theorem dksJ9_init_0 : cJ9_init.data.toList.drop 0 = dktJ9_init_0 := by decide +kernel
theorem dksJ9_init_1 : cJ9_init.data.toList.drop 24 = dktJ9_init_1 := dk_seg dksJ9_init_0 24 rfl rfl
theorem dJ9_init_0 : decode cJ9_init 0 = .ok (.aload_n 0, 1) := dk_42 (dk_at dksJ9_init_0 0 rfl rfl)
theorem dJ9_init_1 : decode cJ9_init 1 = .ok (.invokespecial 1, 3) := dk_183 0 1 (dk_at dksJ9_init_0 1 rfl rfl)
theorem dJ9_init_4 : decode cJ9_init 4 = .ok (.aload_n 0, 1) := dk_42 (dk_at dksJ9_init_0 4 rfl rfl)
theorem dJ9_init_5 : decode cJ9_init 5 = .ok (.aload_n 0, 1) := dk_42 (dk_at dksJ9_init_0 5 rfl rfl)
theorem dJ9_init_6 : decode cJ9_init 6 = .ok (.putfield 7, 3) := dk_181 0 7 (dk_at dksJ9_init_0 6 rfl rfl)
theorem dJ9_init_9 : decode cJ9_init 9 = .ok (.aload_n 0, 1) := dk_42 (dk_at dksJ9_init_0 9 rfl rfl)
theorem dJ9_init_10 : decode cJ9_init 10 = .ok (.getstatic 13, 3) := dk_178 0 13 (dk_at dksJ9_init_0 10 rfl rfl)
theorem dJ9_init_13 : decode cJ9_init 13 = .ok (.putfield 17, 3) := dk_181 0 17 (dk_at dksJ9_init_0 13 rfl rfl)
theorem dJ9_init_16 : decode cJ9_init 16 = .ok (.aload_n 0, 1) := dk_42 (dk_at dksJ9_init_0 16 rfl rfl)
theorem dJ9_init_17 : decode cJ9_init 17 = .ok (.getstatic 20, 3) := dk_178 0 20 (dk_at dksJ9_init_0 17 rfl rfl)
theorem dJ9_init_20 : decode cJ9_init 20 = .ok (.putfield 24, 3) := dk_181 0 24 (dk_at dksJ9_init_0 20 rfl rfl)
theorem dJ9_init_23 : decode cJ9_init 23 = .ok (.aload_n 0, 1) := dk_42 (dk_at dksJ9_init_0 23 rfl rfl)
theorem dJ9_init_24 : decode cJ9_init 24 = .ok (.invokevirtual 27, 3) := dk_182 0 27 (dk_at dksJ9_init_1 0 rfl rfl)
theorem dJ9_init_27 : decode cJ9_init 27 = .ok (.pop, 1) := dk_87 (dk_at dksJ9_init_1 3 rfl rfl)
theorem dJ9_init_28 : decode cJ9_init 28 = .ok (.return_, 1) := dk_177 (dk_at dksJ9_init_1 4 rfl rfl)
theorem q139 : (Jvm.Cond.initialized "java/lang/Throwable") ∈ lw_all := lw_g (lw_at lw_m1 16 rfl) rfl
theorem q488 : (Jvm.Cond.declares ({ cls := "java/lang/Throwable", name := "<init>", desc := "()V" } : Jvm.MethodName)) ∈ lw_tbl := lw_at lw_m2 125 rfl
theorem q489 : (Jvm.Cond.declares ({ cls := "java/lang/Throwable", name := "<init>", desc := "(Ljava/lang/String;)V" } : Jvm.MethodName)) ∈ lw_tbl := lw_at lw_m2 126 rfl
theorem q493 : (Jvm.Cond.lays "java/lang/Throwable" "java/lang/Throwable" "cause" "Ljava/lang/Throwable;") ∈ lw_all := lw_g (lw_at lw_m2 130 rfl) rfl
theorem q495 : (Jvm.Cond.lays "java/lang/Throwable" "java/lang/Throwable" "stackTrace" "[Ljava/lang/StackTraceElement;") ∈ lw_all := lw_g (lw_at lw_m2 132 rfl) rfl
theorem q497 : (Jvm.Cond.lays "java/lang/Throwable" "java/lang/Throwable" "suppressedExceptions" "Ljava/util/List;") ∈ lw_all := lw_g (lw_at lw_m2 134 rfl) rfl
theorem q499 : (Jvm.Cond.lays "java/lang/Throwable" "java/lang/Throwable" "detailMessage" "Ljava/lang/String;") ∈ lw_all := lw_g (lw_at lw_m2 136 rfl) rfl
theorem q501 : (Jvm.Cond.lays "java/lang/Throwable" "java/lang/Throwable" "backtrace" "Ljava/lang/Object;") ∈ lw_all := lw_g (lw_at lw_m2 138 rfl) rfl
theorem q502 : (Jvm.Cond.fieldLink "java/lang/Throwable" (198 : Nat) "java/lang/Throwable" "backtrace" "Ljava/lang/Object;") ∈ lw_all := lw_g (lw_at lw_m2 139 rfl) rfl
theorem q503 : (Jvm.Cond.superclass "java/lang/Throwable" "java/lang/Object") ∈ lw_all := lw_g (lw_at lw_m2 140 rfl) rfl
theorem q504 : (Jvm.Cond.instanceMethod ({ cls := "java/lang/Throwable", name := "<init>", desc := "()V" } : Jvm.MethodName)) ∈ lw_all := lw_g (lw_at lw_m2 141 rfl) rfl
theorem q505 : (Jvm.Cond.code ({ cls := "java/lang/Throwable", name := "<init>", desc := "()V" } : Jvm.MethodName) prog_35_method_1_code (1 : Nat) (Option.none : Option Jvm.ClassFile.FieldType)) ∈ lw_all := lw_g (lw_at lw_m2 142 rfl) rfl
theorem q506 : (Jvm.Cond.methodLink "java/lang/Throwable" (1 : Nat) ({ cls := "java/lang/Object", name := "<init>", desc := "()V" } : Jvm.MethodName)) ∈ lw_all := lw_g (lw_at lw_m2 143 rfl) rfl
theorem q507 : (Jvm.Cond.fieldLink "java/lang/Throwable" (13 : Nat) "java/lang/Throwable" "UNASSIGNED_STACK" "[Ljava/lang/StackTraceElement;") ∈ lw_all := lw_g (lw_at lw_m2 144 rfl) rfl
theorem q508 : (Jvm.Cond.laysStatic "java/lang/Throwable" "UNASSIGNED_STACK" "[Ljava/lang/StackTraceElement;") ∈ lw_tbl := lw_at lw_m2 145 rfl
theorem q509 : (Jvm.Cond.fieldLink "java/lang/Throwable" (20 : Nat) "java/lang/Throwable" "SUPPRESSED_SENTINEL" "Ljava/util/List;") ∈ lw_all := lw_g (lw_at lw_m2 146 rfl) rfl
theorem q510 : (Jvm.Cond.laysStatic "java/lang/Throwable" "SUPPRESSED_SENTINEL" "Ljava/util/List;") ∈ lw_tbl := lw_at lw_m2 147 rfl
theorem q511 : (Jvm.Cond.methodLink "java/lang/Throwable" (27 : Nat) ({ cls := "java/lang/Throwable", name := "fillInStackTrace", desc := "()Ljava/lang/Throwable;" } : Jvm.MethodName)) ∈ lw_all := lw_g (lw_at lw_m2 148 rfl) rfl
theorem q512 : (Jvm.Cond.instanceMethod ({ cls := "java/lang/Throwable", name := "fillInStackTrace", desc := "()Ljava/lang/Throwable;" } : Jvm.MethodName)) ∈ lw_all := lw_g (lw_at lw_m2 149 rfl) rfl
theorem q513 : (Jvm.Cond.sameMethod "java/lang/Throwable" "java/lang/Throwable" "fillInStackTrace" "()Ljava/lang/Throwable;") ∈ lw_all := lw_g (lw_at lw_m2 150 rfl) rfl
theorem q514 : (Jvm.Cond.codeSync ({ cls := "java/lang/Throwable", name := "fillInStackTrace", desc := "()Ljava/lang/Throwable;" } : Jvm.MethodName) prog_35_method_18_code (1 : Nat) (Option.some (Jvm.ClassFile.FieldType.object "java/lang/Throwable"))) ∈ lw_all := lw_g (lw_at lw_m2 151 rfl) rfl
theorem q515 : (Jvm.Cond.methodLink "java/lang/Throwable" (202 : Nat) ({ cls := "java/lang/Throwable", name := "fillInStackTrace", desc := "(I)Ljava/lang/Throwable;" } : Jvm.MethodName)) ∈ lw_all := lw_g (lw_at lw_m2 152 rfl) rfl
theorem q516 : (Jvm.Cond.privateMethod ({ cls := "java/lang/Throwable", name := "fillInStackTrace", desc := "(I)Ljava/lang/Throwable;" } : Jvm.MethodName)) ∈ lw_tbl := lw_at lw_m2 153 rfl
theorem q517 : (Jvm.Cond.instanceMethod ({ cls := "java/lang/Throwable", name := "fillInStackTrace", desc := "(I)Ljava/lang/Throwable;" } : Jvm.MethodName)) ∈ lw_all := lw_g (lw_at lw_m2 154 rfl) rfl
theorem q518 : (Jvm.Cond.instantiable "java/lang/Throwable" (6 : Nat)) ∈ lw_all := lw_g (lw_at lw_m2 155 rfl) rfl
theorem q519 : (Jvm.Cond.native ({ cls := "java/lang/Throwable", name := "fillInStackTrace", desc := "(I)Ljava/lang/Throwable;" } : Jvm.MethodName)) ∈ lw_all := lw_g (lw_at lw_m2 156 rfl) rfl
theorem q531 : (Jvm.Cond.fieldLink "java/lang/Throwable" (198 : Nat) "java/lang/Throwable" "backtrace" "Ljava/lang/Object;") ∈ lw_all := lw_g (lw_at lw_m2 168 rfl) rfl
theorem q532 : (Jvm.Cond.fieldLink "java/lang/Throwable" (7 : Nat) "java/lang/Throwable" "cause" "Ljava/lang/Throwable;") ∈ lw_all := lw_g (lw_at lw_m2 169 rfl) rfl
theorem q533 : (Jvm.Cond.fieldLink "java/lang/Throwable" (17 : Nat) "java/lang/Throwable" "stackTrace" "[Ljava/lang/StackTraceElement;") ∈ lw_all := lw_g (lw_at lw_m2 170 rfl) rfl
theorem q534 : (Jvm.Cond.fieldLink "java/lang/Throwable" (24 : Nat) "java/lang/Throwable" "suppressedExceptions" "Ljava/util/List;") ∈ lw_all := lw_g (lw_at lw_m2 171 rfl) rfl
theorem q539 : (Jvm.Cond.soleField "java/lang/Throwable" "backtrace") ∈ lw_all := lw_g (lw_at lw_m2 176 rfl) rfl
theorem q540 : (Jvm.Cond.soleField "java/lang/Throwable" "detailMessage") ∈ lw_all := lw_g (lw_at lw_m2 177 rfl) rfl
theorem q541 : (Jvm.Cond.soleField "java/lang/Throwable" "cause") ∈ lw_all := lw_g (lw_at lw_m2 178 rfl) rfl
theorem q542 : (Jvm.Cond.soleField "java/lang/Throwable" "stackTrace") ∈ lw_all := lw_g (lw_at lw_m2 179 rfl) rfl
theorem q544 : (Jvm.Cond.soleField "java/lang/Throwable" "depth") ∈ lw_all := lw_g (lw_at lw_m2 181 rfl) rfl
theorem q545 : (Jvm.Cond.soleField "java/lang/Throwable" "suppressedExceptions") ∈ lw_all := lw_g (lw_at lw_m2 182 rfl) rfl
theorem q2043 : (Jvm.Cond.sameMethod "java/lang/Throwable" "java/lang/Throwable" "fillInStackTrace" "(I)Ljava/lang/Throwable;") ∈ lw_all := lw_g (lw_at lw_m9 0 rfl) rfl
theorem q2065 : (Jvm.Cond.castable "java/lang/Throwable" "java/lang/Object") ∈ lw_tbl := lw_at lw_m9 22 rfl
theorem in_J9 : ∀ w ∈ wsJ90, w ∈ lw_all := lw_in wsJ90 [493, 495, 497, 499, 501] (by decide +kernel) (by decide +kernel)
