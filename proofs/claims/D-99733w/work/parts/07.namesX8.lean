/-! TurnedBoards$Letter -/
set_option maxRecDepth 100000
def RX8 : String := "TurnedBoards$Letter"
def TX8 : u_T := fun k => match k with
  | 0 => ("TurnedBoards$Letter", "which", "I", true)
  | _ => ("TurnedBoards$Letter", "glyph", "I", true)
def tyX8 : Nat → FieldType := fun k => match k with
  | 0 => .int
  | _ => .int
abbrev wsX80 : List Cond := u_ws RX8 TX8 2
theorem nmX8 : ∀ a, a < 2 → ∀ b, b < 2 → a ≠ b → (TX8 a).2.1 ≠ (TX8 b).2.1 := by decide +kernel
theorem tyX8_ok : ∀ k, k < 2 → parseFieldDescriptor (TX8 k).2.2.1 = some (tyX8 k) := by decide +kernel
abbrev cX8_init : ByteArray := prog_9_method_1_code
def yX8_init : MethodName := ⟨RX8, "<init>", "(II)V"⟩
def dkwX8_init_0 : List UInt8 := [42, 183, 0, 1, 42, 27, 181, 0, 7, 42, 28, 181, 0, 13, 177]
abbrev dktX8_init_0 : List UInt8 := dkwX8_init_0 ++ []
theorem dksX8_init_0 : cX8_init.data.toList.drop 0 = dktX8_init_0 := by decide +kernel
theorem dX8_init_0 : decode cX8_init 0 = .ok (.aload_n 0, 1) := dk_42 (dk_at dksX8_init_0 0 rfl rfl)
theorem dX8_init_1 : decode cX8_init 1 = .ok (.invokespecial 1, 3) := dk_183 0 1 (dk_at dksX8_init_0 1 rfl rfl)
theorem dX8_init_4 : decode cX8_init 4 = .ok (.aload_n 0, 1) := dk_42 (dk_at dksX8_init_0 4 rfl rfl)
theorem dX8_init_5 : decode cX8_init 5 = .ok (.iload_n 1, 1) := dk_27 (dk_at dksX8_init_0 5 rfl rfl)
theorem dX8_init_6 : decode cX8_init 6 = .ok (.putfield 7, 3) := dk_181 0 7 (dk_at dksX8_init_0 6 rfl rfl)
theorem dX8_init_9 : decode cX8_init 9 = .ok (.aload_n 0, 1) := dk_42 (dk_at dksX8_init_0 9 rfl rfl)
theorem dX8_init_10 : decode cX8_init 10 = .ok (.iload_n 2, 1) := dk_28 (dk_at dksX8_init_0 10 rfl rfl)
theorem dX8_init_11 : decode cX8_init 11 = .ok (.putfield 13, 3) := dk_181 0 13 (dk_at dksX8_init_0 11 rfl rfl)
theorem dX8_init_14 : decode cX8_init 14 = .ok (.return_, 1) := dk_177 (dk_at dksX8_init_0 14 rfl rfl)
abbrev cX8_ink : ByteArray := prog_9_method_2_code
def yX8_ink : MethodName := ⟨RX8, "ink", "()I"⟩
def dkwX8_ink_0 : List UInt8 := [42, 180, 0, 13, 184, 0, 16, 172]
abbrev dktX8_ink_0 : List UInt8 := dkwX8_ink_0 ++ []
theorem dksX8_ink_0 : cX8_ink.data.toList.drop 0 = dktX8_ink_0 := by decide +kernel
theorem dX8_ink_0 : decode cX8_ink 0 = .ok (.aload_n 0, 1) := dk_42 (dk_at dksX8_ink_0 0 rfl rfl)
theorem dX8_ink_1 : decode cX8_ink 1 = .ok (.getfield 13, 3) := dk_180 0 13 (dk_at dksX8_ink_0 1 rfl rfl)
theorem dX8_ink_4 : decode cX8_ink 4 = .ok (.invokestatic 16, 3) := dk_184 0 16 (dk_at dksX8_ink_0 4 rfl rfl)
theorem dX8_ink_7 : decode cX8_ink 7 = .ok (.ireturn, 1) := dk_172 (dk_at dksX8_ink_0 7 rfl rfl)
theorem q191 : (Jvm.Cond.initialized "TurnedBoards$Letter") ∈ lw_all := lw_g (lw_at lw_m1 24 rfl) rfl
theorem q299 : (Jvm.Cond.selects "TurnedBoards$Letter" ({ cls := "java/lang/Object", name := "getClass", desc := "()Ljava/lang/Class;" } : Jvm.MethodName) ({ cls := "java/lang/Object", name := "getClass", desc := "()Ljava/lang/Class;" } : Jvm.MethodName)) ∈ lw_all := lw_g (lw_at lw_m1 132 rfl) rfl
theorem q940 : (Jvm.Cond.instantiable "TurnedBoards$Letter" (2 : Nat)) ∈ lw_all := lw_g (lw_at lw_m4 53 rfl) rfl
theorem q942 : (Jvm.Cond.instanceMethod ({ cls := "TurnedBoards$Letter", name := "<init>", desc := "(II)V" } : Jvm.MethodName)) ∈ lw_all := lw_g (lw_at lw_m4 55 rfl) rfl
theorem q943 : (Jvm.Cond.code ({ cls := "TurnedBoards$Letter", name := "<init>", desc := "(II)V" } : Jvm.MethodName) prog_9_method_1_code (3 : Nat) (Option.none : Option Jvm.ClassFile.FieldType)) ∈ lw_all := lw_g (lw_at lw_m4 56 rfl) rfl
theorem q944 : (Jvm.Cond.methodLink "TurnedBoards$Letter" (1 : Nat) ({ cls := "java/lang/Object", name := "<init>", desc := "()V" } : Jvm.MethodName)) ∈ lw_all := lw_g (lw_at lw_m4 57 rfl) rfl
theorem q945 : (Jvm.Cond.fieldLink "TurnedBoards$Letter" (7 : Nat) "TurnedBoards$Letter" "which" "I") ∈ lw_all := lw_g (lw_at lw_m4 58 rfl) rfl
theorem q948 : (Jvm.Cond.fieldLink "TurnedBoards$Letter" (13 : Nat) "TurnedBoards$Letter" "glyph" "I") ∈ lw_all := lw_g (lw_at lw_m4 61 rfl) rfl
theorem q951 : (Jvm.Cond.laysFinal "TurnedBoards$Letter" "TurnedBoards$Letter" "which" "I") ∈ lw_all := lw_g (lw_at lw_m4 64 rfl) rfl
theorem q952 : (Jvm.Cond.soleField "TurnedBoards$Letter" "which") ∈ lw_all := lw_g (lw_at lw_m4 65 rfl) rfl
theorem q953 : (Jvm.Cond.laysFinal "TurnedBoards$Letter" "TurnedBoards$Letter" "glyph" "I") ∈ lw_all := lw_g (lw_at lw_m4 66 rfl) rfl
theorem q954 : (Jvm.Cond.soleField "TurnedBoards$Letter" "glyph") ∈ lw_all := lw_g (lw_at lw_m4 67 rfl) rfl
theorem q955 : (Jvm.Cond.superclass "TurnedBoards$Letter" "java/lang/Object") ∈ lw_all := lw_g (lw_at lw_m4 68 rfl) rfl
theorem q1362 : (Jvm.Cond.instanceMethod ({ cls := "TurnedBoards$Letter", name := "ink", desc := "()I" } : Jvm.MethodName)) ∈ lw_all := lw_g (lw_at lw_m5 235 rfl) rfl
theorem q1363 : (Jvm.Cond.selects "TurnedBoards$Letter" ({ cls := "TurnedBoards$Letter", name := "ink", desc := "()I" } : Jvm.MethodName) ({ cls := "TurnedBoards$Letter", name := "ink", desc := "()I" } : Jvm.MethodName)) ∈ lw_all := lw_g (lw_at lw_m5 236 rfl) rfl
theorem q1364 : (Jvm.Cond.code ({ cls := "TurnedBoards$Letter", name := "ink", desc := "()I" } : Jvm.MethodName) prog_9_method_2_code (1 : Nat) (Option.some Jvm.ClassFile.FieldType.int)) ∈ lw_all := lw_g (lw_at lw_m5 237 rfl) rfl
theorem q1365 : (Jvm.Cond.methodLink "TurnedBoards$Letter" (16 : Nat) ({ cls := "java/lang/Integer", name := "bitCount", desc := "(I)I" } : Jvm.MethodName)) ∈ lw_all := lw_g (lw_at lw_m5 238 rfl) rfl
theorem q2747 : (Jvm.Cond.castable "TurnedBoards$Letter" "java/lang/Object") ∈ lw_tbl := lw_at lw_m11 180 rfl
theorem in_X8 : ∀ w ∈ wsX80, w ∈ lw_all := lw_in wsX80 [951, 953] (by decide +kernel) (by decide +kernel)
/-! TurnedBoards$Word -/
set_option maxRecDepth 100000
def RX9 : String := "TurnedBoards$Word"
def TX9 : u_T := fun k => match k with
  | _ => ("TurnedBoards$Word", "name", "Ljava/lang/String;", true)
def tyX9 : Nat → FieldType := fun k => match k with
  | _ => .object "java/lang/String"
abbrev wsX90 : List Cond := u_ws RX9 TX9 1
theorem nmX9 : ∀ a, a < 1 → ∀ b, b < 1 → a ≠ b → (TX9 a).2.1 ≠ (TX9 b).2.1 := by decide +kernel
theorem tyX9_ok : ∀ k, k < 1 → parseFieldDescriptor (TX9 k).2.2.1 = some (tyX9 k) := by decide +kernel
abbrev cX9_init : ByteArray := prog_22_method_1_code
def yX9_init : MethodName := ⟨RX9, "<init>", "(Ljava/lang/String;)V"⟩
def dkwX9_init_0 : List UInt8 := [42, 183, 0, 1, 42, 43, 181, 0, 7, 177]
abbrev dktX9_init_0 : List UInt8 := dkwX9_init_0 ++ []
theorem dksX9_init_0 : cX9_init.data.toList.drop 0 = dktX9_init_0 := by decide +kernel
theorem dX9_init_0 : decode cX9_init 0 = .ok (.aload_n 0, 1) := dk_42 (dk_at dksX9_init_0 0 rfl rfl)
theorem dX9_init_1 : decode cX9_init 1 = .ok (.invokespecial 1, 3) := dk_183 0 1 (dk_at dksX9_init_0 1 rfl rfl)
theorem dX9_init_4 : decode cX9_init 4 = .ok (.aload_n 0, 1) := dk_42 (dk_at dksX9_init_0 4 rfl rfl)
theorem dX9_init_5 : decode cX9_init 5 = .ok (.aload_n 1, 1) := dk_43 (dk_at dksX9_init_0 5 rfl rfl)
theorem dX9_init_6 : decode cX9_init 6 = .ok (.putfield 7, 3) := dk_181 0 7 (dk_at dksX9_init_0 6 rfl rfl)
theorem dX9_init_9 : decode cX9_init 9 = .ok (.return_, 1) := dk_177 (dk_at dksX9_init_0 9 rfl rfl)
abbrev cX9_size : ByteArray := prog_22_method_2_code
def yX9_size : MethodName := ⟨RX9, "size", "()I"⟩
def dkwX9_size_0 : List UInt8 := [42, 180, 0, 7, 182, 0, 13, 172]
abbrev dktX9_size_0 : List UInt8 := dkwX9_size_0 ++ []
theorem dksX9_size_0 : cX9_size.data.toList.drop 0 = dktX9_size_0 := by decide +kernel
theorem dX9_size_0 : decode cX9_size 0 = .ok (.aload_n 0, 1) := dk_42 (dk_at dksX9_size_0 0 rfl rfl)
theorem dX9_size_1 : decode cX9_size 1 = .ok (.getfield 7, 3) := dk_180 0 7 (dk_at dksX9_size_0 1 rfl rfl)
theorem dX9_size_4 : decode cX9_size 4 = .ok (.invokevirtual 13, 3) := dk_182 0 13 (dk_at dksX9_size_0 4 rfl rfl)
theorem dX9_size_7 : decode cX9_size 7 = .ok (.ireturn, 1) := dk_172 (dk_at dksX9_size_0 7 rfl rfl)
abbrev cX9_at : ByteArray := prog_22_method_3_code
def yX9_at : MethodName := ⟨RX9, "at", "(I)I"⟩
def dkwX9_at_1 : List UInt8 := [167, 0, 4, 3, 172]
abbrev dktX9_at_1 : List UInt8 := dkwX9_at_1 ++ []
def dkwX9_at_0 : List UInt8 := [27, 42, 180, 0, 7, 182, 0, 13, 162, 0, 19, 42, 180, 0, 7, 27, 182, 0, 19, 16, 97, 100, 4, 96]
abbrev dktX9_at_0 : List UInt8 := dkwX9_at_0 ++ dktX9_at_1
theorem dksX9_at_0 : cX9_at.data.toList.drop 0 = dktX9_at_0 := by decide +kernel
theorem dksX9_at_1 : cX9_at.data.toList.drop 24 = dktX9_at_1 := dk_seg dksX9_at_0 24 rfl rfl
theorem dX9_at_0 : decode cX9_at 0 = .ok (.iload_n 1, 1) := dk_27 (dk_at dksX9_at_0 0 rfl rfl)
theorem dX9_at_1 : decode cX9_at 1 = .ok (.aload_n 0, 1) := dk_42 (dk_at dksX9_at_0 1 rfl rfl)
theorem dX9_at_2 : decode cX9_at 2 = .ok (.getfield 7, 3) := dk_180 0 7 (dk_at dksX9_at_0 2 rfl rfl)
theorem dX9_at_5 : decode cX9_at 5 = .ok (.invokevirtual 13, 3) := dk_182 0 13 (dk_at dksX9_at_0 5 rfl rfl)
theorem dX9_at_8 : decode cX9_at 8 = .ok (.if_icmp .ge 19, 3) := dk_162 0 19 (dk_at dksX9_at_0 8 rfl rfl)
theorem dX9_at_11 : decode cX9_at 11 = .ok (.aload_n 0, 1) := dk_42 (dk_at dksX9_at_0 11 rfl rfl)
theorem dX9_at_12 : decode cX9_at 12 = .ok (.getfield 7, 3) := dk_180 0 7 (dk_at dksX9_at_0 12 rfl rfl)
theorem dX9_at_15 : decode cX9_at 15 = .ok (.iload_n 1, 1) := dk_27 (dk_at dksX9_at_0 15 rfl rfl)
theorem dX9_at_16 : decode cX9_at 16 = .ok (.invokevirtual 19, 3) := dk_182 0 19 (dk_at dksX9_at_0 16 rfl rfl)
theorem dX9_at_19 : decode cX9_at 19 = .ok (.bipush 97, 2) := dk_16 97 (dk_at dksX9_at_0 19 rfl rfl)
theorem dX9_at_21 : decode cX9_at 21 = .ok (.isub, 1) := dk_100 (dk_at dksX9_at_0 21 rfl rfl)
theorem dX9_at_22 : decode cX9_at 22 = .ok (.iconst 1, 1) := dk_4 (dk_at dksX9_at_0 22 rfl rfl)
theorem dX9_at_23 : decode cX9_at 23 = .ok (.iadd, 1) := dk_96 (dk_at dksX9_at_0 23 rfl rfl)
theorem dX9_at_24 : decode cX9_at 24 = .ok (.goto 4, 3) := dk_167 0 4 (dk_at dksX9_at_1 0 rfl rfl)
theorem dX9_at_27 : decode cX9_at 27 = .ok (.iconst 0, 1) := dk_3 (dk_at dksX9_at_1 3 rfl rfl)
theorem dX9_at_28 : decode cX9_at 28 = .ok (.ireturn, 1) := dk_172 (dk_at dksX9_at_1 4 rfl rfl)
theorem q192 : (Jvm.Cond.initialized "TurnedBoards$Word") ∈ lw_all := lw_g (lw_at lw_m1 25 rfl) rfl
theorem q310 : (Jvm.Cond.selects "TurnedBoards$Word" ({ cls := "java/lang/Object", name := "getClass", desc := "()Ljava/lang/Class;" } : Jvm.MethodName) ({ cls := "java/lang/Object", name := "getClass", desc := "()Ljava/lang/Class;" } : Jvm.MethodName)) ∈ lw_all := lw_g (lw_at lw_m1 143 rfl) rfl
theorem q963 : (Jvm.Cond.instantiable "TurnedBoards$Word" (1 : Nat)) ∈ lw_all := lw_g (lw_at lw_m4 76 rfl) rfl
theorem q969 : (Jvm.Cond.instanceMethod ({ cls := "TurnedBoards$Word", name := "<init>", desc := "(Ljava/lang/String;)V" } : Jvm.MethodName)) ∈ lw_all := lw_g (lw_at lw_m4 82 rfl) rfl
theorem q970 : (Jvm.Cond.code ({ cls := "TurnedBoards$Word", name := "<init>", desc := "(Ljava/lang/String;)V" } : Jvm.MethodName) prog_22_method_1_code (2 : Nat) (Option.none : Option Jvm.ClassFile.FieldType)) ∈ lw_all := lw_g (lw_at lw_m4 83 rfl) rfl
theorem q971 : (Jvm.Cond.methodLink "TurnedBoards$Word" (1 : Nat) ({ cls := "java/lang/Object", name := "<init>", desc := "()V" } : Jvm.MethodName)) ∈ lw_all := lw_g (lw_at lw_m4 84 rfl) rfl
theorem q972 : (Jvm.Cond.fieldLink "TurnedBoards$Word" (7 : Nat) "TurnedBoards$Word" "name" "Ljava/lang/String;") ∈ lw_all := lw_g (lw_at lw_m4 85 rfl) rfl
theorem q975 : (Jvm.Cond.laysFinal "TurnedBoards$Word" "TurnedBoards$Word" "name" "Ljava/lang/String;") ∈ lw_all := lw_g (lw_at lw_m4 88 rfl) rfl
theorem q976 : (Jvm.Cond.soleField "TurnedBoards$Word" "name") ∈ lw_all := lw_g (lw_at lw_m4 89 rfl) rfl
theorem q977 : (Jvm.Cond.superclass "TurnedBoards$Word" "java/lang/Object") ∈ lw_all := lw_g (lw_at lw_m4 90 rfl) rfl
theorem q989 : (Jvm.Cond.instanceMethod ({ cls := "TurnedBoards$Word", name := "size", desc := "()I" } : Jvm.MethodName)) ∈ lw_all := lw_g (lw_at lw_m4 102 rfl) rfl
theorem q990 : (Jvm.Cond.selects "TurnedBoards$Word" ({ cls := "TurnedBoards$Word", name := "size", desc := "()I" } : Jvm.MethodName) ({ cls := "TurnedBoards$Word", name := "size", desc := "()I" } : Jvm.MethodName)) ∈ lw_all := lw_g (lw_at lw_m4 103 rfl) rfl
theorem q991 : (Jvm.Cond.code ({ cls := "TurnedBoards$Word", name := "size", desc := "()I" } : Jvm.MethodName) prog_22_method_2_code (1 : Nat) (Option.some Jvm.ClassFile.FieldType.int)) ∈ lw_all := lw_g (lw_at lw_m4 104 rfl) rfl
theorem q992 : (Jvm.Cond.methodLink "TurnedBoards$Word" (13 : Nat) ({ cls := "java/lang/String", name := "length", desc := "()I" } : Jvm.MethodName)) ∈ lw_all := lw_g (lw_at lw_m4 105 rfl) rfl
theorem q994 : (Jvm.Cond.instanceMethod ({ cls := "TurnedBoards$Word", name := "at", desc := "(I)I" } : Jvm.MethodName)) ∈ lw_all := lw_g (lw_at lw_m4 107 rfl) rfl
theorem q995 : (Jvm.Cond.selects "TurnedBoards$Word" ({ cls := "TurnedBoards$Word", name := "at", desc := "(I)I" } : Jvm.MethodName) ({ cls := "TurnedBoards$Word", name := "at", desc := "(I)I" } : Jvm.MethodName)) ∈ lw_all := lw_g (lw_at lw_m4 108 rfl) rfl
theorem q996 : (Jvm.Cond.code ({ cls := "TurnedBoards$Word", name := "at", desc := "(I)I" } : Jvm.MethodName) prog_22_method_3_code (2 : Nat) (Option.some Jvm.ClassFile.FieldType.int)) ∈ lw_all := lw_g (lw_at lw_m4 109 rfl) rfl
theorem q997 : (Jvm.Cond.methodLink "TurnedBoards$Word" (19 : Nat) ({ cls := "java/lang/String", name := "charAt", desc := "(I)C" } : Jvm.MethodName)) ∈ lw_all := lw_g (lw_at lw_m4 110 rfl) rfl
theorem q2748 : (Jvm.Cond.castable "TurnedBoards$Word" "java/lang/Object") ∈ lw_tbl := lw_at lw_m11 181 rfl
theorem in_X9 : ∀ w ∈ wsX90, w ∈ lw_all := lw_in wsX90 [975] (by decide +kernel) (by decide +kernel)
/-! TurnedBoards$Board -/
set_option maxRecDepth 100000
def RX10 : String := "TurnedBoards$Board"
def TX10 : u_T := fun k => match k with
  | 0 => ("TurnedBoards$Board", "word", "I", true)
  | _ => ("TurnedBoards$Board", "hand", "I", true)
def tyX10 : Nat → FieldType := fun k => match k with
  | 0 => .int
  | _ => .int
abbrev wsX100 : List Cond := u_ws RX10 TX10 2
theorem nmX10 : ∀ a, a < 2 → ∀ b, b < 2 → a ≠ b → (TX10 a).2.1 ≠ (TX10 b).2.1 := by decide +kernel
theorem tyX10_ok : ∀ k, k < 2 → parseFieldDescriptor (TX10 k).2.2.1 = some (tyX10 k) := by decide +kernel
abbrev cX10_init : ByteArray := prog_4_method_1_code
def yX10_init : MethodName := ⟨RX10, "<init>", "(II)V"⟩
def dkwX10_init_0 : List UInt8 := [42, 183, 0, 1, 42, 27, 181, 0, 7, 42, 28, 181, 0, 13, 177]
abbrev dktX10_init_0 : List UInt8 := dkwX10_init_0 ++ []
theorem dksX10_init_0 : cX10_init.data.toList.drop 0 = dktX10_init_0 := by decide +kernel
theorem dX10_init_0 : decode cX10_init 0 = .ok (.aload_n 0, 1) := dk_42 (dk_at dksX10_init_0 0 rfl rfl)
theorem dX10_init_1 : decode cX10_init 1 = .ok (.invokespecial 1, 3) := dk_183 0 1 (dk_at dksX10_init_0 1 rfl rfl)
theorem dX10_init_4 : decode cX10_init 4 = .ok (.aload_n 0, 1) := dk_42 (dk_at dksX10_init_0 4 rfl rfl)
theorem dX10_init_5 : decode cX10_init 5 = .ok (.iload_n 1, 1) := dk_27 (dk_at dksX10_init_0 5 rfl rfl)
theorem dX10_init_6 : decode cX10_init 6 = .ok (.putfield 7, 3) := dk_181 0 7 (dk_at dksX10_init_0 6 rfl rfl)
theorem dX10_init_9 : decode cX10_init 9 = .ok (.aload_n 0, 1) := dk_42 (dk_at dksX10_init_0 9 rfl rfl)
theorem dX10_init_10 : decode cX10_init 10 = .ok (.iload_n 2, 1) := dk_28 (dk_at dksX10_init_0 10 rfl rfl)
theorem dX10_init_11 : decode cX10_init 11 = .ok (.putfield 13, 3) := dk_181 0 13 (dk_at dksX10_init_0 11 rfl rfl)
theorem dX10_init_14 : decode cX10_init 14 = .ok (.return_, 1) := dk_177 (dk_at dksX10_init_0 14 rfl rfl)
theorem q193 : (Jvm.Cond.initialized "TurnedBoards$Board") ∈ lw_all := lw_g (lw_at lw_m1 26 rfl) rfl
theorem q294 : (Jvm.Cond.selects "TurnedBoards$Board" ({ cls := "java/lang/Object", name := "getClass", desc := "()Ljava/lang/Class;" } : Jvm.MethodName) ({ cls := "java/lang/Object", name := "getClass", desc := "()Ljava/lang/Class;" } : Jvm.MethodName)) ∈ lw_all := lw_g (lw_at lw_m1 127 rfl) rfl
theorem q1004 : (Jvm.Cond.instantiable "TurnedBoards$Board" (2 : Nat)) ∈ lw_all := lw_g (lw_at lw_m4 117 rfl) rfl
theorem q1006 : (Jvm.Cond.instanceMethod ({ cls := "TurnedBoards$Board", name := "<init>", desc := "(II)V" } : Jvm.MethodName)) ∈ lw_all := lw_g (lw_at lw_m4 119 rfl) rfl
theorem q1007 : (Jvm.Cond.code ({ cls := "TurnedBoards$Board", name := "<init>", desc := "(II)V" } : Jvm.MethodName) prog_4_method_1_code (3 : Nat) (Option.none : Option Jvm.ClassFile.FieldType)) ∈ lw_all := lw_g (lw_at lw_m4 120 rfl) rfl
theorem q1008 : (Jvm.Cond.methodLink "TurnedBoards$Board" (1 : Nat) ({ cls := "java/lang/Object", name := "<init>", desc := "()V" } : Jvm.MethodName)) ∈ lw_all := lw_g (lw_at lw_m4 121 rfl) rfl
theorem q1009 : (Jvm.Cond.fieldLink "TurnedBoards$Board" (7 : Nat) "TurnedBoards$Board" "word" "I") ∈ lw_all := lw_g (lw_at lw_m4 122 rfl) rfl
theorem q1011 : (Jvm.Cond.fieldLink "TurnedBoards$Board" (13 : Nat) "TurnedBoards$Board" "hand" "I") ∈ lw_all := lw_g (lw_at lw_m4 124 rfl) rfl
theorem q1013 : (Jvm.Cond.laysFinal "TurnedBoards$Board" "TurnedBoards$Board" "word" "I") ∈ lw_all := lw_g (lw_at lw_m4 126 rfl) rfl
theorem q1014 : (Jvm.Cond.soleField "TurnedBoards$Board" "word") ∈ lw_all := lw_g (lw_at lw_m4 127 rfl) rfl
theorem q1015 : (Jvm.Cond.laysFinal "TurnedBoards$Board" "TurnedBoards$Board" "hand" "I") ∈ lw_all := lw_g (lw_at lw_m4 128 rfl) rfl
theorem q1016 : (Jvm.Cond.soleField "TurnedBoards$Board" "hand") ∈ lw_all := lw_g (lw_at lw_m4 129 rfl) rfl
theorem q1017 : (Jvm.Cond.superclass "TurnedBoards$Board" "java/lang/Object") ∈ lw_all := lw_g (lw_at lw_m4 130 rfl) rfl
theorem q2749 : (Jvm.Cond.castable "TurnedBoards$Board" "java/lang/Object") ∈ lw_tbl := lw_at lw_m11 182 rfl
theorem in_X10 : ∀ w ∈ wsX100, w ∈ lw_all := lw_in wsX100 [1013, 1015] (by decide +kernel) (by decide +kernel)
/-! TurnedBoards$Value -/
set_option maxRecDepth 100000
def RX11 : String := "TurnedBoards$Value"
abbrev cX11_init : ByteArray := prog_21_method_1_code
def yX11_init : MethodName := ⟨RX11, "<init>", "()V"⟩
theorem dX11_init_0 : decode cX11_init 0 = .ok (.aload_n 0, 1) := by decide +kernel
theorem dX11_init_1 : decode cX11_init 1 = .ok (.invokespecial 1, 3) := by decide +kernel
theorem dX11_init_4 : decode cX11_init 4 = .ok (.return_, 1) := by decide +kernel
theorem q194 : (Jvm.Cond.initialized "TurnedBoards$Value") ∈ lw_all := lw_g (lw_at lw_m1 27 rfl) rfl
theorem q1037 : (Jvm.Cond.instanceMethod ({ cls := "TurnedBoards$Value", name := "<init>", desc := "()V" } : Jvm.MethodName)) ∈ lw_all := lw_g (lw_at lw_m4 150 rfl) rfl
theorem q1038 : (Jvm.Cond.code ({ cls := "TurnedBoards$Value", name := "<init>", desc := "()V" } : Jvm.MethodName) prog_21_method_1_code (1 : Nat) (Option.none : Option Jvm.ClassFile.FieldType)) ∈ lw_all := lw_g (lw_at lw_m4 151 rfl) rfl
theorem q1039 : (Jvm.Cond.methodLink "TurnedBoards$Value" (1 : Nat) ({ cls := "java/lang/Object", name := "<init>", desc := "()V" } : Jvm.MethodName)) ∈ lw_all := lw_g (lw_at lw_m4 152 rfl) rfl
theorem q1418 : (Jvm.Cond.declares ({ cls := "TurnedBoards$Value", name := "at", desc := "(LTurnedBoards$Moment;)J" } : Jvm.MethodName)) ∈ lw_tbl := lw_at lw_m6 51 rfl
theorem q1419 : (Jvm.Cond.sameMethod "TurnedBoards$Value" "TurnedBoards$Value" "at" "(LTurnedBoards$Moment;)J") ∈ lw_all := lw_g (lw_at lw_m6 52 rfl) rfl
/-! TurnedBoards$Chain -/
set_option maxRecDepth 100000
def RX12 : String := "TurnedBoards$Chain"
def TX12 : u_T := fun k => match k with
  | 0 => ("TurnedBoards$Chain", "values", "Ljava/util/List;", true)
  | _ => ("TurnedBoards$Chain", "signs", "Ljava/lang/StringBuilder;", true)
def tyX12 : Nat → FieldType := fun k => match k with
  | 0 => .object "java/util/List"
  | _ => .object "java/lang/StringBuilder"
abbrev wsX120 : List Cond := u_ws RX12 TX12 2
theorem nmX12 : ∀ a, a < 2 → ∀ b, b < 2 → a ≠ b → (TX12 a).2.1 ≠ (TX12 b).2.1 := by decide +kernel
theorem tyX12_ok : ∀ k, k < 2 → parseFieldDescriptor (TX12 k).2.2.1 = some (tyX12 k) := by decide +kernel
abbrev cX12_init : ByteArray := prog_5_method_1_code
def yX12_init : MethodName := ⟨RX12, "<init>", "()V"⟩
def dkwX12_init_1 : List UInt8 := [181, 0, 21, 177]
abbrev dktX12_init_1 : List UInt8 := dkwX12_init_1 ++ []
def dkwX12_init_0 : List UInt8 := [42, 183, 0, 1, 42, 187, 0, 7, 89, 5, 183, 0, 9, 181, 0, 12, 42, 187, 0, 18, 89, 183, 0, 20]
abbrev dktX12_init_0 : List UInt8 := dkwX12_init_0 ++ dktX12_init_1
theorem dksX12_init_0 : cX12_init.data.toList.drop 0 = dktX12_init_0 := by decide +kernel
theorem dksX12_init_1 : cX12_init.data.toList.drop 24 = dktX12_init_1 := dk_seg dksX12_init_0 24 rfl rfl
theorem dX12_init_0 : decode cX12_init 0 = .ok (.aload_n 0, 1) := dk_42 (dk_at dksX12_init_0 0 rfl rfl)
theorem dX12_init_1 : decode cX12_init 1 = .ok (.invokespecial 1, 3) := dk_183 0 1 (dk_at dksX12_init_0 1 rfl rfl)
theorem dX12_init_4 : decode cX12_init 4 = .ok (.aload_n 0, 1) := dk_42 (dk_at dksX12_init_0 4 rfl rfl)
theorem dX12_init_5 : decode cX12_init 5 = .ok (.new 7, 3) := dk_187 0 7 (dk_at dksX12_init_0 5 rfl rfl)
theorem dX12_init_8 : decode cX12_init 8 = .ok (.dup, 1) := dk_89 (dk_at dksX12_init_0 8 rfl rfl)
theorem dX12_init_9 : decode cX12_init 9 = .ok (.iconst 2, 1) := dk_5 (dk_at dksX12_init_0 9 rfl rfl)
theorem dX12_init_10 : decode cX12_init 10 = .ok (.invokespecial 9, 3) := dk_183 0 9 (dk_at dksX12_init_0 10 rfl rfl)
theorem dX12_init_13 : decode cX12_init 13 = .ok (.putfield 12, 3) := dk_181 0 12 (dk_at dksX12_init_0 13 rfl rfl)
theorem dX12_init_16 : decode cX12_init 16 = .ok (.aload_n 0, 1) := dk_42 (dk_at dksX12_init_0 16 rfl rfl)
theorem dX12_init_17 : decode cX12_init 17 = .ok (.new 18, 3) := dk_187 0 18 (dk_at dksX12_init_0 17 rfl rfl)
theorem dX12_init_20 : decode cX12_init 20 = .ok (.dup, 1) := dk_89 (dk_at dksX12_init_0 20 rfl rfl)
theorem dX12_init_21 : decode cX12_init 21 = .ok (.invokespecial 20, 3) := dk_183 0 20 (dk_at dksX12_init_0 21 rfl rfl)
theorem dX12_init_24 : decode cX12_init 24 = .ok (.putfield 21, 3) := dk_181 0 21 (dk_at dksX12_init_1 0 rfl rfl)
theorem dX12_init_27 : decode cX12_init 27 = .ok (.return_, 1) := dk_177 (dk_at dksX12_init_1 3 rfl rfl)
abbrev cX12_add : ByteArray := prog_5_method_2_code
def yX12_add : MethodName := ⟨RX12, "add", "(CLTurnedBoards$Value;)V"⟩
def dkwX12_add_0 : List UInt8 := [42, 180, 0, 21, 27, 182, 0, 25, 87, 42, 180, 0, 12, 44, 185, 0, 29, 2, 0, 87, 177]
abbrev dktX12_add_0 : List UInt8 := dkwX12_add_0 ++ []
theorem dksX12_add_0 : cX12_add.data.toList.drop 0 = dktX12_add_0 := by decide +kernel
theorem dX12_add_0 : decode cX12_add 0 = .ok (.aload_n 0, 1) := dk_42 (dk_at dksX12_add_0 0 rfl rfl)
theorem dX12_add_1 : decode cX12_add 1 = .ok (.getfield 21, 3) := dk_180 0 21 (dk_at dksX12_add_0 1 rfl rfl)
theorem dX12_add_4 : decode cX12_add 4 = .ok (.iload_n 1, 1) := dk_27 (dk_at dksX12_add_0 4 rfl rfl)
theorem dX12_add_5 : decode cX12_add 5 = .ok (.invokevirtual 25, 3) := dk_182 0 25 (dk_at dksX12_add_0 5 rfl rfl)
theorem dX12_add_8 : decode cX12_add 8 = .ok (.pop, 1) := dk_87 (dk_at dksX12_add_0 8 rfl rfl)
theorem dX12_add_9 : decode cX12_add 9 = .ok (.aload_n 0, 1) := dk_42 (dk_at dksX12_add_0 9 rfl rfl)
theorem dX12_add_10 : decode cX12_add 10 = .ok (.getfield 12, 3) := dk_180 0 12 (dk_at dksX12_add_0 10 rfl rfl)
theorem dX12_add_13 : decode cX12_add 13 = .ok (.aload_n 2, 1) := dk_44 (dk_at dksX12_add_0 13 rfl rfl)
theorem dX12_add_14 : decode cX12_add 14 = .ok (.invokeinterface 29 2, 5) := by decide +kernel
theorem dX12_add_19 : decode cX12_add 19 = .ok (.pop, 1) := dk_87 (dk_at dksX12_add_0 19 rfl rfl)
theorem dX12_add_20 : decode cX12_add 20 = .ok (.return_, 1) := dk_177 (dk_at dksX12_add_0 20 rfl rfl)
abbrev cX12_at : ByteArray := prog_5_method_3_code
def yX12_at : MethodName := ⟨RX12, "at", "(LTurnedBoards$Moment;)J"⟩
def dkwX12_at_3 : List UInt8 := [132, 4, 1, 167, 255, 204, 32, 173]
abbrev dktX12_at_3 : List UInt8 := dkwX12_at_3 ++ []
def dkwX12_at_2 : List UInt8 := [180, 0, 12, 21, 4, 185, 0, 35, 2, 0, 192, 0, 2, 43, 182, 0, 39, 184, 0, 51, 184, 0, 55, 65]
abbrev dktX12_at_2 : List UInt8 := dkwX12_at_2 ++ dktX12_at_3
def dkwX12_at_1 : List UInt8 := [180, 0, 12, 185, 0, 43, 1, 0, 162, 0, 44, 42, 180, 0, 21, 21, 4, 182, 0, 47, 32, 42]
abbrev dktX12_at_1 : List UInt8 := dkwX12_at_1 ++ dktX12_at_2
def dkwX12_at_0 : List UInt8 := [42, 180, 0, 12, 3, 185, 0, 35, 2, 0, 192, 0, 2, 43, 182, 0, 39, 65, 4, 54, 4, 21, 4, 42]
abbrev dktX12_at_0 : List UInt8 := dkwX12_at_0 ++ dktX12_at_1
theorem dksX12_at_0 : cX12_at.data.toList.drop 0 = dktX12_at_0 := by decide +kernel
theorem dksX12_at_1 : cX12_at.data.toList.drop 24 = dktX12_at_1 := dk_seg dksX12_at_0 24 rfl rfl
theorem dksX12_at_2 : cX12_at.data.toList.drop 46 = dktX12_at_2 := dk_seg dksX12_at_1 22 rfl rfl
theorem dksX12_at_3 : cX12_at.data.toList.drop 70 = dktX12_at_3 := dk_seg dksX12_at_2 24 rfl rfl
theorem dX12_at_0 : decode cX12_at 0 = .ok (.aload_n 0, 1) := dk_42 (dk_at dksX12_at_0 0 rfl rfl)
theorem dX12_at_1 : decode cX12_at 1 = .ok (.getfield 12, 3) := dk_180 0 12 (dk_at dksX12_at_0 1 rfl rfl)
theorem dX12_at_4 : decode cX12_at 4 = .ok (.iconst 0, 1) := dk_3 (dk_at dksX12_at_0 4 rfl rfl)
theorem dX12_at_5 : decode cX12_at 5 = .ok (.invokeinterface 35 2, 5) := by decide +kernel
theorem dX12_at_10 : decode cX12_at 10 = .ok (.checkcast 2, 3) := dk_192 0 2 (dk_at dksX12_at_0 10 rfl rfl)
theorem dX12_at_13 : decode cX12_at 13 = .ok (.aload_n 1, 1) := dk_43 (dk_at dksX12_at_0 13 rfl rfl)
theorem dX12_at_14 : decode cX12_at 14 = .ok (.invokevirtual 39, 3) := dk_182 0 39 (dk_at dksX12_at_0 14 rfl rfl)
theorem dX12_at_17 : decode cX12_at 17 = .ok (.lstore_n 2, 1) := dk_65 (dk_at dksX12_at_0 17 rfl rfl)
theorem dX12_at_18 : decode cX12_at 18 = .ok (.iconst 1, 1) := dk_4 (dk_at dksX12_at_0 18 rfl rfl)
theorem dX12_at_19 : decode cX12_at 19 = .ok (.istore 4, 2) := dk_54 4 (dk_at dksX12_at_0 19 rfl rfl)
theorem dX12_at_21 : decode cX12_at 21 = .ok (.iload 4, 2) := dk_21 4 (dk_at dksX12_at_0 21 rfl rfl)
theorem dX12_at_23 : decode cX12_at 23 = .ok (.aload_n 0, 1) := dk_42 (dk_at dksX12_at_0 23 rfl rfl)
theorem dX12_at_24 : decode cX12_at 24 = .ok (.getfield 12, 3) := dk_180 0 12 (dk_at dksX12_at_1 0 rfl rfl)
theorem dX12_at_27 : decode cX12_at 27 = .ok (.invokeinterface 43 1, 5) := by decide +kernel
theorem dX12_at_32 : decode cX12_at 32 = .ok (.if_icmp .ge 44, 3) := dk_162 0 44 (dk_at dksX12_at_1 8 rfl rfl)
theorem dX12_at_35 : decode cX12_at 35 = .ok (.aload_n 0, 1) := dk_42 (dk_at dksX12_at_1 11 rfl rfl)
theorem dX12_at_36 : decode cX12_at 36 = .ok (.getfield 21, 3) := dk_180 0 21 (dk_at dksX12_at_1 12 rfl rfl)
theorem dX12_at_39 : decode cX12_at 39 = .ok (.iload 4, 2) := dk_21 4 (dk_at dksX12_at_1 15 rfl rfl)
theorem dX12_at_41 : decode cX12_at 41 = .ok (.invokevirtual 47, 3) := dk_182 0 47 (dk_at dksX12_at_1 17 rfl rfl)
theorem dX12_at_44 : decode cX12_at 44 = .ok (.lload_n 2, 1) := dk_32 (dk_at dksX12_at_1 20 rfl rfl)
theorem dX12_at_45 : decode cX12_at 45 = .ok (.aload_n 0, 1) := dk_42 (dk_at dksX12_at_1 21 rfl rfl)
theorem dX12_at_46 : decode cX12_at 46 = .ok (.getfield 12, 3) := dk_180 0 12 (dk_at dksX12_at_2 0 rfl rfl)
theorem dX12_at_49 : decode cX12_at 49 = .ok (.iload 4, 2) := dk_21 4 (dk_at dksX12_at_2 3 rfl rfl)
theorem dX12_at_51 : decode cX12_at 51 = .ok (.invokeinterface 35 2, 5) := by decide +kernel
theorem dX12_at_56 : decode cX12_at 56 = .ok (.checkcast 2, 3) := dk_192 0 2 (dk_at dksX12_at_2 10 rfl rfl)
theorem dX12_at_59 : decode cX12_at 59 = .ok (.aload_n 1, 1) := dk_43 (dk_at dksX12_at_2 13 rfl rfl)
theorem dX12_at_60 : decode cX12_at 60 = .ok (.invokevirtual 39, 3) := dk_182 0 39 (dk_at dksX12_at_2 14 rfl rfl)
theorem dX12_at_63 : decode cX12_at 63 = .ok (.invokestatic 51, 3) := dk_184 0 51 (dk_at dksX12_at_2 17 rfl rfl)
theorem dX12_at_66 : decode cX12_at 66 = .ok (.invokestatic 55, 3) := dk_184 0 55 (dk_at dksX12_at_2 20 rfl rfl)
theorem dX12_at_69 : decode cX12_at 69 = .ok (.lstore_n 2, 1) := dk_65 (dk_at dksX12_at_2 23 rfl rfl)
theorem dX12_at_70 : decode cX12_at 70 = .ok (.iinc 4 1, 3) := dk_132 4 1 (dk_at dksX12_at_3 0 rfl rfl)
theorem dX12_at_73 : decode cX12_at 73 = .ok (.goto (-52), 3) := dk_167 255 204 (dk_at dksX12_at_3 3 rfl rfl)
theorem dX12_at_76 : decode cX12_at 76 = .ok (.lload_n 2, 1) := dk_32 (dk_at dksX12_at_3 6 rfl rfl)
theorem dX12_at_77 : decode cX12_at 77 = .ok (.lreturn, 1) := dk_173 (dk_at dksX12_at_3 7 rfl rfl)
abbrev cX12_two : ByteArray := prog_5_method_4_code
def yX12_two : MethodName := ⟨RX12, "two", "(CJJ)J"⟩
def dkwX12_two_3 : List UInt8 := [184, 0, 61, 173]
abbrev dktX12_two_3 : List UInt8 := dkwX12_two_3 ++ []
def dkwX12_two_2 : List UInt8 := [31, 33, 97, 173, 31, 33, 101, 173, 31, 33, 105, 173, 33, 9, 148, 154, 0, 7, 9, 167, 0, 8, 31, 33]
abbrev dktX12_two_2 : List UInt8 := dkwX12_two_2 ++ dktX12_two_3
def dkwX12_two_1 : List UInt8 := [170, 0, 0, 0, 0, 0, 43, 0, 0, 0, 42, 0, 0, 0, 45, 0, 0, 0, 39, 0, 0, 0, 31, 0, 0, 0, 43, 0, 0, 0, 35]
abbrev dktX12_two_1 : List UInt8 := dkwX12_two_1 ++ dktX12_two_2
def dkwX12_two_0 : List UInt8 := [26]
abbrev dktX12_two_0 : List UInt8 := dkwX12_two_0 ++ dktX12_two_1
theorem dksX12_two_0 : cX12_two.data.toList.drop 0 = dktX12_two_0 := by decide +kernel
theorem dksX12_two_1 : cX12_two.data.toList.drop 1 = dktX12_two_1 := dk_seg dksX12_two_0 1 rfl rfl
theorem dksX12_two_2 : cX12_two.data.toList.drop 32 = dktX12_two_2 := dk_seg dksX12_two_1 31 rfl rfl
theorem dksX12_two_3 : cX12_two.data.toList.drop 56 = dktX12_two_3 := dk_seg dksX12_two_2 24 rfl rfl
theorem dX12_two_0 : decode cX12_two 0 = .ok (.iload_n 0, 1) := dk_26 (dk_at dksX12_two_0 0 rfl rfl)
theorem dX12_two_1 : decode cX12_two 1 = .ok (.tableswitch 43 42 45 #[39, 31, 43, 35], 31) := by decide +kernel
theorem dX12_two_32 : decode cX12_two 32 = .ok (.lload_n 1, 1) := dk_31 (dk_at dksX12_two_2 0 rfl rfl)
theorem dX12_two_33 : decode cX12_two 33 = .ok (.lload_n 3, 1) := dk_33 (dk_at dksX12_two_2 1 rfl rfl)
theorem dX12_two_34 : decode cX12_two 34 = .ok (.ladd, 1) := dk_97 (dk_at dksX12_two_2 2 rfl rfl)
theorem dX12_two_35 : decode cX12_two 35 = .ok (.lreturn, 1) := dk_173 (dk_at dksX12_two_2 3 rfl rfl)
theorem dX12_two_36 : decode cX12_two 36 = .ok (.lload_n 1, 1) := dk_31 (dk_at dksX12_two_2 4 rfl rfl)
theorem dX12_two_37 : decode cX12_two 37 = .ok (.lload_n 3, 1) := dk_33 (dk_at dksX12_two_2 5 rfl rfl)
theorem dX12_two_38 : decode cX12_two 38 = .ok (.lsub, 1) := dk_101 (dk_at dksX12_two_2 6 rfl rfl)
theorem dX12_two_39 : decode cX12_two 39 = .ok (.lreturn, 1) := dk_173 (dk_at dksX12_two_2 7 rfl rfl)
theorem dX12_two_40 : decode cX12_two 40 = .ok (.lload_n 1, 1) := dk_31 (dk_at dksX12_two_2 8 rfl rfl)
theorem dX12_two_41 : decode cX12_two 41 = .ok (.lload_n 3, 1) := dk_33 (dk_at dksX12_two_2 9 rfl rfl)
theorem dX12_two_42 : decode cX12_two 42 = .ok (.lmul, 1) := dk_105 (dk_at dksX12_two_2 10 rfl rfl)
theorem dX12_two_43 : decode cX12_two 43 = .ok (.lreturn, 1) := dk_173 (dk_at dksX12_two_2 11 rfl rfl)
theorem dX12_two_44 : decode cX12_two 44 = .ok (.lload_n 3, 1) := dk_33 (dk_at dksX12_two_2 12 rfl rfl)
theorem dX12_two_45 : decode cX12_two 45 = .ok (.lconst 0, 1) := dk_9 (dk_at dksX12_two_2 13 rfl rfl)
theorem dX12_two_46 : decode cX12_two 46 = .ok (.lcmp, 1) := dk_148 (dk_at dksX12_two_2 14 rfl rfl)
theorem dX12_two_47 : decode cX12_two 47 = .ok (.ifCond .ne 7, 3) := dk_154 0 7 (dk_at dksX12_two_2 15 rfl rfl)
theorem dX12_two_50 : decode cX12_two 50 = .ok (.lconst 0, 1) := dk_9 (dk_at dksX12_two_2 18 rfl rfl)
theorem dX12_two_51 : decode cX12_two 51 = .ok (.goto 8, 3) := dk_167 0 8 (dk_at dksX12_two_2 19 rfl rfl)
theorem dX12_two_54 : decode cX12_two 54 = .ok (.lload_n 1, 1) := dk_31 (dk_at dksX12_two_2 22 rfl rfl)
theorem dX12_two_55 : decode cX12_two 55 = .ok (.lload_n 3, 1) := dk_33 (dk_at dksX12_two_2 23 rfl rfl)
theorem dX12_two_56 : decode cX12_two 56 = .ok (.invokestatic 61, 3) := dk_184 0 61 (dk_at dksX12_two_3 0 rfl rfl)
theorem dX12_two_59 : decode cX12_two 59 = .ok (.lreturn, 1) := dk_173 (dk_at dksX12_two_3 3 rfl rfl)
theorem q195 : (Jvm.Cond.initialized "TurnedBoards$Chain") ∈ lw_all := lw_g (lw_at lw_m1 28 rfl) rfl
theorem q295 : (Jvm.Cond.selects "TurnedBoards$Chain" ({ cls := "java/lang/Object", name := "getClass", desc := "()Ljava/lang/Class;" } : Jvm.MethodName) ({ cls := "java/lang/Object", name := "getClass", desc := "()Ljava/lang/Class;" } : Jvm.MethodName)) ∈ lw_all := lw_g (lw_at lw_m1 128 rfl) rfl
theorem q1032 : (Jvm.Cond.instantiable "TurnedBoards$Chain" (2 : Nat)) ∈ lw_all := lw_g (lw_at lw_m4 145 rfl) rfl
theorem q1034 : (Jvm.Cond.instanceMethod ({ cls := "TurnedBoards$Chain", name := "<init>", desc := "()V" } : Jvm.MethodName)) ∈ lw_all := lw_g (lw_at lw_m4 147 rfl) rfl
theorem q1035 : (Jvm.Cond.code ({ cls := "TurnedBoards$Chain", name := "<init>", desc := "()V" } : Jvm.MethodName) prog_5_method_1_code (1 : Nat) (Option.none : Option Jvm.ClassFile.FieldType)) ∈ lw_all := lw_g (lw_at lw_m4 148 rfl) rfl
theorem q1036 : (Jvm.Cond.methodLinkNest "TurnedBoards$Chain" (1 : Nat) ({ cls := "TurnedBoards$Value", name := "<init>", desc := "()V" } : Jvm.MethodName) "TurnedBoards") ∈ lw_tbl := lw_at lw_m4 149 rfl
theorem q1040 : (Jvm.Cond.classLink "TurnedBoards$Chain" (7 : Nat) "java/util/ArrayList") ∈ lw_all := lw_g (lw_at lw_m4 153 rfl) rfl
theorem q1041 : (Jvm.Cond.methodLink "TurnedBoards$Chain" (9 : Nat) ({ cls := "java/util/ArrayList", name := "<init>", desc := "(I)V" } : Jvm.MethodName)) ∈ lw_all := lw_g (lw_at lw_m4 154 rfl) rfl
theorem q1042 : (Jvm.Cond.classLink "TurnedBoards$Chain" (18 : Nat) "java/lang/StringBuilder") ∈ lw_all := lw_g (lw_at lw_m4 155 rfl) rfl
theorem q1044 : (Jvm.Cond.methodLink "TurnedBoards$Chain" (20 : Nat) ({ cls := "java/lang/StringBuilder", name := "<init>", desc := "()V" } : Jvm.MethodName)) ∈ lw_all := lw_g (lw_at lw_m4 157 rfl) rfl
theorem q1065 : (Jvm.Cond.fieldLink "TurnedBoards$Chain" (12 : Nat) "TurnedBoards$Chain" "values" "Ljava/util/List;") ∈ lw_all := lw_g (lw_at lw_m4 178 rfl) rfl
theorem q1066 : (Jvm.Cond.fieldLink "TurnedBoards$Chain" (21 : Nat) "TurnedBoards$Chain" "signs" "Ljava/lang/StringBuilder;") ∈ lw_all := lw_g (lw_at lw_m4 179 rfl) rfl
theorem q1067 : (Jvm.Cond.laysFinal "TurnedBoards$Chain" "TurnedBoards$Chain" "values" "Ljava/util/List;") ∈ lw_all := lw_g (lw_at lw_m4 180 rfl) rfl
theorem q1068 : (Jvm.Cond.soleField "TurnedBoards$Chain" "values") ∈ lw_all := lw_g (lw_at lw_m4 181 rfl) rfl
theorem q1069 : (Jvm.Cond.laysFinal "TurnedBoards$Chain" "TurnedBoards$Chain" "signs" "Ljava/lang/StringBuilder;") ∈ lw_all := lw_g (lw_at lw_m4 182 rfl) rfl
theorem q1070 : (Jvm.Cond.soleField "TurnedBoards$Chain" "signs") ∈ lw_all := lw_g (lw_at lw_m4 183 rfl) rfl
theorem q1071 : (Jvm.Cond.superclass "TurnedBoards$Chain" "TurnedBoards$Value") ∈ lw_all := lw_g (lw_at lw_m4 184 rfl) rfl
theorem q1158 : (Jvm.Cond.instanceMethod ({ cls := "TurnedBoards$Chain", name := "add", desc := "(CLTurnedBoards$Value;)V" } : Jvm.MethodName)) ∈ lw_all := lw_g (lw_at lw_m5 31 rfl) rfl
theorem q1159 : (Jvm.Cond.selects "TurnedBoards$Chain" ({ cls := "TurnedBoards$Chain", name := "add", desc := "(CLTurnedBoards$Value;)V" } : Jvm.MethodName) ({ cls := "TurnedBoards$Chain", name := "add", desc := "(CLTurnedBoards$Value;)V" } : Jvm.MethodName)) ∈ lw_all := lw_g (lw_at lw_m5 32 rfl) rfl
theorem q1160 : (Jvm.Cond.code ({ cls := "TurnedBoards$Chain", name := "add", desc := "(CLTurnedBoards$Value;)V" } : Jvm.MethodName) prog_5_method_2_code (3 : Nat) (Option.none : Option Jvm.ClassFile.FieldType)) ∈ lw_all := lw_g (lw_at lw_m5 33 rfl) rfl
theorem q1161 : (Jvm.Cond.methodLink "TurnedBoards$Chain" (25 : Nat) ({ cls := "java/lang/StringBuilder", name := "append", desc := "(C)Ljava/lang/StringBuilder;" } : Jvm.MethodName)) ∈ lw_all := lw_g (lw_at lw_m5 34 rfl) rfl
theorem q1209 : (Jvm.Cond.interfaceEntry "TurnedBoards$Chain" (29 : Nat)) ∈ lw_tbl := lw_at lw_m5 82 rfl
theorem q1210 : (Jvm.Cond.methodLink "TurnedBoards$Chain" (29 : Nat) ({ cls := "java/util/List", name := "add", desc := "(Ljava/lang/Object;)Z" } : Jvm.MethodName)) ∈ lw_all := lw_g (lw_at lw_m5 83 rfl) rfl
theorem q1434 : (Jvm.Cond.selects "TurnedBoards$Chain" ({ cls := "TurnedBoards$Value", name := "at", desc := "(LTurnedBoards$Moment;)J" } : Jvm.MethodName) ({ cls := "TurnedBoards$Chain", name := "at", desc := "(LTurnedBoards$Moment;)J" } : Jvm.MethodName)) ∈ lw_all := lw_g (lw_at lw_m6 67 rfl) rfl
theorem q1435 : (Jvm.Cond.instanceMethod ({ cls := "TurnedBoards$Chain", name := "at", desc := "(LTurnedBoards$Moment;)J" } : Jvm.MethodName)) ∈ lw_all := lw_g (lw_at lw_m6 68 rfl) rfl
theorem q1436 : (Jvm.Cond.code ({ cls := "TurnedBoards$Chain", name := "at", desc := "(LTurnedBoards$Moment;)J" } : Jvm.MethodName) prog_5_method_3_code (5 : Nat) (Option.some Jvm.ClassFile.FieldType.long)) ∈ lw_all := lw_g (lw_at lw_m6 69 rfl) rfl
theorem q1437 : (Jvm.Cond.interfaceEntry "TurnedBoards$Chain" (35 : Nat)) ∈ lw_tbl := lw_at lw_m6 70 rfl
theorem q1438 : (Jvm.Cond.methodLink "TurnedBoards$Chain" (35 : Nat) ({ cls := "java/util/List", name := "get", desc := "(I)Ljava/lang/Object;" } : Jvm.MethodName)) ∈ lw_all := lw_g (lw_at lw_m6 71 rfl) rfl
theorem q1439 : (Jvm.Cond.classLink "TurnedBoards$Chain" (2 : Nat) "TurnedBoards$Value") ∈ lw_all := lw_g (lw_at lw_m6 72 rfl) rfl
theorem q1440 : (Jvm.Cond.methodLink "TurnedBoards$Chain" (39 : Nat) ({ cls := "TurnedBoards$Value", name := "at", desc := "(LTurnedBoards$Moment;)J" } : Jvm.MethodName)) ∈ lw_all := lw_g (lw_at lw_m6 73 rfl) rfl
theorem q1509 : (Jvm.Cond.interfaceEntry "TurnedBoards$Chain" (43 : Nat)) ∈ lw_tbl := lw_at lw_m6 142 rfl
theorem q1510 : (Jvm.Cond.methodLink "TurnedBoards$Chain" (43 : Nat) ({ cls := "java/util/List", name := "size", desc := "()I" } : Jvm.MethodName)) ∈ lw_all := lw_g (lw_at lw_m6 143 rfl) rfl
theorem q1511 : (Jvm.Cond.methodLink "TurnedBoards$Chain" (47 : Nat) ({ cls := "java/lang/StringBuilder", name := "charAt", desc := "(I)C" } : Jvm.MethodName)) ∈ lw_all := lw_g (lw_at lw_m6 144 rfl) rfl
theorem q1521 : (Jvm.Cond.methodLink "TurnedBoards$Chain" (51 : Nat) ({ cls := "TurnedBoards$Chain", name := "two", desc := "(CJJ)J" } : Jvm.MethodName)) ∈ lw_all := lw_g (lw_at lw_m6 154 rfl) rfl
theorem q1522 : (Jvm.Cond.static ({ cls := "TurnedBoards$Chain", name := "two", desc := "(CJJ)J" } : Jvm.MethodName)) ∈ lw_all := lw_g (lw_at lw_m6 155 rfl) rfl
theorem q1523 : (Jvm.Cond.code ({ cls := "TurnedBoards$Chain", name := "two", desc := "(CJJ)J" } : Jvm.MethodName) prog_5_method_4_code (5 : Nat) (Option.some Jvm.ClassFile.FieldType.long)) ∈ lw_all := lw_g (lw_at lw_m6 156 rfl) rfl
theorem q1524 : (Jvm.Cond.methodLink "TurnedBoards$Chain" (61 : Nat) ({ cls := "java/lang/Math", name := "floorDiv", desc := "(JJ)J" } : Jvm.MethodName)) ∈ lw_all := lw_g (lw_at lw_m6 157 rfl) rfl
theorem q1527 : (Jvm.Cond.methodLinkNest "TurnedBoards$Chain" (55 : Nat) ({ cls := "TurnedBoards", name := "held", desc := "(J)J" } : Jvm.MethodName) "TurnedBoards") ∈ lw_tbl := lw_at lw_m6 160 rfl
theorem q2728 : (Jvm.Cond.castable "TurnedBoards$Chain" "TurnedBoards$Value") ∈ lw_tbl := lw_at lw_m11 161 rfl
theorem q2750 : (Jvm.Cond.castable "TurnedBoards$Chain" "java/lang/Object") ∈ lw_tbl := lw_at lw_m11 183 rfl
theorem in_X12 : ∀ w ∈ wsX120, w ∈ lw_all := lw_in wsX120 [1067, 1069] (by decide +kernel) (by decide +kernel)
/-! TurnedBoards$Pair -/
set_option maxRecDepth 100000
def RX13 : String := "TurnedBoards$Pair"
def TX13 : u_T := fun k => match k with
  | 0 => ("TurnedBoards$Pair", "most", "Z", true)
  | 1 => ("TurnedBoards$Pair", "first", "LTurnedBoards$Value;", true)
  | _ => ("TurnedBoards$Pair", "second", "LTurnedBoards$Value;", true)
def tyX13 : Nat → FieldType := fun k => match k with
  | 0 => .boolean
  | 1 => .object "TurnedBoards$Value"
  | _ => .object "TurnedBoards$Value"
abbrev wsX130 : List Cond := u_ws RX13 TX13 3
theorem nmX13 : ∀ a, a < 3 → ∀ b, b < 3 → a ≠ b → (TX13 a).2.1 ≠ (TX13 b).2.1 := by decide +kernel
theorem tyX13_ok : ∀ k, k < 3 → parseFieldDescriptor (TX13 k).2.2.1 = some (tyX13 k) := by decide +kernel
abbrev cX13_init : ByteArray := prog_14_method_1_code
def yX13_init : MethodName := ⟨RX13, "<init>", "(ZLTurnedBoards$Value;LTurnedBoards$Value;)V"⟩
def dkwX13_init_0 : List UInt8 := [42, 183, 0, 1, 42, 27, 181, 0, 7, 42, 44, 181, 0, 13, 42, 45, 181, 0, 17, 177]
abbrev dktX13_init_0 : List UInt8 := dkwX13_init_0 ++ []
theorem dksX13_init_0 : cX13_init.data.toList.drop 0 = dktX13_init_0 := by decide +kernel
theorem dX13_init_0 : decode cX13_init 0 = .ok (.aload_n 0, 1) := dk_42 (dk_at dksX13_init_0 0 rfl rfl)
theorem dX13_init_1 : decode cX13_init 1 = .ok (.invokespecial 1, 3) := dk_183 0 1 (dk_at dksX13_init_0 1 rfl rfl)
theorem dX13_init_4 : decode cX13_init 4 = .ok (.aload_n 0, 1) := dk_42 (dk_at dksX13_init_0 4 rfl rfl)
theorem dX13_init_5 : decode cX13_init 5 = .ok (.iload_n 1, 1) := dk_27 (dk_at dksX13_init_0 5 rfl rfl)
theorem dX13_init_6 : decode cX13_init 6 = .ok (.putfield 7, 3) := dk_181 0 7 (dk_at dksX13_init_0 6 rfl rfl)
theorem dX13_init_9 : decode cX13_init 9 = .ok (.aload_n 0, 1) := dk_42 (dk_at dksX13_init_0 9 rfl rfl)
theorem dX13_init_10 : decode cX13_init 10 = .ok (.aload_n 2, 1) := dk_44 (dk_at dksX13_init_0 10 rfl rfl)
theorem dX13_init_11 : decode cX13_init 11 = .ok (.putfield 13, 3) := dk_181 0 13 (dk_at dksX13_init_0 11 rfl rfl)
theorem dX13_init_14 : decode cX13_init 14 = .ok (.aload_n 0, 1) := dk_42 (dk_at dksX13_init_0 14 rfl rfl)
theorem dX13_init_15 : decode cX13_init 15 = .ok (.aload_n 3, 1) := dk_45 (dk_at dksX13_init_0 15 rfl rfl)
theorem dX13_init_16 : decode cX13_init 16 = .ok (.putfield 17, 3) := dk_181 0 17 (dk_at dksX13_init_0 16 rfl rfl)
theorem dX13_init_19 : decode cX13_init 19 = .ok (.return_, 1) := dk_177 (dk_at dksX13_init_0 19 rfl rfl)
abbrev cX13_at : ByteArray := prog_14_method_2_code
def yX13_at : MethodName := ⟨RX13, "at", "(LTurnedBoards$Moment;)J"⟩
def dkwX13_at_1 : List UInt8 := [22, 4, 148, 158, 0, 7, 4, 167, 0, 4, 3, 160, 0, 7, 32, 167, 0, 5, 22, 4, 173]
abbrev dktX13_at_1 : List UInt8 := dkwX13_at_1 ++ []
def dkwX13_at_0 : List UInt8 := [42, 180, 0, 13, 43, 182, 0, 20, 65, 42, 180, 0, 17, 43, 182, 0, 20, 55, 4, 42, 180, 0, 7, 32]
abbrev dktX13_at_0 : List UInt8 := dkwX13_at_0 ++ dktX13_at_1
theorem dksX13_at_0 : cX13_at.data.toList.drop 0 = dktX13_at_0 := by decide +kernel
theorem dksX13_at_1 : cX13_at.data.toList.drop 24 = dktX13_at_1 := dk_seg dksX13_at_0 24 rfl rfl
theorem dX13_at_0 : decode cX13_at 0 = .ok (.aload_n 0, 1) := dk_42 (dk_at dksX13_at_0 0 rfl rfl)
theorem dX13_at_1 : decode cX13_at 1 = .ok (.getfield 13, 3) := dk_180 0 13 (dk_at dksX13_at_0 1 rfl rfl)
theorem dX13_at_4 : decode cX13_at 4 = .ok (.aload_n 1, 1) := dk_43 (dk_at dksX13_at_0 4 rfl rfl)
theorem dX13_at_5 : decode cX13_at 5 = .ok (.invokevirtual 20, 3) := dk_182 0 20 (dk_at dksX13_at_0 5 rfl rfl)
theorem dX13_at_8 : decode cX13_at 8 = .ok (.lstore_n 2, 1) := dk_65 (dk_at dksX13_at_0 8 rfl rfl)
theorem dX13_at_9 : decode cX13_at 9 = .ok (.aload_n 0, 1) := dk_42 (dk_at dksX13_at_0 9 rfl rfl)
theorem dX13_at_10 : decode cX13_at 10 = .ok (.getfield 17, 3) := dk_180 0 17 (dk_at dksX13_at_0 10 rfl rfl)
theorem dX13_at_13 : decode cX13_at 13 = .ok (.aload_n 1, 1) := dk_43 (dk_at dksX13_at_0 13 rfl rfl)
theorem dX13_at_14 : decode cX13_at 14 = .ok (.invokevirtual 20, 3) := dk_182 0 20 (dk_at dksX13_at_0 14 rfl rfl)
theorem dX13_at_17 : decode cX13_at 17 = .ok (.lstore 4, 2) := dk_55 4 (dk_at dksX13_at_0 17 rfl rfl)
theorem dX13_at_19 : decode cX13_at 19 = .ok (.aload_n 0, 1) := dk_42 (dk_at dksX13_at_0 19 rfl rfl)
theorem dX13_at_20 : decode cX13_at 20 = .ok (.getfield 7, 3) := dk_180 0 7 (dk_at dksX13_at_0 20 rfl rfl)
theorem dX13_at_23 : decode cX13_at 23 = .ok (.lload_n 2, 1) := dk_32 (dk_at dksX13_at_0 23 rfl rfl)
theorem dX13_at_24 : decode cX13_at 24 = .ok (.lload 4, 2) := dk_22 4 (dk_at dksX13_at_1 0 rfl rfl)
theorem dX13_at_26 : decode cX13_at 26 = .ok (.lcmp, 1) := dk_148 (dk_at dksX13_at_1 2 rfl rfl)
theorem dX13_at_27 : decode cX13_at 27 = .ok (.ifCond .le 7, 3) := dk_158 0 7 (dk_at dksX13_at_1 3 rfl rfl)
theorem dX13_at_30 : decode cX13_at 30 = .ok (.iconst 1, 1) := dk_4 (dk_at dksX13_at_1 6 rfl rfl)
theorem dX13_at_31 : decode cX13_at 31 = .ok (.goto 4, 3) := dk_167 0 4 (dk_at dksX13_at_1 7 rfl rfl)
theorem dX13_at_34 : decode cX13_at 34 = .ok (.iconst 0, 1) := dk_3 (dk_at dksX13_at_1 10 rfl rfl)
theorem dX13_at_35 : decode cX13_at 35 = .ok (.if_icmp .ne 7, 3) := dk_160 0 7 (dk_at dksX13_at_1 11 rfl rfl)
theorem dX13_at_38 : decode cX13_at 38 = .ok (.lload_n 2, 1) := dk_32 (dk_at dksX13_at_1 14 rfl rfl)
theorem dX13_at_39 : decode cX13_at 39 = .ok (.goto 5, 3) := dk_167 0 5 (dk_at dksX13_at_1 15 rfl rfl)
theorem dX13_at_42 : decode cX13_at 42 = .ok (.lload 4, 2) := dk_22 4 (dk_at dksX13_at_1 18 rfl rfl)
theorem dX13_at_44 : decode cX13_at 44 = .ok (.lreturn, 1) := dk_173 (dk_at dksX13_at_1 20 rfl rfl)
theorem q198 : (Jvm.Cond.initialized "TurnedBoards$Pair") ∈ lw_all := lw_g (lw_at lw_m1 31 rfl) rfl
theorem q304 : (Jvm.Cond.selects "TurnedBoards$Pair" ({ cls := "java/lang/Object", name := "getClass", desc := "()Ljava/lang/Class;" } : Jvm.MethodName) ({ cls := "java/lang/Object", name := "getClass", desc := "()Ljava/lang/Class;" } : Jvm.MethodName)) ∈ lw_all := lw_g (lw_at lw_m1 137 rfl) rfl
theorem q1093 : (Jvm.Cond.instantiable "TurnedBoards$Pair" (3 : Nat)) ∈ lw_all := lw_g (lw_at lw_m4 206 rfl) rfl
theorem q1095 : (Jvm.Cond.instanceMethod ({ cls := "TurnedBoards$Pair", name := "<init>", desc := "(ZLTurnedBoards$Value;LTurnedBoards$Value;)V" } : Jvm.MethodName)) ∈ lw_all := lw_g (lw_at lw_m4 208 rfl) rfl
theorem q1096 : (Jvm.Cond.code ({ cls := "TurnedBoards$Pair", name := "<init>", desc := "(ZLTurnedBoards$Value;LTurnedBoards$Value;)V" } : Jvm.MethodName) prog_14_method_1_code (4 : Nat) (Option.none : Option Jvm.ClassFile.FieldType)) ∈ lw_all := lw_g (lw_at lw_m4 209 rfl) rfl
theorem q1097 : (Jvm.Cond.methodLinkNest "TurnedBoards$Pair" (1 : Nat) ({ cls := "TurnedBoards$Value", name := "<init>", desc := "()V" } : Jvm.MethodName) "TurnedBoards") ∈ lw_tbl := lw_at lw_m4 210 rfl
theorem q1098 : (Jvm.Cond.fieldLink "TurnedBoards$Pair" (7 : Nat) "TurnedBoards$Pair" "most" "Z") ∈ lw_all := lw_g (lw_at lw_m4 211 rfl) rfl
theorem q1099 : (Jvm.Cond.fieldLink "TurnedBoards$Pair" (13 : Nat) "TurnedBoards$Pair" "first" "LTurnedBoards$Value;") ∈ lw_all := lw_g (lw_at lw_m4 212 rfl) rfl
theorem q1100 : (Jvm.Cond.fieldLink "TurnedBoards$Pair" (17 : Nat) "TurnedBoards$Pair" "second" "LTurnedBoards$Value;") ∈ lw_all := lw_g (lw_at lw_m4 213 rfl) rfl
theorem q1101 : (Jvm.Cond.laysFinal "TurnedBoards$Pair" "TurnedBoards$Pair" "most" "Z") ∈ lw_all := lw_g (lw_at lw_m4 214 rfl) rfl
theorem q1102 : (Jvm.Cond.soleField "TurnedBoards$Pair" "most") ∈ lw_all := lw_g (lw_at lw_m4 215 rfl) rfl
theorem q1103 : (Jvm.Cond.laysFinal "TurnedBoards$Pair" "TurnedBoards$Pair" "first" "LTurnedBoards$Value;") ∈ lw_all := lw_g (lw_at lw_m4 216 rfl) rfl
theorem q1104 : (Jvm.Cond.soleField "TurnedBoards$Pair" "first") ∈ lw_all := lw_g (lw_at lw_m4 217 rfl) rfl
theorem q1105 : (Jvm.Cond.laysFinal "TurnedBoards$Pair" "TurnedBoards$Pair" "second" "LTurnedBoards$Value;") ∈ lw_all := lw_g (lw_at lw_m4 218 rfl) rfl
theorem q1106 : (Jvm.Cond.soleField "TurnedBoards$Pair" "second") ∈ lw_all := lw_g (lw_at lw_m4 219 rfl) rfl
theorem q1107 : (Jvm.Cond.superclass "TurnedBoards$Pair" "TurnedBoards$Value") ∈ lw_all := lw_g (lw_at lw_m4 220 rfl) rfl
theorem q1446 : (Jvm.Cond.instanceMethod ({ cls := "TurnedBoards$Pair", name := "at", desc := "(LTurnedBoards$Moment;)J" } : Jvm.MethodName)) ∈ lw_all := lw_g (lw_at lw_m6 79 rfl) rfl
theorem q1447 : (Jvm.Cond.code ({ cls := "TurnedBoards$Pair", name := "at", desc := "(LTurnedBoards$Moment;)J" } : Jvm.MethodName) prog_14_method_2_code (6 : Nat) (Option.some Jvm.ClassFile.FieldType.long)) ∈ lw_all := lw_g (lw_at lw_m6 80 rfl) rfl
theorem q1448 : (Jvm.Cond.methodLink "TurnedBoards$Pair" (20 : Nat) ({ cls := "TurnedBoards$Value", name := "at", desc := "(LTurnedBoards$Moment;)J" } : Jvm.MethodName)) ∈ lw_all := lw_g (lw_at lw_m6 81 rfl) rfl
theorem q1530 : (Jvm.Cond.selects "TurnedBoards$Pair" ({ cls := "TurnedBoards$Value", name := "at", desc := "(LTurnedBoards$Moment;)J" } : Jvm.MethodName) ({ cls := "TurnedBoards$Pair", name := "at", desc := "(LTurnedBoards$Moment;)J" } : Jvm.MethodName)) ∈ lw_all := lw_g (lw_at lw_m6 163 rfl) rfl
theorem q2731 : (Jvm.Cond.castable "TurnedBoards$Pair" "TurnedBoards$Value") ∈ lw_tbl := lw_at lw_m11 164 rfl
theorem q2752 : (Jvm.Cond.castable "TurnedBoards$Pair" "java/lang/Object") ∈ lw_tbl := lw_at lw_m11 185 rfl
theorem in_X13 : ∀ w ∈ wsX130, w ∈ lw_all := lw_in wsX130 [1101, 1103, 1105] (by decide +kernel) (by decide +kernel)
/-! TurnedBoards$Fixed -/
set_option maxRecDepth 100000
def RX14 : String := "TurnedBoards$Fixed"
def TX14 : u_T := fun k => match k with
  | _ => ("TurnedBoards$Fixed", "value", "J", true)
def tyX14 : Nat → FieldType := fun k => match k with
  | _ => .long
abbrev wsX140 : List Cond := u_ws RX14 TX14 1
theorem nmX14 : ∀ a, a < 1 → ∀ b, b < 1 → a ≠ b → (TX14 a).2.1 ≠ (TX14 b).2.1 := by decide +kernel
theorem tyX14_ok : ∀ k, k < 1 → parseFieldDescriptor (TX14 k).2.2.1 = some (tyX14 k) := by decide +kernel
abbrev cX14_init : ByteArray := prog_8_method_1_code
def yX14_init : MethodName := ⟨RX14, "<init>", "(J)V"⟩
def dkwX14_init_0 : List UInt8 := [42, 183, 0, 1, 42, 31, 181, 0, 7, 177]
abbrev dktX14_init_0 : List UInt8 := dkwX14_init_0 ++ []
theorem dksX14_init_0 : cX14_init.data.toList.drop 0 = dktX14_init_0 := by decide +kernel
theorem dX14_init_0 : decode cX14_init 0 = .ok (.aload_n 0, 1) := dk_42 (dk_at dksX14_init_0 0 rfl rfl)
theorem dX14_init_1 : decode cX14_init 1 = .ok (.invokespecial 1, 3) := dk_183 0 1 (dk_at dksX14_init_0 1 rfl rfl)
theorem dX14_init_4 : decode cX14_init 4 = .ok (.aload_n 0, 1) := dk_42 (dk_at dksX14_init_0 4 rfl rfl)
theorem dX14_init_5 : decode cX14_init 5 = .ok (.lload_n 1, 1) := dk_31 (dk_at dksX14_init_0 5 rfl rfl)
theorem dX14_init_6 : decode cX14_init 6 = .ok (.putfield 7, 3) := dk_181 0 7 (dk_at dksX14_init_0 6 rfl rfl)
theorem dX14_init_9 : decode cX14_init 9 = .ok (.return_, 1) := dk_177 (dk_at dksX14_init_0 9 rfl rfl)
abbrev cX14_at : ByteArray := prog_8_method_2_code
def yX14_at : MethodName := ⟨RX14, "at", "(LTurnedBoards$Moment;)J"⟩
theorem dX14_at_0 : decode cX14_at 0 = .ok (.aload_n 0, 1) := by decide +kernel
theorem dX14_at_1 : decode cX14_at 1 = .ok (.getfield 7, 3) := by decide +kernel
theorem dX14_at_4 : decode cX14_at 4 = .ok (.lreturn, 1) := by decide +kernel
theorem q199 : (Jvm.Cond.initialized "TurnedBoards$Fixed") ∈ lw_all := lw_g (lw_at lw_m1 32 rfl) rfl
theorem q298 : (Jvm.Cond.selects "TurnedBoards$Fixed" ({ cls := "java/lang/Object", name := "getClass", desc := "()Ljava/lang/Class;" } : Jvm.MethodName) ({ cls := "java/lang/Object", name := "getClass", desc := "()Ljava/lang/Class;" } : Jvm.MethodName)) ∈ lw_all := lw_g (lw_at lw_m1 131 rfl) rfl
theorem q1109 : (Jvm.Cond.instantiable "TurnedBoards$Fixed" (1 : Nat)) ∈ lw_all := lw_g (lw_at lw_m4 222 rfl) rfl
theorem q1111 : (Jvm.Cond.instanceMethod ({ cls := "TurnedBoards$Fixed", name := "<init>", desc := "(J)V" } : Jvm.MethodName)) ∈ lw_all := lw_g (lw_at lw_m4 224 rfl) rfl
theorem q1112 : (Jvm.Cond.code ({ cls := "TurnedBoards$Fixed", name := "<init>", desc := "(J)V" } : Jvm.MethodName) prog_8_method_1_code (3 : Nat) (Option.none : Option Jvm.ClassFile.FieldType)) ∈ lw_all := lw_g (lw_at lw_m4 225 rfl) rfl
theorem q1113 : (Jvm.Cond.methodLinkNest "TurnedBoards$Fixed" (1 : Nat) ({ cls := "TurnedBoards$Value", name := "<init>", desc := "()V" } : Jvm.MethodName) "TurnedBoards") ∈ lw_tbl := lw_at lw_m4 226 rfl
theorem q1114 : (Jvm.Cond.fieldLink "TurnedBoards$Fixed" (7 : Nat) "TurnedBoards$Fixed" "value" "J") ∈ lw_all := lw_g (lw_at lw_m4 227 rfl) rfl
theorem q1115 : (Jvm.Cond.laysFinal "TurnedBoards$Fixed" "TurnedBoards$Fixed" "value" "J") ∈ lw_all := lw_g (lw_at lw_m4 228 rfl) rfl
theorem q1116 : (Jvm.Cond.soleField "TurnedBoards$Fixed" "value") ∈ lw_all := lw_g (lw_at lw_m4 229 rfl) rfl
theorem q1117 : (Jvm.Cond.superclass "TurnedBoards$Fixed" "TurnedBoards$Value") ∈ lw_all := lw_g (lw_at lw_m4 230 rfl) rfl
theorem q1441 : (Jvm.Cond.instanceMethod ({ cls := "TurnedBoards$Fixed", name := "at", desc := "(LTurnedBoards$Moment;)J" } : Jvm.MethodName)) ∈ lw_all := lw_g (lw_at lw_m6 74 rfl) rfl
theorem q1442 : (Jvm.Cond.code ({ cls := "TurnedBoards$Fixed", name := "at", desc := "(LTurnedBoards$Moment;)J" } : Jvm.MethodName) prog_8_method_2_code (2 : Nat) (Option.some Jvm.ClassFile.FieldType.long)) ∈ lw_all := lw_g (lw_at lw_m6 75 rfl) rfl
theorem q1528 : (Jvm.Cond.selects "TurnedBoards$Fixed" ({ cls := "TurnedBoards$Value", name := "at", desc := "(LTurnedBoards$Moment;)J" } : Jvm.MethodName) ({ cls := "TurnedBoards$Fixed", name := "at", desc := "(LTurnedBoards$Moment;)J" } : Jvm.MethodName)) ∈ lw_all := lw_g (lw_at lw_m6 161 rfl) rfl
theorem q2729 : (Jvm.Cond.castable "TurnedBoards$Fixed" "TurnedBoards$Value") ∈ lw_tbl := lw_at lw_m11 162 rfl
theorem q2753 : (Jvm.Cond.castable "TurnedBoards$Fixed" "java/lang/Object") ∈ lw_tbl := lw_at lw_m11 186 rfl
theorem in_X14 : ∀ w ∈ wsX140, w ∈ lw_all := lw_in wsX140 [1115] (by decide +kernel) (by decide +kernel)
/-! TurnedBoards$Asked -/
set_option maxRecDepth 100000
def RX15 : String := "TurnedBoards$Asked"
def TX15 : u_T := fun k => match k with
  | _ => ("TurnedBoards$Asked", "what", "I", true)
def tyX15 : Nat → FieldType := fun k => match k with
  | _ => .int
abbrev wsX150 : List Cond := u_ws RX15 TX15 1
theorem nmX15 : ∀ a, a < 1 → ∀ b, b < 1 → a ≠ b → (TX15 a).2.1 ≠ (TX15 b).2.1 := by decide +kernel
theorem tyX15_ok : ∀ k, k < 1 → parseFieldDescriptor (TX15 k).2.2.1 = some (tyX15 k) := by decide +kernel
abbrev cX15_init : ByteArray := prog_3_method_1_code
def yX15_init : MethodName := ⟨RX15, "<init>", "(I)V"⟩
def dkwX15_init_0 : List UInt8 := [42, 183, 0, 1, 42, 27, 181, 0, 7, 177]
abbrev dktX15_init_0 : List UInt8 := dkwX15_init_0 ++ []
theorem dksX15_init_0 : cX15_init.data.toList.drop 0 = dktX15_init_0 := by decide +kernel
theorem dX15_init_0 : decode cX15_init 0 = .ok (.aload_n 0, 1) := dk_42 (dk_at dksX15_init_0 0 rfl rfl)
theorem dX15_init_1 : decode cX15_init 1 = .ok (.invokespecial 1, 3) := dk_183 0 1 (dk_at dksX15_init_0 1 rfl rfl)
theorem dX15_init_4 : decode cX15_init 4 = .ok (.aload_n 0, 1) := dk_42 (dk_at dksX15_init_0 4 rfl rfl)
theorem dX15_init_5 : decode cX15_init 5 = .ok (.iload_n 1, 1) := dk_27 (dk_at dksX15_init_0 5 rfl rfl)
theorem dX15_init_6 : decode cX15_init 6 = .ok (.putfield 7, 3) := dk_181 0 7 (dk_at dksX15_init_0 6 rfl rfl)
theorem dX15_init_9 : decode cX15_init 9 = .ok (.return_, 1) := dk_177 (dk_at dksX15_init_0 9 rfl rfl)
abbrev cX15_at : ByteArray := prog_3_method_2_code
def yX15_at : MethodName := ⟨RX15, "at", "(LTurnedBoards$Moment;)J"⟩
def dkwX15_at_0 : List UInt8 := [43, 180, 0, 13, 42, 180, 0, 7, 47, 184, 0, 19, 173]
abbrev dktX15_at_0 : List UInt8 := dkwX15_at_0 ++ []
theorem dksX15_at_0 : cX15_at.data.toList.drop 0 = dktX15_at_0 := by decide +kernel
theorem dX15_at_0 : decode cX15_at 0 = .ok (.aload_n 1, 1) := dk_43 (dk_at dksX15_at_0 0 rfl rfl)
theorem dX15_at_1 : decode cX15_at 1 = .ok (.getfield 13, 3) := dk_180 0 13 (dk_at dksX15_at_0 1 rfl rfl)
theorem dX15_at_4 : decode cX15_at 4 = .ok (.aload_n 0, 1) := dk_42 (dk_at dksX15_at_0 4 rfl rfl)
theorem dX15_at_5 : decode cX15_at 5 = .ok (.getfield 7, 3) := dk_180 0 7 (dk_at dksX15_at_0 5 rfl rfl)
theorem dX15_at_8 : decode cX15_at 8 = .ok (.laload, 1) := dk_47 (dk_at dksX15_at_0 8 rfl rfl)
theorem dX15_at_9 : decode cX15_at 9 = .ok (.invokestatic 19, 3) := dk_184 0 19 (dk_at dksX15_at_0 9 rfl rfl)
theorem dX15_at_12 : decode cX15_at 12 = .ok (.lreturn, 1) := dk_173 (dk_at dksX15_at_0 12 rfl rfl)
theorem q200 : (Jvm.Cond.initialized "TurnedBoards$Asked") ∈ lw_all := lw_g (lw_at lw_m1 33 rfl) rfl
theorem q293 : (Jvm.Cond.selects "TurnedBoards$Asked" ({ cls := "java/lang/Object", name := "getClass", desc := "()Ljava/lang/Class;" } : Jvm.MethodName) ({ cls := "java/lang/Object", name := "getClass", desc := "()Ljava/lang/Class;" } : Jvm.MethodName)) ∈ lw_all := lw_g (lw_at lw_m1 126 rfl) rfl
theorem q485 : (Jvm.Cond.fieldLinkNest "TurnedBoards$Asked" (13 : Nat) "TurnedBoards$Moment" "of" "[J" "TurnedBoards") ∈ lw_tbl := lw_at lw_m2 78 rfl
theorem q1124 : (Jvm.Cond.instantiable "TurnedBoards$Asked" (1 : Nat)) ∈ lw_all := lw_g (lw_at lw_m4 237 rfl) rfl
theorem q1126 : (Jvm.Cond.instanceMethod ({ cls := "TurnedBoards$Asked", name := "<init>", desc := "(I)V" } : Jvm.MethodName)) ∈ lw_all := lw_g (lw_at lw_m4 239 rfl) rfl
theorem q1127 : (Jvm.Cond.code ({ cls := "TurnedBoards$Asked", name := "<init>", desc := "(I)V" } : Jvm.MethodName) prog_3_method_1_code (2 : Nat) (Option.none : Option Jvm.ClassFile.FieldType)) ∈ lw_all := lw_g (lw_at lw_m5 0 rfl) rfl
theorem q1128 : (Jvm.Cond.methodLinkNest "TurnedBoards$Asked" (1 : Nat) ({ cls := "TurnedBoards$Value", name := "<init>", desc := "()V" } : Jvm.MethodName) "TurnedBoards") ∈ lw_tbl := lw_at lw_m5 1 rfl
theorem q1129 : (Jvm.Cond.fieldLink "TurnedBoards$Asked" (7 : Nat) "TurnedBoards$Asked" "what" "I") ∈ lw_all := lw_g (lw_at lw_m5 2 rfl) rfl
theorem q1130 : (Jvm.Cond.laysFinal "TurnedBoards$Asked" "TurnedBoards$Asked" "what" "I") ∈ lw_all := lw_g (lw_at lw_m5 3 rfl) rfl
theorem q1131 : (Jvm.Cond.soleField "TurnedBoards$Asked" "what") ∈ lw_all := lw_g (lw_at lw_m5 4 rfl) rfl
theorem q1132 : (Jvm.Cond.superclass "TurnedBoards$Asked" "TurnedBoards$Value") ∈ lw_all := lw_g (lw_at lw_m5 5 rfl) rfl
theorem q1420 : (Jvm.Cond.selects "TurnedBoards$Asked" ({ cls := "TurnedBoards$Value", name := "at", desc := "(LTurnedBoards$Moment;)J" } : Jvm.MethodName) ({ cls := "TurnedBoards$Asked", name := "at", desc := "(LTurnedBoards$Moment;)J" } : Jvm.MethodName)) ∈ lw_all := lw_g (lw_at lw_m6 53 rfl) rfl
theorem q1421 : (Jvm.Cond.instanceMethod ({ cls := "TurnedBoards$Asked", name := "at", desc := "(LTurnedBoards$Moment;)J" } : Jvm.MethodName)) ∈ lw_all := lw_g (lw_at lw_m6 54 rfl) rfl
theorem q1422 : (Jvm.Cond.code ({ cls := "TurnedBoards$Asked", name := "at", desc := "(LTurnedBoards$Moment;)J" } : Jvm.MethodName) prog_3_method_2_code (2 : Nat) (Option.some Jvm.ClassFile.FieldType.long)) ∈ lw_all := lw_g (lw_at lw_m6 55 rfl) rfl
theorem q1423 : (Jvm.Cond.methodLinkNest "TurnedBoards$Asked" (19 : Nat) ({ cls := "TurnedBoards", name := "held", desc := "(J)J" } : Jvm.MethodName) "TurnedBoards") ∈ lw_tbl := lw_at lw_m6 56 rfl
theorem q2727 : (Jvm.Cond.castable "TurnedBoards$Asked" "TurnedBoards$Value") ∈ lw_tbl := lw_at lw_m11 160 rfl
theorem q2754 : (Jvm.Cond.castable "TurnedBoards$Asked" "java/lang/Object") ∈ lw_tbl := lw_at lw_m11 187 rfl
theorem in_X15 : ∀ w ∈ wsX150, w ∈ lw_all := lw_in wsX150 [1130] (by decide +kernel) (by decide +kernel)
/-! TurnedBoards$Looked -/
set_option maxRecDepth 100000
def RX16 : String := "TurnedBoards$Looked"
def TX16 : u_T := fun k => match k with
  | 0 => ("TurnedBoards$Looked", "what", "I", true)
  | 1 => ("TurnedBoards$Looked", "of", "LTurnedBoards$Value;", true)
  | _ => ("TurnedBoards$Looked", "this$0", "LTurnedBoards;", true)
def tyX16 : Nat → FieldType := fun k => match k with
  | 0 => .int
  | 1 => .object "TurnedBoards$Value"
  | _ => .object "TurnedBoards"
abbrev wsX160 : List Cond := u_ws RX16 TX16 3
theorem nmX16 : ∀ a, a < 3 → ∀ b, b < 3 → a ≠ b → (TX16 a).2.1 ≠ (TX16 b).2.1 := by decide +kernel
theorem tyX16_ok : ∀ k, k < 3 → parseFieldDescriptor (TX16 k).2.2.1 = some (tyX16 k) := by decide +kernel
abbrev cX16_init : ByteArray := prog_11_method_1_code
def yX16_init : MethodName := ⟨RX16, "<init>", "(LTurnedBoards;ILTurnedBoards$Value;)V"⟩
def dkwX16_init_0 : List UInt8 := [42, 43, 181, 0, 1, 42, 183, 0, 7, 42, 28, 181, 0, 13, 42, 45, 181, 0, 17, 177]
abbrev dktX16_init_0 : List UInt8 := dkwX16_init_0 ++ []
theorem dksX16_init_0 : cX16_init.data.toList.drop 0 = dktX16_init_0 := by decide +kernel
theorem dX16_init_0 : decode cX16_init 0 = .ok (.aload_n 0, 1) := dk_42 (dk_at dksX16_init_0 0 rfl rfl)
theorem dX16_init_1 : decode cX16_init 1 = .ok (.aload_n 1, 1) := dk_43 (dk_at dksX16_init_0 1 rfl rfl)
theorem dX16_init_2 : decode cX16_init 2 = .ok (.putfield 1, 3) := dk_181 0 1 (dk_at dksX16_init_0 2 rfl rfl)
theorem dX16_init_5 : decode cX16_init 5 = .ok (.aload_n 0, 1) := dk_42 (dk_at dksX16_init_0 5 rfl rfl)
theorem dX16_init_6 : decode cX16_init 6 = .ok (.invokespecial 7, 3) := dk_183 0 7 (dk_at dksX16_init_0 6 rfl rfl)
theorem dX16_init_9 : decode cX16_init 9 = .ok (.aload_n 0, 1) := dk_42 (dk_at dksX16_init_0 9 rfl rfl)
theorem dX16_init_10 : decode cX16_init 10 = .ok (.iload_n 2, 1) := dk_28 (dk_at dksX16_init_0 10 rfl rfl)
theorem dX16_init_11 : decode cX16_init 11 = .ok (.putfield 13, 3) := dk_181 0 13 (dk_at dksX16_init_0 11 rfl rfl)
theorem dX16_init_14 : decode cX16_init 14 = .ok (.aload_n 0, 1) := dk_42 (dk_at dksX16_init_0 14 rfl rfl)
theorem dX16_init_15 : decode cX16_init 15 = .ok (.aload_n 3, 1) := dk_45 (dk_at dksX16_init_0 15 rfl rfl)
theorem dX16_init_16 : decode cX16_init 16 = .ok (.putfield 17, 3) := dk_181 0 17 (dk_at dksX16_init_0 16 rfl rfl)
theorem dX16_init_19 : decode cX16_init 19 = .ok (.return_, 1) := dk_177 (dk_at dksX16_init_0 19 rfl rfl)
abbrev cX16_at : ByteArray := prog_11_method_2_code
def yX16_at : MethodName := ⟨RX16, "at", "(LTurnedBoards$Moment;)J"⟩
def dkwX16_at_0 : List UInt8 := [42, 180, 0, 1, 42, 180, 0, 13, 42, 180, 0, 17, 43, 182, 0, 21, 182, 0, 25, 184, 0, 31, 173]
abbrev dktX16_at_0 : List UInt8 := dkwX16_at_0 ++ []
theorem dksX16_at_0 : cX16_at.data.toList.drop 0 = dktX16_at_0 := by decide +kernel
theorem dX16_at_0 : decode cX16_at 0 = .ok (.aload_n 0, 1) := dk_42 (dk_at dksX16_at_0 0 rfl rfl)
theorem dX16_at_1 : decode cX16_at 1 = .ok (.getfield 1, 3) := dk_180 0 1 (dk_at dksX16_at_0 1 rfl rfl)
theorem dX16_at_4 : decode cX16_at 4 = .ok (.aload_n 0, 1) := dk_42 (dk_at dksX16_at_0 4 rfl rfl)
theorem dX16_at_5 : decode cX16_at 5 = .ok (.getfield 13, 3) := dk_180 0 13 (dk_at dksX16_at_0 5 rfl rfl)
theorem dX16_at_8 : decode cX16_at 8 = .ok (.aload_n 0, 1) := dk_42 (dk_at dksX16_at_0 8 rfl rfl)
theorem dX16_at_9 : decode cX16_at 9 = .ok (.getfield 17, 3) := dk_180 0 17 (dk_at dksX16_at_0 9 rfl rfl)
theorem dX16_at_12 : decode cX16_at 12 = .ok (.aload_n 1, 1) := dk_43 (dk_at dksX16_at_0 12 rfl rfl)
theorem dX16_at_13 : decode cX16_at 13 = .ok (.invokevirtual 21, 3) := dk_182 0 21 (dk_at dksX16_at_0 13 rfl rfl)
theorem dX16_at_16 : decode cX16_at 16 = .ok (.invokevirtual 25, 3) := dk_182 0 25 (dk_at dksX16_at_0 16 rfl rfl)
theorem dX16_at_19 : decode cX16_at 19 = .ok (.invokestatic 31, 3) := dk_184 0 31 (dk_at dksX16_at_0 19 rfl rfl)
theorem dX16_at_22 : decode cX16_at 22 = .ok (.lreturn, 1) := dk_173 (dk_at dksX16_at_0 22 rfl rfl)
theorem q201 : (Jvm.Cond.initialized "TurnedBoards$Looked") ∈ lw_all := lw_g (lw_at lw_m1 34 rfl) rfl
theorem q301 : (Jvm.Cond.selects "TurnedBoards$Looked" ({ cls := "java/lang/Object", name := "getClass", desc := "()Ljava/lang/Class;" } : Jvm.MethodName) ({ cls := "java/lang/Object", name := "getClass", desc := "()Ljava/lang/Class;" } : Jvm.MethodName)) ∈ lw_all := lw_g (lw_at lw_m1 134 rfl) rfl
theorem q1140 : (Jvm.Cond.instantiable "TurnedBoards$Looked" (3 : Nat)) ∈ lw_all := lw_g (lw_at lw_m5 13 rfl) rfl
theorem q1142 : (Jvm.Cond.instanceMethod ({ cls := "TurnedBoards$Looked", name := "<init>", desc := "(LTurnedBoards;ILTurnedBoards$Value;)V" } : Jvm.MethodName)) ∈ lw_all := lw_g (lw_at lw_m5 15 rfl) rfl
theorem q1143 : (Jvm.Cond.code ({ cls := "TurnedBoards$Looked", name := "<init>", desc := "(LTurnedBoards;ILTurnedBoards$Value;)V" } : Jvm.MethodName) prog_11_method_1_code (4 : Nat) (Option.none : Option Jvm.ClassFile.FieldType)) ∈ lw_all := lw_g (lw_at lw_m5 16 rfl) rfl
theorem q1144 : (Jvm.Cond.methodLinkNest "TurnedBoards$Looked" (7 : Nat) ({ cls := "TurnedBoards$Value", name := "<init>", desc := "()V" } : Jvm.MethodName) "TurnedBoards") ∈ lw_tbl := lw_at lw_m5 17 rfl
theorem q1145 : (Jvm.Cond.fieldLink "TurnedBoards$Looked" (13 : Nat) "TurnedBoards$Looked" "what" "I") ∈ lw_all := lw_g (lw_at lw_m5 18 rfl) rfl
theorem q1146 : (Jvm.Cond.fieldLink "TurnedBoards$Looked" (17 : Nat) "TurnedBoards$Looked" "of" "LTurnedBoards$Value;") ∈ lw_all := lw_g (lw_at lw_m5 19 rfl) rfl
theorem q1147 : (Jvm.Cond.fieldLink "TurnedBoards$Looked" (1 : Nat) "TurnedBoards$Looked" "this$0" "LTurnedBoards;") ∈ lw_all := lw_g (lw_at lw_m5 20 rfl) rfl
theorem q1148 : (Jvm.Cond.laysFinal "TurnedBoards$Looked" "TurnedBoards$Looked" "what" "I") ∈ lw_all := lw_g (lw_at lw_m5 21 rfl) rfl
theorem q1149 : (Jvm.Cond.soleField "TurnedBoards$Looked" "what") ∈ lw_all := lw_g (lw_at lw_m5 22 rfl) rfl
theorem q1150 : (Jvm.Cond.laysFinal "TurnedBoards$Looked" "TurnedBoards$Looked" "of" "LTurnedBoards$Value;") ∈ lw_all := lw_g (lw_at lw_m5 23 rfl) rfl
theorem q1151 : (Jvm.Cond.soleField "TurnedBoards$Looked" "of") ∈ lw_all := lw_g (lw_at lw_m5 24 rfl) rfl
theorem q1152 : (Jvm.Cond.laysFinal "TurnedBoards$Looked" "TurnedBoards$Looked" "this$0" "LTurnedBoards;") ∈ lw_all := lw_g (lw_at lw_m5 25 rfl) rfl
theorem q1153 : (Jvm.Cond.soleField "TurnedBoards$Looked" "this$0") ∈ lw_all := lw_g (lw_at lw_m5 26 rfl) rfl
theorem q1154 : (Jvm.Cond.superclass "TurnedBoards$Looked" "TurnedBoards$Value") ∈ lw_all := lw_g (lw_at lw_m5 27 rfl) rfl
theorem q1443 : (Jvm.Cond.instanceMethod ({ cls := "TurnedBoards$Looked", name := "at", desc := "(LTurnedBoards$Moment;)J" } : Jvm.MethodName)) ∈ lw_all := lw_g (lw_at lw_m6 76 rfl) rfl
theorem q1444 : (Jvm.Cond.code ({ cls := "TurnedBoards$Looked", name := "at", desc := "(LTurnedBoards$Moment;)J" } : Jvm.MethodName) prog_11_method_2_code (2 : Nat) (Option.some Jvm.ClassFile.FieldType.long)) ∈ lw_all := lw_g (lw_at lw_m6 77 rfl) rfl
theorem q1445 : (Jvm.Cond.methodLink "TurnedBoards$Looked" (21 : Nat) ({ cls := "TurnedBoards$Value", name := "at", desc := "(LTurnedBoards$Moment;)J" } : Jvm.MethodName)) ∈ lw_all := lw_g (lw_at lw_m6 78 rfl) rfl
theorem q1449 : (Jvm.Cond.methodLinkNest "TurnedBoards$Looked" (25 : Nat) ({ cls := "TurnedBoards", name := "looked", desc := "(IJ)J" } : Jvm.MethodName) "TurnedBoards") ∈ lw_tbl := lw_at lw_m6 82 rfl
theorem q1508 : (Jvm.Cond.methodLinkNest "TurnedBoards$Looked" (31 : Nat) ({ cls := "TurnedBoards", name := "held", desc := "(J)J" } : Jvm.MethodName) "TurnedBoards") ∈ lw_tbl := lw_at lw_m6 141 rfl
theorem q1529 : (Jvm.Cond.selects "TurnedBoards$Looked" ({ cls := "TurnedBoards$Value", name := "at", desc := "(LTurnedBoards$Moment;)J" } : Jvm.MethodName) ({ cls := "TurnedBoards$Looked", name := "at", desc := "(LTurnedBoards$Moment;)J" } : Jvm.MethodName)) ∈ lw_all := lw_g (lw_at lw_m6 162 rfl) rfl
theorem q2730 : (Jvm.Cond.castable "TurnedBoards$Looked" "TurnedBoards$Value") ∈ lw_tbl := lw_at lw_m11 163 rfl
theorem q2755 : (Jvm.Cond.castable "TurnedBoards$Looked" "java/lang/Object") ∈ lw_tbl := lw_at lw_m11 188 rfl
theorem in_X16 : ∀ w ∈ wsX160, w ∈ lw_all := lw_in wsX160 [1148, 1150, 1152] (by decide +kernel) (by decide +kernel)
/-! TurnedBoards$Test -/
set_option maxRecDepth 100000
def RX17 : String := "TurnedBoards$Test"
abbrev cX17_init : ByteArray := prog_19_method_1_code
def yX17_init : MethodName := ⟨RX17, "<init>", "()V"⟩
theorem dX17_init_0 : decode cX17_init 0 = .ok (.aload_n 0, 1) := by decide +kernel
theorem dX17_init_1 : decode cX17_init 1 = .ok (.invokespecial 1, 3) := by decide +kernel
theorem dX17_init_4 : decode cX17_init 4 = .ok (.return_, 1) := by decide +kernel
theorem q202 : (Jvm.Cond.initialized "TurnedBoards$Test") ∈ lw_all := lw_g (lw_at lw_m1 35 rfl) rfl
theorem q1225 : (Jvm.Cond.instanceMethod ({ cls := "TurnedBoards$Test", name := "<init>", desc := "()V" } : Jvm.MethodName)) ∈ lw_all := lw_g (lw_at lw_m5 98 rfl) rfl
theorem q1226 : (Jvm.Cond.code ({ cls := "TurnedBoards$Test", name := "<init>", desc := "()V" } : Jvm.MethodName) prog_19_method_1_code (1 : Nat) (Option.none : Option Jvm.ClassFile.FieldType)) ∈ lw_all := lw_g (lw_at lw_m5 99 rfl) rfl
theorem q1227 : (Jvm.Cond.methodLink "TurnedBoards$Test" (1 : Nat) ({ cls := "java/lang/Object", name := "<init>", desc := "()V" } : Jvm.MethodName)) ∈ lw_all := lw_g (lw_at lw_m5 100 rfl) rfl
theorem q1588 : (Jvm.Cond.declares ({ cls := "TurnedBoards$Test", name := "holds", desc := "(LTurnedBoards$Moment;)Z" } : Jvm.MethodName)) ∈ lw_tbl := lw_at lw_m6 221 rfl
theorem q1589 : (Jvm.Cond.sameMethod "TurnedBoards$Test" "TurnedBoards$Test" "holds" "(LTurnedBoards$Moment;)Z") ∈ lw_all := lw_g (lw_at lw_m6 222 rfl) rfl
/-! TurnedBoards$Facts -/
set_option maxRecDepth 100000
def RX18 : String := "TurnedBoards$Facts"
def TX18 : u_T := fun k => match k with
  | 0 => ("TurnedBoards$Facts", "tests", "Ljava/util/List;", true)
  | _ => ("TurnedBoards$Facts", "all", "Z", true)
def tyX18 : Nat → FieldType := fun k => match k with
  | 0 => .object "java/util/List"
  | _ => .boolean
abbrev wsX180 : List Cond := u_ws RX18 TX18 2
theorem nmX18 : ∀ a, a < 2 → ∀ b, b < 2 → a ≠ b → (TX18 a).2.1 ≠ (TX18 b).2.1 := by decide +kernel
theorem tyX18_ok : ∀ k, k < 2 → parseFieldDescriptor (TX18 k).2.2.1 = some (tyX18 k) := by decide +kernel
abbrev cX18_init : ByteArray := prog_6_method_1_code
def yX18_init : MethodName := ⟨RX18, "<init>", "(Z)V"⟩
def dkwX18_init_0 : List UInt8 := [42, 183, 0, 1, 42, 187, 0, 7, 89, 5, 183, 0, 9, 181, 0, 12, 42, 27, 181, 0, 18, 177]
abbrev dktX18_init_0 : List UInt8 := dkwX18_init_0 ++ []
theorem dksX18_init_0 : cX18_init.data.toList.drop 0 = dktX18_init_0 := by decide +kernel
theorem dX18_init_0 : decode cX18_init 0 = .ok (.aload_n 0, 1) := dk_42 (dk_at dksX18_init_0 0 rfl rfl)
theorem dX18_init_1 : decode cX18_init 1 = .ok (.invokespecial 1, 3) := dk_183 0 1 (dk_at dksX18_init_0 1 rfl rfl)
theorem dX18_init_4 : decode cX18_init 4 = .ok (.aload_n 0, 1) := dk_42 (dk_at dksX18_init_0 4 rfl rfl)
theorem dX18_init_5 : decode cX18_init 5 = .ok (.new 7, 3) := dk_187 0 7 (dk_at dksX18_init_0 5 rfl rfl)
theorem dX18_init_8 : decode cX18_init 8 = .ok (.dup, 1) := dk_89 (dk_at dksX18_init_0 8 rfl rfl)
theorem dX18_init_9 : decode cX18_init 9 = .ok (.iconst 2, 1) := dk_5 (dk_at dksX18_init_0 9 rfl rfl)
theorem dX18_init_10 : decode cX18_init 10 = .ok (.invokespecial 9, 3) := dk_183 0 9 (dk_at dksX18_init_0 10 rfl rfl)
theorem dX18_init_13 : decode cX18_init 13 = .ok (.putfield 12, 3) := dk_181 0 12 (dk_at dksX18_init_0 13 rfl rfl)
theorem dX18_init_16 : decode cX18_init 16 = .ok (.aload_n 0, 1) := dk_42 (dk_at dksX18_init_0 16 rfl rfl)
theorem dX18_init_17 : decode cX18_init 17 = .ok (.iload_n 1, 1) := dk_27 (dk_at dksX18_init_0 17 rfl rfl)
theorem dX18_init_18 : decode cX18_init 18 = .ok (.putfield 18, 3) := dk_181 0 18 (dk_at dksX18_init_0 18 rfl rfl)
theorem dX18_init_21 : decode cX18_init 21 = .ok (.return_, 1) := dk_177 (dk_at dksX18_init_0 21 rfl rfl)
abbrev cX18_holds : ByteArray := prog_6_method_2_code
def yX18_holds : MethodName := ⟨RX18, "holds", "(LTurnedBoards$Moment;)Z"⟩
def dkwX18_holds_2 : List UInt8 := [154, 0, 7, 4, 167, 0, 4, 3, 172, 132, 2, 1, 167, 255, 203, 42, 180, 0, 18, 172]
abbrev dktX18_holds_2 : List UInt8 := dkwX18_holds_2 ++ []
def dkwX18_holds_1 : List UInt8 := [185, 0, 28, 2, 0, 192, 0, 2, 43, 182, 0, 32, 42, 180, 0, 18, 159, 0, 16, 42, 180, 0, 18]
abbrev dktX18_holds_1 : List UInt8 := dkwX18_holds_1 ++ dktX18_holds_2
def dkwX18_holds_0 : List UInt8 := [3, 61, 28, 42, 180, 0, 12, 185, 0, 22, 1, 0, 162, 0, 46, 42, 180, 0, 12, 28]
abbrev dktX18_holds_0 : List UInt8 := dkwX18_holds_0 ++ dktX18_holds_1
theorem dksX18_holds_0 : cX18_holds.data.toList.drop 0 = dktX18_holds_0 := by decide +kernel
theorem dksX18_holds_1 : cX18_holds.data.toList.drop 20 = dktX18_holds_1 := dk_seg dksX18_holds_0 20 rfl rfl
theorem dksX18_holds_2 : cX18_holds.data.toList.drop 43 = dktX18_holds_2 := dk_seg dksX18_holds_1 23 rfl rfl
theorem dX18_holds_0 : decode cX18_holds 0 = .ok (.iconst 0, 1) := dk_3 (dk_at dksX18_holds_0 0 rfl rfl)
theorem dX18_holds_1 : decode cX18_holds 1 = .ok (.istore_n 2, 1) := dk_61 (dk_at dksX18_holds_0 1 rfl rfl)
theorem dX18_holds_2 : decode cX18_holds 2 = .ok (.iload_n 2, 1) := dk_28 (dk_at dksX18_holds_0 2 rfl rfl)
theorem dX18_holds_3 : decode cX18_holds 3 = .ok (.aload_n 0, 1) := dk_42 (dk_at dksX18_holds_0 3 rfl rfl)
theorem dX18_holds_4 : decode cX18_holds 4 = .ok (.getfield 12, 3) := dk_180 0 12 (dk_at dksX18_holds_0 4 rfl rfl)
theorem dX18_holds_7 : decode cX18_holds 7 = .ok (.invokeinterface 22 1, 5) := by decide +kernel
theorem dX18_holds_12 : decode cX18_holds 12 = .ok (.if_icmp .ge 46, 3) := dk_162 0 46 (dk_at dksX18_holds_0 12 rfl rfl)
theorem dX18_holds_15 : decode cX18_holds 15 = .ok (.aload_n 0, 1) := dk_42 (dk_at dksX18_holds_0 15 rfl rfl)
theorem dX18_holds_16 : decode cX18_holds 16 = .ok (.getfield 12, 3) := dk_180 0 12 (dk_at dksX18_holds_0 16 rfl rfl)
theorem dX18_holds_19 : decode cX18_holds 19 = .ok (.iload_n 2, 1) := dk_28 (dk_at dksX18_holds_0 19 rfl rfl)
theorem dX18_holds_20 : decode cX18_holds 20 = .ok (.invokeinterface 28 2, 5) := by decide +kernel
theorem dX18_holds_25 : decode cX18_holds 25 = .ok (.checkcast 2, 3) := dk_192 0 2 (dk_at dksX18_holds_1 5 rfl rfl)
theorem dX18_holds_28 : decode cX18_holds 28 = .ok (.aload_n 1, 1) := dk_43 (dk_at dksX18_holds_1 8 rfl rfl)
theorem dX18_holds_29 : decode cX18_holds 29 = .ok (.invokevirtual 32, 3) := dk_182 0 32 (dk_at dksX18_holds_1 9 rfl rfl)
theorem dX18_holds_32 : decode cX18_holds 32 = .ok (.aload_n 0, 1) := dk_42 (dk_at dksX18_holds_1 12 rfl rfl)
theorem dX18_holds_33 : decode cX18_holds 33 = .ok (.getfield 18, 3) := dk_180 0 18 (dk_at dksX18_holds_1 13 rfl rfl)
theorem dX18_holds_36 : decode cX18_holds 36 = .ok (.if_icmp .eq 16, 3) := dk_159 0 16 (dk_at dksX18_holds_1 16 rfl rfl)
theorem dX18_holds_39 : decode cX18_holds 39 = .ok (.aload_n 0, 1) := dk_42 (dk_at dksX18_holds_1 19 rfl rfl)
theorem dX18_holds_40 : decode cX18_holds 40 = .ok (.getfield 18, 3) := dk_180 0 18 (dk_at dksX18_holds_1 20 rfl rfl)
theorem dX18_holds_43 : decode cX18_holds 43 = .ok (.ifCond .ne 7, 3) := dk_154 0 7 (dk_at dksX18_holds_2 0 rfl rfl)
theorem dX18_holds_46 : decode cX18_holds 46 = .ok (.iconst 1, 1) := dk_4 (dk_at dksX18_holds_2 3 rfl rfl)
theorem dX18_holds_47 : decode cX18_holds 47 = .ok (.goto 4, 3) := dk_167 0 4 (dk_at dksX18_holds_2 4 rfl rfl)
theorem dX18_holds_50 : decode cX18_holds 50 = .ok (.iconst 0, 1) := dk_3 (dk_at dksX18_holds_2 7 rfl rfl)
theorem dX18_holds_51 : decode cX18_holds 51 = .ok (.ireturn, 1) := dk_172 (dk_at dksX18_holds_2 8 rfl rfl)
theorem dX18_holds_52 : decode cX18_holds 52 = .ok (.iinc 2 1, 3) := dk_132 2 1 (dk_at dksX18_holds_2 9 rfl rfl)
theorem dX18_holds_55 : decode cX18_holds 55 = .ok (.goto (-53), 3) := dk_167 255 203 (dk_at dksX18_holds_2 12 rfl rfl)
theorem dX18_holds_58 : decode cX18_holds 58 = .ok (.aload_n 0, 1) := dk_42 (dk_at dksX18_holds_2 15 rfl rfl)
theorem dX18_holds_59 : decode cX18_holds 59 = .ok (.getfield 18, 3) := dk_180 0 18 (dk_at dksX18_holds_2 16 rfl rfl)
theorem dX18_holds_62 : decode cX18_holds 62 = .ok (.ireturn, 1) := dk_172 (dk_at dksX18_holds_2 19 rfl rfl)
theorem q203 : (Jvm.Cond.initialized "TurnedBoards$Facts") ∈ lw_all := lw_g (lw_at lw_m1 36 rfl) rfl
theorem q296 : (Jvm.Cond.selects "TurnedBoards$Facts" ({ cls := "java/lang/Object", name := "getClass", desc := "()Ljava/lang/Class;" } : Jvm.MethodName) ({ cls := "java/lang/Object", name := "getClass", desc := "()Ljava/lang/Class;" } : Jvm.MethodName)) ∈ lw_all := lw_g (lw_at lw_m1 129 rfl) rfl
theorem q1220 : (Jvm.Cond.instantiable "TurnedBoards$Facts" (2 : Nat)) ∈ lw_all := lw_g (lw_at lw_m5 93 rfl) rfl
theorem q1222 : (Jvm.Cond.instanceMethod ({ cls := "TurnedBoards$Facts", name := "<init>", desc := "(Z)V" } : Jvm.MethodName)) ∈ lw_all := lw_g (lw_at lw_m5 95 rfl) rfl
theorem q1223 : (Jvm.Cond.code ({ cls := "TurnedBoards$Facts", name := "<init>", desc := "(Z)V" } : Jvm.MethodName) prog_6_method_1_code (2 : Nat) (Option.none : Option Jvm.ClassFile.FieldType)) ∈ lw_all := lw_g (lw_at lw_m5 96 rfl) rfl
theorem q1224 : (Jvm.Cond.methodLinkNest "TurnedBoards$Facts" (1 : Nat) ({ cls := "TurnedBoards$Test", name := "<init>", desc := "()V" } : Jvm.MethodName) "TurnedBoards") ∈ lw_tbl := lw_at lw_m5 97 rfl
theorem q1228 : (Jvm.Cond.classLink "TurnedBoards$Facts" (7 : Nat) "java/util/ArrayList") ∈ lw_all := lw_g (lw_at lw_m5 101 rfl) rfl
theorem q1229 : (Jvm.Cond.methodLink "TurnedBoards$Facts" (9 : Nat) ({ cls := "java/util/ArrayList", name := "<init>", desc := "(I)V" } : Jvm.MethodName)) ∈ lw_all := lw_g (lw_at lw_m5 102 rfl) rfl
theorem q1230 : (Jvm.Cond.fieldLink "TurnedBoards$Facts" (12 : Nat) "TurnedBoards$Facts" "tests" "Ljava/util/List;") ∈ lw_all := lw_g (lw_at lw_m5 103 rfl) rfl
theorem q1232 : (Jvm.Cond.fieldLink "TurnedBoards$Facts" (18 : Nat) "TurnedBoards$Facts" "all" "Z") ∈ lw_all := lw_g (lw_at lw_m5 105 rfl) rfl
theorem q1233 : (Jvm.Cond.laysFinal "TurnedBoards$Facts" "TurnedBoards$Facts" "tests" "Ljava/util/List;") ∈ lw_all := lw_g (lw_at lw_m5 106 rfl) rfl
theorem q1234 : (Jvm.Cond.soleField "TurnedBoards$Facts" "tests") ∈ lw_all := lw_g (lw_at lw_m5 107 rfl) rfl
theorem q1235 : (Jvm.Cond.laysFinal "TurnedBoards$Facts" "TurnedBoards$Facts" "all" "Z") ∈ lw_all := lw_g (lw_at lw_m5 108 rfl) rfl
theorem q1236 : (Jvm.Cond.soleField "TurnedBoards$Facts" "all") ∈ lw_all := lw_g (lw_at lw_m5 109 rfl) rfl
theorem q1237 : (Jvm.Cond.superclass "TurnedBoards$Facts" "TurnedBoards$Test") ∈ lw_all := lw_g (lw_at lw_m5 110 rfl) rfl
theorem q1593 : (Jvm.Cond.selects "TurnedBoards$Facts" ({ cls := "TurnedBoards$Test", name := "holds", desc := "(LTurnedBoards$Moment;)Z" } : Jvm.MethodName) ({ cls := "TurnedBoards$Facts", name := "holds", desc := "(LTurnedBoards$Moment;)Z" } : Jvm.MethodName)) ∈ lw_all := lw_g (lw_at lw_m6 226 rfl) rfl
theorem q1594 : (Jvm.Cond.instanceMethod ({ cls := "TurnedBoards$Facts", name := "holds", desc := "(LTurnedBoards$Moment;)Z" } : Jvm.MethodName)) ∈ lw_all := lw_g (lw_at lw_m6 227 rfl) rfl
theorem q1595 : (Jvm.Cond.code ({ cls := "TurnedBoards$Facts", name := "holds", desc := "(LTurnedBoards$Moment;)Z" } : Jvm.MethodName) prog_6_method_2_code (3 : Nat) (Option.some Jvm.ClassFile.FieldType.boolean)) ∈ lw_all := lw_g (lw_at lw_m6 228 rfl) rfl
theorem q1596 : (Jvm.Cond.interfaceEntry "TurnedBoards$Facts" (22 : Nat)) ∈ lw_tbl := lw_at lw_m6 229 rfl
theorem q1597 : (Jvm.Cond.methodLink "TurnedBoards$Facts" (22 : Nat) ({ cls := "java/util/List", name := "size", desc := "()I" } : Jvm.MethodName)) ∈ lw_all := lw_g (lw_at lw_m6 230 rfl) rfl
theorem q1598 : (Jvm.Cond.interfaceEntry "TurnedBoards$Facts" (28 : Nat)) ∈ lw_tbl := lw_at lw_m6 231 rfl
theorem q1599 : (Jvm.Cond.methodLink "TurnedBoards$Facts" (28 : Nat) ({ cls := "java/util/List", name := "get", desc := "(I)Ljava/lang/Object;" } : Jvm.MethodName)) ∈ lw_all := lw_g (lw_at lw_m6 232 rfl) rfl
theorem q1600 : (Jvm.Cond.classLink "TurnedBoards$Facts" (2 : Nat) "TurnedBoards$Test") ∈ lw_all := lw_g (lw_at lw_m6 233 rfl) rfl
theorem q1601 : (Jvm.Cond.methodLink "TurnedBoards$Facts" (32 : Nat) ({ cls := "TurnedBoards$Test", name := "holds", desc := "(LTurnedBoards$Moment;)Z" } : Jvm.MethodName)) ∈ lw_all := lw_g (lw_at lw_m6 234 rfl) rfl
theorem q2733 : (Jvm.Cond.castable "TurnedBoards$Facts" "TurnedBoards$Test") ∈ lw_tbl := lw_at lw_m11 166 rfl
theorem q2756 : (Jvm.Cond.castable "TurnedBoards$Facts" "java/lang/Object") ∈ lw_tbl := lw_at lw_m11 189 rfl
theorem in_X18 : ∀ w ∈ wsX180, w ∈ lw_all := lw_in wsX180 [1233, 1235] (by decide +kernel) (by decide +kernel)
/-! TurnedBoards$Not -/
set_option maxRecDepth 100000
def RX19 : String := "TurnedBoards$Not"
def TX19 : u_T := fun k => match k with
  | _ => ("TurnedBoards$Not", "test", "LTurnedBoards$Test;", true)
def tyX19 : Nat → FieldType := fun k => match k with
  | _ => .object "TurnedBoards$Test"
abbrev wsX190 : List Cond := u_ws RX19 TX19 1
theorem nmX19 : ∀ a, a < 1 → ∀ b, b < 1 → a ≠ b → (TX19 a).2.1 ≠ (TX19 b).2.1 := by decide +kernel
theorem tyX19_ok : ∀ k, k < 1 → parseFieldDescriptor (TX19 k).2.2.1 = some (tyX19 k) := by decide +kernel
abbrev cX19_init : ByteArray := prog_13_method_1_code
def yX19_init : MethodName := ⟨RX19, "<init>", "(LTurnedBoards$Test;)V"⟩
def dkwX19_init_0 : List UInt8 := [42, 183, 0, 1, 42, 43, 181, 0, 7, 177]
abbrev dktX19_init_0 : List UInt8 := dkwX19_init_0 ++ []
theorem dksX19_init_0 : cX19_init.data.toList.drop 0 = dktX19_init_0 := by decide +kernel
theorem dX19_init_0 : decode cX19_init 0 = .ok (.aload_n 0, 1) := dk_42 (dk_at dksX19_init_0 0 rfl rfl)
theorem dX19_init_1 : decode cX19_init 1 = .ok (.invokespecial 1, 3) := dk_183 0 1 (dk_at dksX19_init_0 1 rfl rfl)
theorem dX19_init_4 : decode cX19_init 4 = .ok (.aload_n 0, 1) := dk_42 (dk_at dksX19_init_0 4 rfl rfl)
theorem dX19_init_5 : decode cX19_init 5 = .ok (.aload_n 1, 1) := dk_43 (dk_at dksX19_init_0 5 rfl rfl)
theorem dX19_init_6 : decode cX19_init 6 = .ok (.putfield 7, 3) := dk_181 0 7 (dk_at dksX19_init_0 6 rfl rfl)
theorem dX19_init_9 : decode cX19_init 9 = .ok (.return_, 1) := dk_177 (dk_at dksX19_init_0 9 rfl rfl)
abbrev cX19_holds : ByteArray := prog_13_method_2_code
def yX19_holds : MethodName := ⟨RX19, "holds", "(LTurnedBoards$Moment;)Z"⟩
def dkwX19_holds_0 : List UInt8 := [42, 180, 0, 7, 43, 182, 0, 13, 154, 0, 7, 4, 167, 0, 4, 3, 172]
abbrev dktX19_holds_0 : List UInt8 := dkwX19_holds_0 ++ []
theorem dksX19_holds_0 : cX19_holds.data.toList.drop 0 = dktX19_holds_0 := by decide +kernel
theorem dX19_holds_0 : decode cX19_holds 0 = .ok (.aload_n 0, 1) := dk_42 (dk_at dksX19_holds_0 0 rfl rfl)
theorem dX19_holds_1 : decode cX19_holds 1 = .ok (.getfield 7, 3) := dk_180 0 7 (dk_at dksX19_holds_0 1 rfl rfl)
theorem dX19_holds_4 : decode cX19_holds 4 = .ok (.aload_n 1, 1) := dk_43 (dk_at dksX19_holds_0 4 rfl rfl)
theorem dX19_holds_5 : decode cX19_holds 5 = .ok (.invokevirtual 13, 3) := dk_182 0 13 (dk_at dksX19_holds_0 5 rfl rfl)
theorem dX19_holds_8 : decode cX19_holds 8 = .ok (.ifCond .ne 7, 3) := dk_154 0 7 (dk_at dksX19_holds_0 8 rfl rfl)
theorem dX19_holds_11 : decode cX19_holds 11 = .ok (.iconst 1, 1) := dk_4 (dk_at dksX19_holds_0 11 rfl rfl)
theorem dX19_holds_12 : decode cX19_holds 12 = .ok (.goto 4, 3) := dk_167 0 4 (dk_at dksX19_holds_0 12 rfl rfl)
theorem dX19_holds_15 : decode cX19_holds 15 = .ok (.iconst 0, 1) := dk_3 (dk_at dksX19_holds_0 15 rfl rfl)
theorem dX19_holds_16 : decode cX19_holds 16 = .ok (.ireturn, 1) := dk_172 (dk_at dksX19_holds_0 16 rfl rfl)
theorem q204 : (Jvm.Cond.initialized "TurnedBoards$Not") ∈ lw_all := lw_g (lw_at lw_m1 37 rfl) rfl
theorem q303 : (Jvm.Cond.selects "TurnedBoards$Not" ({ cls := "java/lang/Object", name := "getClass", desc := "()Ljava/lang/Class;" } : Jvm.MethodName) ({ cls := "java/lang/Object", name := "getClass", desc := "()Ljava/lang/Class;" } : Jvm.MethodName)) ∈ lw_all := lw_g (lw_at lw_m1 136 rfl) rfl
theorem q1252 : (Jvm.Cond.instantiable "TurnedBoards$Not" (1 : Nat)) ∈ lw_all := lw_g (lw_at lw_m5 125 rfl) rfl
theorem q1254 : (Jvm.Cond.instanceMethod ({ cls := "TurnedBoards$Not", name := "<init>", desc := "(LTurnedBoards$Test;)V" } : Jvm.MethodName)) ∈ lw_all := lw_g (lw_at lw_m5 127 rfl) rfl
theorem q1255 : (Jvm.Cond.code ({ cls := "TurnedBoards$Not", name := "<init>", desc := "(LTurnedBoards$Test;)V" } : Jvm.MethodName) prog_13_method_1_code (2 : Nat) (Option.none : Option Jvm.ClassFile.FieldType)) ∈ lw_all := lw_g (lw_at lw_m5 128 rfl) rfl
theorem q1256 : (Jvm.Cond.methodLinkNest "TurnedBoards$Not" (1 : Nat) ({ cls := "TurnedBoards$Test", name := "<init>", desc := "()V" } : Jvm.MethodName) "TurnedBoards") ∈ lw_tbl := lw_at lw_m5 129 rfl
theorem q1257 : (Jvm.Cond.fieldLink "TurnedBoards$Not" (7 : Nat) "TurnedBoards$Not" "test" "LTurnedBoards$Test;") ∈ lw_all := lw_g (lw_at lw_m5 130 rfl) rfl
theorem q1258 : (Jvm.Cond.laysFinal "TurnedBoards$Not" "TurnedBoards$Not" "test" "LTurnedBoards$Test;") ∈ lw_all := lw_g (lw_at lw_m5 131 rfl) rfl
theorem q1259 : (Jvm.Cond.soleField "TurnedBoards$Not" "test") ∈ lw_all := lw_g (lw_at lw_m5 132 rfl) rfl
theorem q1260 : (Jvm.Cond.superclass "TurnedBoards$Not" "TurnedBoards$Test") ∈ lw_all := lw_g (lw_at lw_m5 133 rfl) rfl
theorem q1602 : (Jvm.Cond.instanceMethod ({ cls := "TurnedBoards$Not", name := "holds", desc := "(LTurnedBoards$Moment;)Z" } : Jvm.MethodName)) ∈ lw_all := lw_g (lw_at lw_m6 235 rfl) rfl
theorem q1603 : (Jvm.Cond.code ({ cls := "TurnedBoards$Not", name := "holds", desc := "(LTurnedBoards$Moment;)Z" } : Jvm.MethodName) prog_13_method_2_code (2 : Nat) (Option.some Jvm.ClassFile.FieldType.boolean)) ∈ lw_all := lw_g (lw_at lw_m6 236 rfl) rfl
theorem q1604 : (Jvm.Cond.methodLink "TurnedBoards$Not" (13 : Nat) ({ cls := "TurnedBoards$Test", name := "holds", desc := "(LTurnedBoards$Moment;)Z" } : Jvm.MethodName)) ∈ lw_all := lw_g (lw_at lw_m6 237 rfl) rfl
theorem q1608 : (Jvm.Cond.selects "TurnedBoards$Not" ({ cls := "TurnedBoards$Test", name := "holds", desc := "(LTurnedBoards$Moment;)Z" } : Jvm.MethodName) ({ cls := "TurnedBoards$Not", name := "holds", desc := "(LTurnedBoards$Moment;)Z" } : Jvm.MethodName)) ∈ lw_all := lw_g (lw_at lw_m7 1 rfl) rfl
theorem q2734 : (Jvm.Cond.castable "TurnedBoards$Not" "TurnedBoards$Test") ∈ lw_tbl := lw_at lw_m11 167 rfl
theorem q2757 : (Jvm.Cond.castable "TurnedBoards$Not" "java/lang/Object") ∈ lw_tbl := lw_at lw_m11 190 rfl
theorem in_X19 : ∀ w ∈ wsX190, w ∈ lw_all := lw_in wsX190 [1258] (by decide +kernel) (by decide +kernel)
/-! TurnedBoards$All -/
set_option maxRecDepth 100000
def RX20 : String := "TurnedBoards$All"
abbrev cX20_init : ByteArray := prog_2_method_1_code
def yX20_init : MethodName := ⟨RX20, "<init>", "()V"⟩
theorem dX20_init_0 : decode cX20_init 0 = .ok (.aload_n 0, 1) := by decide +kernel
theorem dX20_init_1 : decode cX20_init 1 = .ok (.invokespecial 1, 3) := by decide +kernel
theorem dX20_init_4 : decode cX20_init 4 = .ok (.return_, 1) := by decide +kernel
abbrev cX20_holds : ByteArray := prog_2_method_2_code
def yX20_holds : MethodName := ⟨RX20, "holds", "(LTurnedBoards$Moment;)Z"⟩
theorem dX20_holds_0 : decode cX20_holds 0 = .ok (.iconst 1, 1) := by decide +kernel
theorem dX20_holds_1 : decode cX20_holds 1 = .ok (.ireturn, 1) := by decide +kernel
theorem q205 : (Jvm.Cond.initialized "TurnedBoards$All") ∈ lw_all := lw_g (lw_at lw_m1 38 rfl) rfl
theorem q292 : (Jvm.Cond.selects "TurnedBoards$All" ({ cls := "java/lang/Object", name := "getClass", desc := "()Ljava/lang/Class;" } : Jvm.MethodName) ({ cls := "java/lang/Object", name := "getClass", desc := "()Ljava/lang/Class;" } : Jvm.MethodName)) ∈ lw_all := lw_g (lw_at lw_m1 125 rfl) rfl
theorem q1263 : (Jvm.Cond.instantiable "TurnedBoards$All" (0 : Nat)) ∈ lw_all := lw_g (lw_at lw_m5 136 rfl) rfl
theorem q1265 : (Jvm.Cond.instanceMethod ({ cls := "TurnedBoards$All", name := "<init>", desc := "()V" } : Jvm.MethodName)) ∈ lw_all := lw_g (lw_at lw_m5 138 rfl) rfl
theorem q1266 : (Jvm.Cond.code ({ cls := "TurnedBoards$All", name := "<init>", desc := "()V" } : Jvm.MethodName) prog_2_method_1_code (1 : Nat) (Option.none : Option Jvm.ClassFile.FieldType)) ∈ lw_all := lw_g (lw_at lw_m5 139 rfl) rfl
theorem q1267 : (Jvm.Cond.methodLinkNest "TurnedBoards$All" (1 : Nat) ({ cls := "TurnedBoards$Test", name := "<init>", desc := "()V" } : Jvm.MethodName) "TurnedBoards") ∈ lw_tbl := lw_at lw_m5 140 rfl
theorem q1268 : (Jvm.Cond.superclass "TurnedBoards$All" "TurnedBoards$Test") ∈ lw_all := lw_g (lw_at lw_m5 141 rfl) rfl
theorem q1590 : (Jvm.Cond.selects "TurnedBoards$All" ({ cls := "TurnedBoards$Test", name := "holds", desc := "(LTurnedBoards$Moment;)Z" } : Jvm.MethodName) ({ cls := "TurnedBoards$All", name := "holds", desc := "(LTurnedBoards$Moment;)Z" } : Jvm.MethodName)) ∈ lw_all := lw_g (lw_at lw_m6 223 rfl) rfl
theorem q1591 : (Jvm.Cond.instanceMethod ({ cls := "TurnedBoards$All", name := "holds", desc := "(LTurnedBoards$Moment;)Z" } : Jvm.MethodName)) ∈ lw_all := lw_g (lw_at lw_m6 224 rfl) rfl
theorem q1592 : (Jvm.Cond.code ({ cls := "TurnedBoards$All", name := "holds", desc := "(LTurnedBoards$Moment;)Z" } : Jvm.MethodName) prog_2_method_2_code (2 : Nat) (Option.some Jvm.ClassFile.FieldType.boolean)) ∈ lw_all := lw_g (lw_at lw_m6 225 rfl) rfl
theorem q2732 : (Jvm.Cond.castable "TurnedBoards$All" "TurnedBoards$Test") ∈ lw_tbl := lw_at lw_m11 165 rfl
theorem q2758 : (Jvm.Cond.castable "TurnedBoards$All" "java/lang/Object") ∈ lw_tbl := lw_at lw_m11 191 rfl
/-! TurnedBoards$Than -/
set_option maxRecDepth 100000
def RX21 : String := "TurnedBoards$Than"
def TX21 : u_T := fun k => match k with
  | 0 => ("TurnedBoards$Than", "a", "LTurnedBoards$Value;", true)
  | 1 => ("TurnedBoards$Than", "b", "LTurnedBoards$Value;", true)
  | _ => ("TurnedBoards$Than", "sign", "I", true)
def tyX21 : Nat → FieldType := fun k => match k with
  | 0 => .object "TurnedBoards$Value"
  | 1 => .object "TurnedBoards$Value"
  | _ => .int
abbrev wsX210 : List Cond := u_ws RX21 TX21 3
theorem nmX21 : ∀ a, a < 3 → ∀ b, b < 3 → a ≠ b → (TX21 a).2.1 ≠ (TX21 b).2.1 := by decide +kernel
theorem tyX21_ok : ∀ k, k < 3 → parseFieldDescriptor (TX21 k).2.2.1 = some (tyX21 k) := by decide +kernel
abbrev cX21_init : ByteArray := prog_20_method_1_code
def yX21_init : MethodName := ⟨RX21, "<init>", "(LTurnedBoards$Value;ILTurnedBoards$Value;)V"⟩
def dkwX21_init_0 : List UInt8 := [42, 183, 0, 1, 42, 43, 181, 0, 7, 42, 28, 181, 0, 13, 42, 45, 181, 0, 17, 177]
abbrev dktX21_init_0 : List UInt8 := dkwX21_init_0 ++ []
theorem dksX21_init_0 : cX21_init.data.toList.drop 0 = dktX21_init_0 := by decide +kernel
theorem dX21_init_0 : decode cX21_init 0 = .ok (.aload_n 0, 1) := dk_42 (dk_at dksX21_init_0 0 rfl rfl)
theorem dX21_init_1 : decode cX21_init 1 = .ok (.invokespecial 1, 3) := dk_183 0 1 (dk_at dksX21_init_0 1 rfl rfl)
theorem dX21_init_4 : decode cX21_init 4 = .ok (.aload_n 0, 1) := dk_42 (dk_at dksX21_init_0 4 rfl rfl)
theorem dX21_init_5 : decode cX21_init 5 = .ok (.aload_n 1, 1) := dk_43 (dk_at dksX21_init_0 5 rfl rfl)
theorem dX21_init_6 : decode cX21_init 6 = .ok (.putfield 7, 3) := dk_181 0 7 (dk_at dksX21_init_0 6 rfl rfl)
theorem dX21_init_9 : decode cX21_init 9 = .ok (.aload_n 0, 1) := dk_42 (dk_at dksX21_init_0 9 rfl rfl)
theorem dX21_init_10 : decode cX21_init 10 = .ok (.iload_n 2, 1) := dk_28 (dk_at dksX21_init_0 10 rfl rfl)
theorem dX21_init_11 : decode cX21_init 11 = .ok (.putfield 13, 3) := dk_181 0 13 (dk_at dksX21_init_0 11 rfl rfl)
theorem dX21_init_14 : decode cX21_init 14 = .ok (.aload_n 0, 1) := dk_42 (dk_at dksX21_init_0 14 rfl rfl)
theorem dX21_init_15 : decode cX21_init 15 = .ok (.aload_n 3, 1) := dk_45 (dk_at dksX21_init_0 15 rfl rfl)
theorem dX21_init_16 : decode cX21_init 16 = .ok (.putfield 17, 3) := dk_181 0 17 (dk_at dksX21_init_0 16 rfl rfl)
theorem dX21_init_19 : decode cX21_init 19 = .ok (.return_, 1) := dk_177 (dk_at dksX21_init_0 19 rfl rfl)
abbrev cX21_holds : ByteArray := prog_20_method_2_code
def yX21_holds : MethodName := ⟨RX21, "holds", "(LTurnedBoards$Moment;)Z"⟩
def dkwX21_holds_3 : List UInt8 := [154, 0, 7, 4, 167, 0, 4, 3, 172]
abbrev dktX21_holds_3 : List UInt8 := dkwX21_holds_3 ++ []
def dkwX21_holds_2 : List UInt8 := [16, 62, 160, 0, 18, 32, 22, 4, 148, 158, 0, 7, 4, 167, 0, 19, 3, 167, 0, 15, 32, 22, 4, 148]
abbrev dktX21_holds_2 : List UInt8 := dkwX21_holds_2 ++ dktX21_holds_3
def dkwX21_holds_1 : List UInt8 := [16, 60, 160, 0, 18, 32, 22, 4, 148, 156, 0, 7, 4, 167, 0, 43, 3, 167, 0, 39, 42, 180, 0, 13]
abbrev dktX21_holds_1 : List UInt8 := dkwX21_holds_1 ++ dktX21_holds_2
def dkwX21_holds_0 : List UInt8 := [42, 180, 0, 7, 43, 182, 0, 20, 65, 42, 180, 0, 17, 43, 182, 0, 20, 55, 4, 42, 180, 0, 13]
abbrev dktX21_holds_0 : List UInt8 := dkwX21_holds_0 ++ dktX21_holds_1
theorem dksX21_holds_0 : cX21_holds.data.toList.drop 0 = dktX21_holds_0 := by decide +kernel
theorem dksX21_holds_1 : cX21_holds.data.toList.drop 23 = dktX21_holds_1 := dk_seg dksX21_holds_0 23 rfl rfl
theorem dksX21_holds_2 : cX21_holds.data.toList.drop 47 = dktX21_holds_2 := dk_seg dksX21_holds_1 24 rfl rfl
theorem dksX21_holds_3 : cX21_holds.data.toList.drop 71 = dktX21_holds_3 := dk_seg dksX21_holds_2 24 rfl rfl
theorem dX21_holds_0 : decode cX21_holds 0 = .ok (.aload_n 0, 1) := dk_42 (dk_at dksX21_holds_0 0 rfl rfl)
theorem dX21_holds_1 : decode cX21_holds 1 = .ok (.getfield 7, 3) := dk_180 0 7 (dk_at dksX21_holds_0 1 rfl rfl)
theorem dX21_holds_4 : decode cX21_holds 4 = .ok (.aload_n 1, 1) := dk_43 (dk_at dksX21_holds_0 4 rfl rfl)
theorem dX21_holds_5 : decode cX21_holds 5 = .ok (.invokevirtual 20, 3) := dk_182 0 20 (dk_at dksX21_holds_0 5 rfl rfl)
theorem dX21_holds_8 : decode cX21_holds 8 = .ok (.lstore_n 2, 1) := dk_65 (dk_at dksX21_holds_0 8 rfl rfl)
theorem dX21_holds_9 : decode cX21_holds 9 = .ok (.aload_n 0, 1) := dk_42 (dk_at dksX21_holds_0 9 rfl rfl)
theorem dX21_holds_10 : decode cX21_holds 10 = .ok (.getfield 17, 3) := dk_180 0 17 (dk_at dksX21_holds_0 10 rfl rfl)
theorem dX21_holds_13 : decode cX21_holds 13 = .ok (.aload_n 1, 1) := dk_43 (dk_at dksX21_holds_0 13 rfl rfl)
theorem dX21_holds_14 : decode cX21_holds 14 = .ok (.invokevirtual 20, 3) := dk_182 0 20 (dk_at dksX21_holds_0 14 rfl rfl)
theorem dX21_holds_17 : decode cX21_holds 17 = .ok (.lstore 4, 2) := dk_55 4 (dk_at dksX21_holds_0 17 rfl rfl)
theorem dX21_holds_19 : decode cX21_holds 19 = .ok (.aload_n 0, 1) := dk_42 (dk_at dksX21_holds_0 19 rfl rfl)
theorem dX21_holds_20 : decode cX21_holds 20 = .ok (.getfield 13, 3) := dk_180 0 13 (dk_at dksX21_holds_0 20 rfl rfl)
theorem dX21_holds_23 : decode cX21_holds 23 = .ok (.bipush 60, 2) := dk_16 60 (dk_at dksX21_holds_1 0 rfl rfl)
theorem dX21_holds_25 : decode cX21_holds 25 = .ok (.if_icmp .ne 18, 3) := dk_160 0 18 (dk_at dksX21_holds_1 2 rfl rfl)
theorem dX21_holds_28 : decode cX21_holds 28 = .ok (.lload_n 2, 1) := dk_32 (dk_at dksX21_holds_1 5 rfl rfl)
theorem dX21_holds_29 : decode cX21_holds 29 = .ok (.lload 4, 2) := dk_22 4 (dk_at dksX21_holds_1 6 rfl rfl)
theorem dX21_holds_31 : decode cX21_holds 31 = .ok (.lcmp, 1) := dk_148 (dk_at dksX21_holds_1 8 rfl rfl)
theorem dX21_holds_32 : decode cX21_holds 32 = .ok (.ifCond .ge 7, 3) := dk_156 0 7 (dk_at dksX21_holds_1 9 rfl rfl)
theorem dX21_holds_35 : decode cX21_holds 35 = .ok (.iconst 1, 1) := dk_4 (dk_at dksX21_holds_1 12 rfl rfl)
theorem dX21_holds_36 : decode cX21_holds 36 = .ok (.goto 43, 3) := dk_167 0 43 (dk_at dksX21_holds_1 13 rfl rfl)
theorem dX21_holds_39 : decode cX21_holds 39 = .ok (.iconst 0, 1) := dk_3 (dk_at dksX21_holds_1 16 rfl rfl)
theorem dX21_holds_40 : decode cX21_holds 40 = .ok (.goto 39, 3) := dk_167 0 39 (dk_at dksX21_holds_1 17 rfl rfl)
theorem dX21_holds_43 : decode cX21_holds 43 = .ok (.aload_n 0, 1) := dk_42 (dk_at dksX21_holds_1 20 rfl rfl)
theorem dX21_holds_44 : decode cX21_holds 44 = .ok (.getfield 13, 3) := dk_180 0 13 (dk_at dksX21_holds_1 21 rfl rfl)
theorem dX21_holds_47 : decode cX21_holds 47 = .ok (.bipush 62, 2) := dk_16 62 (dk_at dksX21_holds_2 0 rfl rfl)
theorem dX21_holds_49 : decode cX21_holds 49 = .ok (.if_icmp .ne 18, 3) := dk_160 0 18 (dk_at dksX21_holds_2 2 rfl rfl)
theorem dX21_holds_52 : decode cX21_holds 52 = .ok (.lload_n 2, 1) := dk_32 (dk_at dksX21_holds_2 5 rfl rfl)
theorem dX21_holds_53 : decode cX21_holds 53 = .ok (.lload 4, 2) := dk_22 4 (dk_at dksX21_holds_2 6 rfl rfl)
theorem dX21_holds_55 : decode cX21_holds 55 = .ok (.lcmp, 1) := dk_148 (dk_at dksX21_holds_2 8 rfl rfl)
theorem dX21_holds_56 : decode cX21_holds 56 = .ok (.ifCond .le 7, 3) := dk_158 0 7 (dk_at dksX21_holds_2 9 rfl rfl)
theorem dX21_holds_59 : decode cX21_holds 59 = .ok (.iconst 1, 1) := dk_4 (dk_at dksX21_holds_2 12 rfl rfl)
theorem dX21_holds_60 : decode cX21_holds 60 = .ok (.goto 19, 3) := dk_167 0 19 (dk_at dksX21_holds_2 13 rfl rfl)
theorem dX21_holds_63 : decode cX21_holds 63 = .ok (.iconst 0, 1) := dk_3 (dk_at dksX21_holds_2 16 rfl rfl)
theorem dX21_holds_64 : decode cX21_holds 64 = .ok (.goto 15, 3) := dk_167 0 15 (dk_at dksX21_holds_2 17 rfl rfl)
theorem dX21_holds_67 : decode cX21_holds 67 = .ok (.lload_n 2, 1) := dk_32 (dk_at dksX21_holds_2 20 rfl rfl)
theorem dX21_holds_68 : decode cX21_holds 68 = .ok (.lload 4, 2) := dk_22 4 (dk_at dksX21_holds_2 21 rfl rfl)
theorem dX21_holds_70 : decode cX21_holds 70 = .ok (.lcmp, 1) := dk_148 (dk_at dksX21_holds_2 23 rfl rfl)
theorem dX21_holds_71 : decode cX21_holds 71 = .ok (.ifCond .ne 7, 3) := dk_154 0 7 (dk_at dksX21_holds_3 0 rfl rfl)
theorem dX21_holds_74 : decode cX21_holds 74 = .ok (.iconst 1, 1) := dk_4 (dk_at dksX21_holds_3 3 rfl rfl)
theorem dX21_holds_75 : decode cX21_holds 75 = .ok (.goto 4, 3) := dk_167 0 4 (dk_at dksX21_holds_3 4 rfl rfl)
theorem dX21_holds_78 : decode cX21_holds 78 = .ok (.iconst 0, 1) := dk_3 (dk_at dksX21_holds_3 7 rfl rfl)
theorem dX21_holds_79 : decode cX21_holds 79 = .ok (.ireturn, 1) := dk_172 (dk_at dksX21_holds_3 8 rfl rfl)
theorem q206 : (Jvm.Cond.initialized "TurnedBoards$Than") ∈ lw_all := lw_g (lw_at lw_m1 39 rfl) rfl
theorem q309 : (Jvm.Cond.selects "TurnedBoards$Than" ({ cls := "java/lang/Object", name := "getClass", desc := "()Ljava/lang/Class;" } : Jvm.MethodName) ({ cls := "java/lang/Object", name := "getClass", desc := "()Ljava/lang/Class;" } : Jvm.MethodName)) ∈ lw_all := lw_g (lw_at lw_m1 142 rfl) rfl
theorem q1270 : (Jvm.Cond.instantiable "TurnedBoards$Than" (3 : Nat)) ∈ lw_all := lw_g (lw_at lw_m5 143 rfl) rfl
theorem q1272 : (Jvm.Cond.instanceMethod ({ cls := "TurnedBoards$Than", name := "<init>", desc := "(LTurnedBoards$Value;ILTurnedBoards$Value;)V" } : Jvm.MethodName)) ∈ lw_all := lw_g (lw_at lw_m5 145 rfl) rfl
theorem q1273 : (Jvm.Cond.code ({ cls := "TurnedBoards$Than", name := "<init>", desc := "(LTurnedBoards$Value;ILTurnedBoards$Value;)V" } : Jvm.MethodName) prog_20_method_1_code (4 : Nat) (Option.none : Option Jvm.ClassFile.FieldType)) ∈ lw_all := lw_g (lw_at lw_m5 146 rfl) rfl
theorem q1274 : (Jvm.Cond.methodLinkNest "TurnedBoards$Than" (1 : Nat) ({ cls := "TurnedBoards$Test", name := "<init>", desc := "()V" } : Jvm.MethodName) "TurnedBoards") ∈ lw_tbl := lw_at lw_m5 147 rfl
theorem q1275 : (Jvm.Cond.fieldLink "TurnedBoards$Than" (7 : Nat) "TurnedBoards$Than" "a" "LTurnedBoards$Value;") ∈ lw_all := lw_g (lw_at lw_m5 148 rfl) rfl
theorem q1276 : (Jvm.Cond.fieldLink "TurnedBoards$Than" (17 : Nat) "TurnedBoards$Than" "b" "LTurnedBoards$Value;") ∈ lw_all := lw_g (lw_at lw_m5 149 rfl) rfl
theorem q1277 : (Jvm.Cond.fieldLink "TurnedBoards$Than" (13 : Nat) "TurnedBoards$Than" "sign" "I") ∈ lw_all := lw_g (lw_at lw_m5 150 rfl) rfl
theorem q1278 : (Jvm.Cond.laysFinal "TurnedBoards$Than" "TurnedBoards$Than" "a" "LTurnedBoards$Value;") ∈ lw_all := lw_g (lw_at lw_m5 151 rfl) rfl
theorem q1279 : (Jvm.Cond.soleField "TurnedBoards$Than" "a") ∈ lw_all := lw_g (lw_at lw_m5 152 rfl) rfl
theorem q1280 : (Jvm.Cond.laysFinal "TurnedBoards$Than" "TurnedBoards$Than" "b" "LTurnedBoards$Value;") ∈ lw_all := lw_g (lw_at lw_m5 153 rfl) rfl
theorem q1281 : (Jvm.Cond.soleField "TurnedBoards$Than" "b") ∈ lw_all := lw_g (lw_at lw_m5 154 rfl) rfl
theorem q1282 : (Jvm.Cond.laysFinal "TurnedBoards$Than" "TurnedBoards$Than" "sign" "I") ∈ lw_all := lw_g (lw_at lw_m5 155 rfl) rfl
theorem q1283 : (Jvm.Cond.soleField "TurnedBoards$Than" "sign") ∈ lw_all := lw_g (lw_at lw_m5 156 rfl) rfl
theorem q1284 : (Jvm.Cond.superclass "TurnedBoards$Than" "TurnedBoards$Test") ∈ lw_all := lw_g (lw_at lw_m5 157 rfl) rfl
theorem q1605 : (Jvm.Cond.instanceMethod ({ cls := "TurnedBoards$Than", name := "holds", desc := "(LTurnedBoards$Moment;)Z" } : Jvm.MethodName)) ∈ lw_all := lw_g (lw_at lw_m6 238 rfl) rfl
theorem q1606 : (Jvm.Cond.code ({ cls := "TurnedBoards$Than", name := "holds", desc := "(LTurnedBoards$Moment;)Z" } : Jvm.MethodName) prog_20_method_2_code (6 : Nat) (Option.some Jvm.ClassFile.FieldType.boolean)) ∈ lw_all := lw_g (lw_at lw_m6 239 rfl) rfl
theorem q1607 : (Jvm.Cond.methodLink "TurnedBoards$Than" (20 : Nat) ({ cls := "TurnedBoards$Value", name := "at", desc := "(LTurnedBoards$Moment;)J" } : Jvm.MethodName)) ∈ lw_all := lw_g (lw_at lw_m7 0 rfl) rfl
theorem q1609 : (Jvm.Cond.selects "TurnedBoards$Than" ({ cls := "TurnedBoards$Test", name := "holds", desc := "(LTurnedBoards$Moment;)Z" } : Jvm.MethodName) ({ cls := "TurnedBoards$Than", name := "holds", desc := "(LTurnedBoards$Moment;)Z" } : Jvm.MethodName)) ∈ lw_all := lw_g (lw_at lw_m7 2 rfl) rfl
theorem q2735 : (Jvm.Cond.castable "TurnedBoards$Than" "TurnedBoards$Test") ∈ lw_tbl := lw_at lw_m11 168 rfl
theorem q2759 : (Jvm.Cond.castable "TurnedBoards$Than" "java/lang/Object") ∈ lw_tbl := lw_at lw_m11 192 rfl
theorem in_X21 : ∀ w ∈ wsX210, w ∈ lw_all := lw_in wsX210 [1278, 1280, 1282] (by decide +kernel) (by decide +kernel)
/-! TurnedBoards$Question -/
set_option maxRecDepth 100000
def RX22 : String := "TurnedBoards$Question"
def TX22 : u_T := fun k => match k with
  | 0 => ("TurnedBoards$Question", "what", "I", true)
  | 1 => ("TurnedBoards$Question", "test", "LTurnedBoards$Test;", true)
  | 2 => ("TurnedBoards$Question", "sum", "LTurnedBoards$Value;", true)
  | 3 => ("TurnedBoards$Question", "found", "J", false)
  | _ => ("TurnedBoards$Question", "has", "Z", false)
def tyX22 : Nat → FieldType := fun k => match k with
  | 0 => .int
  | 1 => .object "TurnedBoards$Test"
  | 2 => .object "TurnedBoards$Value"
  | 3 => .long
  | _ => .boolean
abbrev wsX220 : List Cond := u_ws RX22 TX22 5
theorem nmX22 : ∀ a, a < 5 → ∀ b, b < 5 → a ≠ b → (TX22 a).2.1 ≠ (TX22 b).2.1 := by decide +kernel
theorem tyX22_ok : ∀ k, k < 5 → parseFieldDescriptor (TX22 k).2.2.1 = some (tyX22 k) := by decide +kernel
abbrev cX22_init : ByteArray := prog_15_method_1_code
def yX22_init : MethodName := ⟨RX22, "<init>", "(ILTurnedBoards$Test;LTurnedBoards$Value;)V"⟩
def dkwX22_init_1 : List UInt8 := [181, 0, 25, 177]
abbrev dktX22_init_1 : List UInt8 := dkwX22_init_1 ++ []
def dkwX22_init_0 : List UInt8 := [42, 183, 0, 3, 42, 20, 0, 9, 181, 0, 11, 42, 27, 181, 0, 17, 42, 44, 181, 0, 21, 42, 45]
abbrev dktX22_init_0 : List UInt8 := dkwX22_init_0 ++ dktX22_init_1
theorem dksX22_init_0 : cX22_init.data.toList.drop 0 = dktX22_init_0 := by decide +kernel
theorem dksX22_init_1 : cX22_init.data.toList.drop 23 = dktX22_init_1 := dk_seg dksX22_init_0 23 rfl rfl
theorem dX22_init_0 : decode cX22_init 0 = .ok (.aload_n 0, 1) := dk_42 (dk_at dksX22_init_0 0 rfl rfl)
theorem dX22_init_1 : decode cX22_init 1 = .ok (.invokespecial 3, 3) := dk_183 0 3 (dk_at dksX22_init_0 1 rfl rfl)
theorem dX22_init_4 : decode cX22_init 4 = .ok (.aload_n 0, 1) := dk_42 (dk_at dksX22_init_0 4 rfl rfl)
theorem dX22_init_5 : decode cX22_init 5 = .ok (.ldc2_w 9, 3) := dk_20 0 9 (dk_at dksX22_init_0 5 rfl rfl)
theorem dX22_init_8 : decode cX22_init 8 = .ok (.putfield 11, 3) := dk_181 0 11 (dk_at dksX22_init_0 8 rfl rfl)
theorem dX22_init_11 : decode cX22_init 11 = .ok (.aload_n 0, 1) := dk_42 (dk_at dksX22_init_0 11 rfl rfl)
theorem dX22_init_12 : decode cX22_init 12 = .ok (.iload_n 1, 1) := dk_27 (dk_at dksX22_init_0 12 rfl rfl)
theorem dX22_init_13 : decode cX22_init 13 = .ok (.putfield 17, 3) := dk_181 0 17 (dk_at dksX22_init_0 13 rfl rfl)
theorem dX22_init_16 : decode cX22_init 16 = .ok (.aload_n 0, 1) := dk_42 (dk_at dksX22_init_0 16 rfl rfl)
theorem dX22_init_17 : decode cX22_init 17 = .ok (.aload_n 2, 1) := dk_44 (dk_at dksX22_init_0 17 rfl rfl)
theorem dX22_init_18 : decode cX22_init 18 = .ok (.putfield 21, 3) := dk_181 0 21 (dk_at dksX22_init_0 18 rfl rfl)
theorem dX22_init_21 : decode cX22_init 21 = .ok (.aload_n 0, 1) := dk_42 (dk_at dksX22_init_0 21 rfl rfl)
theorem dX22_init_22 : decode cX22_init 22 = .ok (.aload_n 3, 1) := dk_45 (dk_at dksX22_init_0 22 rfl rfl)
theorem dX22_init_23 : decode cX22_init 23 = .ok (.putfield 25, 3) := dk_181 0 25 (dk_at dksX22_init_1 0 rfl rfl)
theorem dX22_init_26 : decode cX22_init 26 = .ok (.return_, 1) := dk_177 (dk_at dksX22_init_1 3 rfl rfl)
abbrev cX22_meets : ByteArray := prog_15_method_2_code
def yX22_meets : MethodName := ⟨RX22, "meets", "(ILTurnedBoards$Moment;)V"⟩
def dkwX22_meets_6 : List UInt8 := [181, 0, 11, 42, 4, 181, 0, 41, 177]
abbrev dktX22_meets_6 : List UInt8 := dkwX22_meets_6 ++ []
def dkwX22_meets_5 : List UInt8 := [7, 160, 0, 14, 42, 180, 0, 11, 33, 184, 0, 35, 167, 0, 11, 42, 180, 0, 11, 33, 184, 0, 51]
abbrev dktX22_meets_5 : List UInt8 := dkwX22_meets_5 ++ dktX22_meets_6
def dkwX22_meets_4 : List UInt8 := [167, 0, 47, 42, 180, 0, 17, 6, 160, 0, 12, 42, 180, 0, 11, 33, 97, 167, 0, 30, 42, 180, 0, 17]
abbrev dktX22_meets_4 : List UInt8 := dkwX22_meets_4 ++ dktX22_meets_5
def dkwX22_meets_3 : List UInt8 := [181, 0, 41, 177, 42, 180, 0, 25, 44, 182, 0, 45, 66, 42, 42, 180, 0, 41, 154, 0, 7, 33]
abbrev dktX22_meets_3 : List UInt8 := dkwX22_meets_3 ++ dktX22_meets_4
def dkwX22_meets_2 : List UInt8 := [154, 0, 17, 42, 180, 0, 41, 153, 0, 10, 42, 180, 0, 11, 167, 0, 5, 27, 133, 181, 0, 11, 42, 4]
abbrev dktX22_meets_2 : List UInt8 := dkwX22_meets_2 ++ dktX22_meets_3
def dkwX22_meets_1 : List UInt8 := [180, 0, 17, 5, 160, 0, 16, 9, 42, 180, 0, 11, 184, 0, 35, 10, 97, 167, 0, 26, 42, 180, 0, 17]
abbrev dktX22_meets_1 : List UInt8 := dkwX22_meets_1 ++ dktX22_meets_2
def dkwX22_meets_0 : List UInt8 := [42, 180, 0, 17, 6, 162, 0, 69, 42, 180, 0, 21, 44, 182, 0, 29, 154, 0, 4, 177, 42, 42]
abbrev dktX22_meets_0 : List UInt8 := dkwX22_meets_0 ++ dktX22_meets_1
theorem dksX22_meets_0 : cX22_meets.data.toList.drop 0 = dktX22_meets_0 := by decide +kernel
theorem dksX22_meets_1 : cX22_meets.data.toList.drop 22 = dktX22_meets_1 := dk_seg dksX22_meets_0 22 rfl rfl
theorem dksX22_meets_2 : cX22_meets.data.toList.drop 46 = dktX22_meets_2 := dk_seg dksX22_meets_1 24 rfl rfl
theorem dksX22_meets_3 : cX22_meets.data.toList.drop 70 = dktX22_meets_3 := dk_seg dksX22_meets_2 24 rfl rfl
theorem dksX22_meets_4 : cX22_meets.data.toList.drop 92 = dktX22_meets_4 := dk_seg dksX22_meets_3 22 rfl rfl
theorem dksX22_meets_5 : cX22_meets.data.toList.drop 116 = dktX22_meets_5 := dk_seg dksX22_meets_4 24 rfl rfl
theorem dksX22_meets_6 : cX22_meets.data.toList.drop 139 = dktX22_meets_6 := dk_seg dksX22_meets_5 23 rfl rfl
theorem dX22_meets_0 : decode cX22_meets 0 = .ok (.aload_n 0, 1) := dk_42 (dk_at dksX22_meets_0 0 rfl rfl)
theorem dX22_meets_1 : decode cX22_meets 1 = .ok (.getfield 17, 3) := dk_180 0 17 (dk_at dksX22_meets_0 1 rfl rfl)
theorem dX22_meets_4 : decode cX22_meets 4 = .ok (.iconst 3, 1) := dk_6 (dk_at dksX22_meets_0 4 rfl rfl)
theorem dX22_meets_5 : decode cX22_meets 5 = .ok (.if_icmp .ge 69, 3) := dk_162 0 69 (dk_at dksX22_meets_0 5 rfl rfl)
theorem dX22_meets_8 : decode cX22_meets 8 = .ok (.aload_n 0, 1) := dk_42 (dk_at dksX22_meets_0 8 rfl rfl)
theorem dX22_meets_9 : decode cX22_meets 9 = .ok (.getfield 21, 3) := dk_180 0 21 (dk_at dksX22_meets_0 9 rfl rfl)
theorem dX22_meets_12 : decode cX22_meets 12 = .ok (.aload_n 2, 1) := dk_44 (dk_at dksX22_meets_0 12 rfl rfl)
theorem dX22_meets_13 : decode cX22_meets 13 = .ok (.invokevirtual 29, 3) := dk_182 0 29 (dk_at dksX22_meets_0 13 rfl rfl)
theorem dX22_meets_16 : decode cX22_meets 16 = .ok (.ifCond .ne 4, 3) := dk_154 0 4 (dk_at dksX22_meets_0 16 rfl rfl)
theorem dX22_meets_19 : decode cX22_meets 19 = .ok (.return_, 1) := dk_177 (dk_at dksX22_meets_0 19 rfl rfl)
theorem dX22_meets_20 : decode cX22_meets 20 = .ok (.aload_n 0, 1) := dk_42 (dk_at dksX22_meets_0 20 rfl rfl)
theorem dX22_meets_21 : decode cX22_meets 21 = .ok (.aload_n 0, 1) := dk_42 (dk_at dksX22_meets_0 21 rfl rfl)
theorem dX22_meets_22 : decode cX22_meets 22 = .ok (.getfield 17, 3) := dk_180 0 17 (dk_at dksX22_meets_1 0 rfl rfl)
theorem dX22_meets_25 : decode cX22_meets 25 = .ok (.iconst 2, 1) := dk_5 (dk_at dksX22_meets_1 3 rfl rfl)
theorem dX22_meets_26 : decode cX22_meets 26 = .ok (.if_icmp .ne 16, 3) := dk_160 0 16 (dk_at dksX22_meets_1 4 rfl rfl)
theorem dX22_meets_29 : decode cX22_meets 29 = .ok (.lconst 0, 1) := dk_9 (dk_at dksX22_meets_1 7 rfl rfl)
theorem dX22_meets_30 : decode cX22_meets 30 = .ok (.aload_n 0, 1) := dk_42 (dk_at dksX22_meets_1 8 rfl rfl)
theorem dX22_meets_31 : decode cX22_meets 31 = .ok (.getfield 11, 3) := dk_180 0 11 (dk_at dksX22_meets_1 9 rfl rfl)
theorem dX22_meets_34 : decode cX22_meets 34 = .ok (.invokestatic 35, 3) := dk_184 0 35 (dk_at dksX22_meets_1 12 rfl rfl)
theorem dX22_meets_37 : decode cX22_meets 37 = .ok (.lconst 1, 1) := dk_10 (dk_at dksX22_meets_1 15 rfl rfl)
theorem dX22_meets_38 : decode cX22_meets 38 = .ok (.ladd, 1) := dk_97 (dk_at dksX22_meets_1 16 rfl rfl)
theorem dX22_meets_39 : decode cX22_meets 39 = .ok (.goto 26, 3) := dk_167 0 26 (dk_at dksX22_meets_1 17 rfl rfl)
theorem dX22_meets_42 : decode cX22_meets 42 = .ok (.aload_n 0, 1) := dk_42 (dk_at dksX22_meets_1 20 rfl rfl)
theorem dX22_meets_43 : decode cX22_meets 43 = .ok (.getfield 17, 3) := dk_180 0 17 (dk_at dksX22_meets_1 21 rfl rfl)
theorem dX22_meets_46 : decode cX22_meets 46 = .ok (.ifCond .ne 17, 3) := dk_154 0 17 (dk_at dksX22_meets_2 0 rfl rfl)
theorem dX22_meets_49 : decode cX22_meets 49 = .ok (.aload_n 0, 1) := dk_42 (dk_at dksX22_meets_2 3 rfl rfl)
theorem dX22_meets_50 : decode cX22_meets 50 = .ok (.getfield 41, 3) := dk_180 0 41 (dk_at dksX22_meets_2 4 rfl rfl)
theorem dX22_meets_53 : decode cX22_meets 53 = .ok (.ifCond .eq 10, 3) := dk_153 0 10 (dk_at dksX22_meets_2 7 rfl rfl)
theorem dX22_meets_56 : decode cX22_meets 56 = .ok (.aload_n 0, 1) := dk_42 (dk_at dksX22_meets_2 10 rfl rfl)
theorem dX22_meets_57 : decode cX22_meets 57 = .ok (.getfield 11, 3) := dk_180 0 11 (dk_at dksX22_meets_2 11 rfl rfl)
theorem dX22_meets_60 : decode cX22_meets 60 = .ok (.goto 5, 3) := dk_167 0 5 (dk_at dksX22_meets_2 14 rfl rfl)
theorem dX22_meets_63 : decode cX22_meets 63 = .ok (.iload_n 1, 1) := dk_27 (dk_at dksX22_meets_2 17 rfl rfl)
theorem dX22_meets_64 : decode cX22_meets 64 = .ok (.i2l, 1) := dk_133 (dk_at dksX22_meets_2 18 rfl rfl)
theorem dX22_meets_65 : decode cX22_meets 65 = .ok (.putfield 11, 3) := dk_181 0 11 (dk_at dksX22_meets_2 19 rfl rfl)
theorem dX22_meets_68 : decode cX22_meets 68 = .ok (.aload_n 0, 1) := dk_42 (dk_at dksX22_meets_2 22 rfl rfl)
theorem dX22_meets_69 : decode cX22_meets 69 = .ok (.iconst 1, 1) := dk_4 (dk_at dksX22_meets_2 23 rfl rfl)
theorem dX22_meets_70 : decode cX22_meets 70 = .ok (.putfield 41, 3) := dk_181 0 41 (dk_at dksX22_meets_3 0 rfl rfl)
theorem dX22_meets_73 : decode cX22_meets 73 = .ok (.return_, 1) := dk_177 (dk_at dksX22_meets_3 3 rfl rfl)
theorem dX22_meets_74 : decode cX22_meets 74 = .ok (.aload_n 0, 1) := dk_42 (dk_at dksX22_meets_3 4 rfl rfl)
theorem dX22_meets_75 : decode cX22_meets 75 = .ok (.getfield 25, 3) := dk_180 0 25 (dk_at dksX22_meets_3 5 rfl rfl)
theorem dX22_meets_78 : decode cX22_meets 78 = .ok (.aload_n 2, 1) := dk_44 (dk_at dksX22_meets_3 8 rfl rfl)
theorem dX22_meets_79 : decode cX22_meets 79 = .ok (.invokevirtual 45, 3) := dk_182 0 45 (dk_at dksX22_meets_3 9 rfl rfl)
theorem dX22_meets_82 : decode cX22_meets 82 = .ok (.lstore_n 3, 1) := dk_66 (dk_at dksX22_meets_3 12 rfl rfl)
theorem dX22_meets_83 : decode cX22_meets 83 = .ok (.aload_n 0, 1) := dk_42 (dk_at dksX22_meets_3 13 rfl rfl)
theorem dX22_meets_84 : decode cX22_meets 84 = .ok (.aload_n 0, 1) := dk_42 (dk_at dksX22_meets_3 14 rfl rfl)
theorem dX22_meets_85 : decode cX22_meets 85 = .ok (.getfield 41, 3) := dk_180 0 41 (dk_at dksX22_meets_3 15 rfl rfl)
theorem dX22_meets_88 : decode cX22_meets 88 = .ok (.ifCond .ne 7, 3) := dk_154 0 7 (dk_at dksX22_meets_3 18 rfl rfl)
theorem dX22_meets_91 : decode cX22_meets 91 = .ok (.lload_n 3, 1) := dk_33 (dk_at dksX22_meets_3 21 rfl rfl)
theorem dX22_meets_92 : decode cX22_meets 92 = .ok (.goto 47, 3) := dk_167 0 47 (dk_at dksX22_meets_4 0 rfl rfl)
theorem dX22_meets_95 : decode cX22_meets 95 = .ok (.aload_n 0, 1) := dk_42 (dk_at dksX22_meets_4 3 rfl rfl)
theorem dX22_meets_96 : decode cX22_meets 96 = .ok (.getfield 17, 3) := dk_180 0 17 (dk_at dksX22_meets_4 4 rfl rfl)
theorem dX22_meets_99 : decode cX22_meets 99 = .ok (.iconst 3, 1) := dk_6 (dk_at dksX22_meets_4 7 rfl rfl)
theorem dX22_meets_100 : decode cX22_meets 100 = .ok (.if_icmp .ne 12, 3) := dk_160 0 12 (dk_at dksX22_meets_4 8 rfl rfl)
theorem dX22_meets_103 : decode cX22_meets 103 = .ok (.aload_n 0, 1) := dk_42 (dk_at dksX22_meets_4 11 rfl rfl)
theorem dX22_meets_104 : decode cX22_meets 104 = .ok (.getfield 11, 3) := dk_180 0 11 (dk_at dksX22_meets_4 12 rfl rfl)
theorem dX22_meets_107 : decode cX22_meets 107 = .ok (.lload_n 3, 1) := dk_33 (dk_at dksX22_meets_4 15 rfl rfl)
theorem dX22_meets_108 : decode cX22_meets 108 = .ok (.ladd, 1) := dk_97 (dk_at dksX22_meets_4 16 rfl rfl)
theorem dX22_meets_109 : decode cX22_meets 109 = .ok (.goto 30, 3) := dk_167 0 30 (dk_at dksX22_meets_4 17 rfl rfl)
theorem dX22_meets_112 : decode cX22_meets 112 = .ok (.aload_n 0, 1) := dk_42 (dk_at dksX22_meets_4 20 rfl rfl)
theorem dX22_meets_113 : decode cX22_meets 113 = .ok (.getfield 17, 3) := dk_180 0 17 (dk_at dksX22_meets_4 21 rfl rfl)
theorem dX22_meets_116 : decode cX22_meets 116 = .ok (.iconst 4, 1) := dk_7 (dk_at dksX22_meets_5 0 rfl rfl)
theorem dX22_meets_117 : decode cX22_meets 117 = .ok (.if_icmp .ne 14, 3) := dk_160 0 14 (dk_at dksX22_meets_5 1 rfl rfl)
theorem dX22_meets_120 : decode cX22_meets 120 = .ok (.aload_n 0, 1) := dk_42 (dk_at dksX22_meets_5 4 rfl rfl)
theorem dX22_meets_121 : decode cX22_meets 121 = .ok (.getfield 11, 3) := dk_180 0 11 (dk_at dksX22_meets_5 5 rfl rfl)
theorem dX22_meets_124 : decode cX22_meets 124 = .ok (.lload_n 3, 1) := dk_33 (dk_at dksX22_meets_5 8 rfl rfl)
theorem dX22_meets_125 : decode cX22_meets 125 = .ok (.invokestatic 35, 3) := dk_184 0 35 (dk_at dksX22_meets_5 9 rfl rfl)
theorem dX22_meets_128 : decode cX22_meets 128 = .ok (.goto 11, 3) := dk_167 0 11 (dk_at dksX22_meets_5 12 rfl rfl)
theorem dX22_meets_131 : decode cX22_meets 131 = .ok (.aload_n 0, 1) := dk_42 (dk_at dksX22_meets_5 15 rfl rfl)
theorem dX22_meets_132 : decode cX22_meets 132 = .ok (.getfield 11, 3) := dk_180 0 11 (dk_at dksX22_meets_5 16 rfl rfl)
theorem dX22_meets_135 : decode cX22_meets 135 = .ok (.lload_n 3, 1) := dk_33 (dk_at dksX22_meets_5 19 rfl rfl)
theorem dX22_meets_136 : decode cX22_meets 136 = .ok (.invokestatic 51, 3) := dk_184 0 51 (dk_at dksX22_meets_5 20 rfl rfl)
theorem dX22_meets_139 : decode cX22_meets 139 = .ok (.putfield 11, 3) := dk_181 0 11 (dk_at dksX22_meets_6 0 rfl rfl)
theorem dX22_meets_142 : decode cX22_meets 142 = .ok (.aload_n 0, 1) := dk_42 (dk_at dksX22_meets_6 3 rfl rfl)
theorem dX22_meets_143 : decode cX22_meets 143 = .ok (.iconst 1, 1) := dk_4 (dk_at dksX22_meets_6 4 rfl rfl)
theorem dX22_meets_144 : decode cX22_meets 144 = .ok (.putfield 41, 3) := dk_181 0 41 (dk_at dksX22_meets_6 5 rfl rfl)
theorem dX22_meets_147 : decode cX22_meets 147 = .ok (.return_, 1) := dk_177 (dk_at dksX22_meets_6 8 rfl rfl)
abbrev cX22_answer : ByteArray := prog_15_method_3_code
def yX22_answer : MethodName := ⟨RX22, "answer", "()J"⟩
def dkwX22_answer_0 : List UInt8 := [42, 180, 0, 41, 154, 0, 11, 42, 180, 0, 17, 5, 162, 0, 10, 42, 180, 0, 11, 167, 0, 4, 9, 173]
abbrev dktX22_answer_0 : List UInt8 := dkwX22_answer_0 ++ []
theorem dksX22_answer_0 : cX22_answer.data.toList.drop 0 = dktX22_answer_0 := by decide +kernel
theorem dX22_answer_0 : decode cX22_answer 0 = .ok (.aload_n 0, 1) := dk_42 (dk_at dksX22_answer_0 0 rfl rfl)
theorem dX22_answer_1 : decode cX22_answer 1 = .ok (.getfield 41, 3) := dk_180 0 41 (dk_at dksX22_answer_0 1 rfl rfl)
theorem dX22_answer_4 : decode cX22_answer 4 = .ok (.ifCond .ne 11, 3) := dk_154 0 11 (dk_at dksX22_answer_0 4 rfl rfl)
theorem dX22_answer_7 : decode cX22_answer 7 = .ok (.aload_n 0, 1) := dk_42 (dk_at dksX22_answer_0 7 rfl rfl)
theorem dX22_answer_8 : decode cX22_answer 8 = .ok (.getfield 17, 3) := dk_180 0 17 (dk_at dksX22_answer_0 8 rfl rfl)
theorem dX22_answer_11 : decode cX22_answer 11 = .ok (.iconst 2, 1) := dk_5 (dk_at dksX22_answer_0 11 rfl rfl)
theorem dX22_answer_12 : decode cX22_answer 12 = .ok (.if_icmp .ge 10, 3) := dk_162 0 10 (dk_at dksX22_answer_0 12 rfl rfl)
theorem dX22_answer_15 : decode cX22_answer 15 = .ok (.aload_n 0, 1) := dk_42 (dk_at dksX22_answer_0 15 rfl rfl)
theorem dX22_answer_16 : decode cX22_answer 16 = .ok (.getfield 11, 3) := dk_180 0 11 (dk_at dksX22_answer_0 16 rfl rfl)
theorem dX22_answer_19 : decode cX22_answer 19 = .ok (.goto 4, 3) := dk_167 0 4 (dk_at dksX22_answer_0 19 rfl rfl)
theorem dX22_answer_22 : decode cX22_answer 22 = .ok (.lconst 0, 1) := dk_9 (dk_at dksX22_answer_0 22 rfl rfl)
theorem dX22_answer_23 : decode cX22_answer 23 = .ok (.lreturn, 1) := dk_173 (dk_at dksX22_answer_0 23 rfl rfl)
theorem q208 : (Jvm.Cond.initialized "TurnedBoards$Question") ∈ lw_all := lw_g (lw_at lw_m1 41 rfl) rfl
theorem q305 : (Jvm.Cond.selects "TurnedBoards$Question" ({ cls := "java/lang/Object", name := "getClass", desc := "()Ljava/lang/Class;" } : Jvm.MethodName) ({ cls := "java/lang/Object", name := "getClass", desc := "()Ljava/lang/Class;" } : Jvm.MethodName)) ∈ lw_all := lw_g (lw_at lw_m1 138 rfl) rfl
theorem q1722 : (Jvm.Cond.instantiable "TurnedBoards$Question" (5 : Nat)) ∈ lw_all := lw_g (lw_at lw_m7 115 rfl) rfl
theorem q1724 : (Jvm.Cond.instanceMethod ({ cls := "TurnedBoards$Question", name := "<init>", desc := "(ILTurnedBoards$Test;LTurnedBoards$Value;)V" } : Jvm.MethodName)) ∈ lw_all := lw_g (lw_at lw_m7 117 rfl) rfl
theorem q1725 : (Jvm.Cond.code ({ cls := "TurnedBoards$Question", name := "<init>", desc := "(ILTurnedBoards$Test;LTurnedBoards$Value;)V" } : Jvm.MethodName) prog_15_method_1_code (4 : Nat) (Option.none : Option Jvm.ClassFile.FieldType)) ∈ lw_all := lw_g (lw_at lw_m7 118 rfl) rfl
theorem q1726 : (Jvm.Cond.methodLink "TurnedBoards$Question" (3 : Nat) ({ cls := "java/lang/Object", name := "<init>", desc := "()V" } : Jvm.MethodName)) ∈ lw_all := lw_g (lw_at lw_m7 119 rfl) rfl
theorem q1727 : (Jvm.Cond.constantLong "TurnedBoards$Question" (9 : Nat) (-1 : Int64)) ∈ lw_all := lw_g (lw_at lw_m7 120 rfl) rfl
theorem q1728 : (Jvm.Cond.fieldLink "TurnedBoards$Question" (17 : Nat) "TurnedBoards$Question" "what" "I") ∈ lw_all := lw_g (lw_at lw_m7 121 rfl) rfl
theorem q1729 : (Jvm.Cond.fieldLink "TurnedBoards$Question" (21 : Nat) "TurnedBoards$Question" "test" "LTurnedBoards$Test;") ∈ lw_all := lw_g (lw_at lw_m7 122 rfl) rfl
theorem q1730 : (Jvm.Cond.fieldLink "TurnedBoards$Question" (25 : Nat) "TurnedBoards$Question" "sum" "LTurnedBoards$Value;") ∈ lw_all := lw_g (lw_at lw_m7 123 rfl) rfl
theorem q1731 : (Jvm.Cond.fieldLink "TurnedBoards$Question" (11 : Nat) "TurnedBoards$Question" "found" "J") ∈ lw_all := lw_g (lw_at lw_m7 124 rfl) rfl
theorem q1732 : (Jvm.Cond.fieldLink "TurnedBoards$Question" (41 : Nat) "TurnedBoards$Question" "has" "Z") ∈ lw_all := lw_g (lw_at lw_m7 125 rfl) rfl
theorem q1733 : (Jvm.Cond.laysFinal "TurnedBoards$Question" "TurnedBoards$Question" "what" "I") ∈ lw_all := lw_g (lw_at lw_m7 126 rfl) rfl
theorem q1734 : (Jvm.Cond.soleField "TurnedBoards$Question" "what") ∈ lw_all := lw_g (lw_at lw_m7 127 rfl) rfl
theorem q1735 : (Jvm.Cond.laysFinal "TurnedBoards$Question" "TurnedBoards$Question" "test" "LTurnedBoards$Test;") ∈ lw_all := lw_g (lw_at lw_m7 128 rfl) rfl
theorem q1736 : (Jvm.Cond.soleField "TurnedBoards$Question" "test") ∈ lw_all := lw_g (lw_at lw_m7 129 rfl) rfl
theorem q1737 : (Jvm.Cond.laysFinal "TurnedBoards$Question" "TurnedBoards$Question" "sum" "LTurnedBoards$Value;") ∈ lw_all := lw_g (lw_at lw_m7 130 rfl) rfl
theorem q1738 : (Jvm.Cond.soleField "TurnedBoards$Question" "sum") ∈ lw_all := lw_g (lw_at lw_m7 131 rfl) rfl
theorem q1739 : (Jvm.Cond.lays "TurnedBoards$Question" "TurnedBoards$Question" "found" "J") ∈ lw_all := lw_g (lw_at lw_m7 132 rfl) rfl
theorem q1740 : (Jvm.Cond.soleField "TurnedBoards$Question" "found") ∈ lw_all := lw_g (lw_at lw_m7 133 rfl) rfl
theorem q1741 : (Jvm.Cond.lays "TurnedBoards$Question" "TurnedBoards$Question" "has" "Z") ∈ lw_all := lw_g (lw_at lw_m7 134 rfl) rfl
theorem q1742 : (Jvm.Cond.soleField "TurnedBoards$Question" "has") ∈ lw_all := lw_g (lw_at lw_m7 135 rfl) rfl
theorem q1743 : (Jvm.Cond.superclass "TurnedBoards$Question" "java/lang/Object") ∈ lw_all := lw_g (lw_at lw_m7 136 rfl) rfl
theorem q1749 : (Jvm.Cond.instanceMethod ({ cls := "TurnedBoards$Question", name := "meets", desc := "(ILTurnedBoards$Moment;)V" } : Jvm.MethodName)) ∈ lw_all := lw_g (lw_at lw_m7 142 rfl) rfl
theorem q1750 : (Jvm.Cond.selects "TurnedBoards$Question" ({ cls := "TurnedBoards$Question", name := "meets", desc := "(ILTurnedBoards$Moment;)V" } : Jvm.MethodName) ({ cls := "TurnedBoards$Question", name := "meets", desc := "(ILTurnedBoards$Moment;)V" } : Jvm.MethodName)) ∈ lw_all := lw_g (lw_at lw_m7 143 rfl) rfl
theorem q1751 : (Jvm.Cond.code ({ cls := "TurnedBoards$Question", name := "meets", desc := "(ILTurnedBoards$Moment;)V" } : Jvm.MethodName) prog_15_method_2_code (5 : Nat) (Option.none : Option Jvm.ClassFile.FieldType)) ∈ lw_all := lw_g (lw_at lw_m7 144 rfl) rfl
theorem q1752 : (Jvm.Cond.methodLink "TurnedBoards$Question" (29 : Nat) ({ cls := "TurnedBoards$Test", name := "holds", desc := "(LTurnedBoards$Moment;)Z" } : Jvm.MethodName)) ∈ lw_all := lw_g (lw_at lw_m7 145 rfl) rfl
theorem q1753 : (Jvm.Cond.methodLink "TurnedBoards$Question" (35 : Nat) ({ cls := "java/lang/Math", name := "max", desc := "(JJ)J" } : Jvm.MethodName)) ∈ lw_all := lw_g (lw_at lw_m7 146 rfl) rfl
theorem q1754 : (Jvm.Cond.methodLink "TurnedBoards$Question" (45 : Nat) ({ cls := "TurnedBoards$Value", name := "at", desc := "(LTurnedBoards$Moment;)J" } : Jvm.MethodName)) ∈ lw_all := lw_g (lw_at lw_m7 147 rfl) rfl
theorem q1755 : (Jvm.Cond.methodLink "TurnedBoards$Question" (51 : Nat) ({ cls := "java/lang/Math", name := "min", desc := "(JJ)J" } : Jvm.MethodName)) ∈ lw_all := lw_g (lw_at lw_m7 148 rfl) rfl
theorem q1757 : (Jvm.Cond.instanceMethod ({ cls := "TurnedBoards$Question", name := "answer", desc := "()J" } : Jvm.MethodName)) ∈ lw_all := lw_g (lw_at lw_m7 150 rfl) rfl
theorem q1758 : (Jvm.Cond.selects "TurnedBoards$Question" ({ cls := "TurnedBoards$Question", name := "answer", desc := "()J" } : Jvm.MethodName) ({ cls := "TurnedBoards$Question", name := "answer", desc := "()J" } : Jvm.MethodName)) ∈ lw_all := lw_g (lw_at lw_m7 151 rfl) rfl
theorem q1759 : (Jvm.Cond.code ({ cls := "TurnedBoards$Question", name := "answer", desc := "()J" } : Jvm.MethodName) prog_15_method_3_code (1 : Nat) (Option.some Jvm.ClassFile.FieldType.long)) ∈ lw_all := lw_g (lw_at lw_m7 152 rfl) rfl
theorem q2760 : (Jvm.Cond.castable "TurnedBoards$Question" "java/lang/Object") ∈ lw_tbl := lw_at lw_m11 193 rfl
theorem in_X22 : ∀ w ∈ wsX220, w ∈ lw_all := lw_in wsX220 [1733, 1735, 1737, 1739, 1741] (by decide +kernel) (by decide +kernel)
