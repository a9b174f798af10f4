/-! TurnedBoards$Reader -/
set_option maxRecDepth 100000
def RX2 : String := "TurnedBoards$Reader"
def TX2 : u_T := fun k => match k with
  | 0 => ("TurnedBoards$Reader", "fault", "LTurnedBoards$Fault;", true)
  | 1 => ("TurnedBoards$Reader", "size", "I", false)
  | 2 => ("TurnedBoards$Reader", "at", "I", false)
  | 3 => ("TurnedBoards$Reader", "from", "I", false)
  | 4 => ("TurnedBoards$Reader", "open", "I", false)
  | 5 => ("TurnedBoards$Reader", "context", "I", false)
  | 6 => ("TurnedBoards$Reader", "to", "LTurnedBoards$Shop;", false)
  | _ => ("TurnedBoards$Reader", "this$0", "LTurnedBoards;", true)
def tyX2 : Nat → FieldType := fun k => match k with
  | 0 => .object "TurnedBoards$Fault"
  | 1 => .int
  | 2 => .int
  | 3 => .int
  | 4 => .int
  | 5 => .int
  | 6 => .object "TurnedBoards$Shop"
  | _ => .object "TurnedBoards"
abbrev wsX20 : List Cond := u_ws RX2 TX2 8
theorem nmX2 : ∀ a, a < 8 → ∀ b, b < 8 → a ≠ b → (TX2 a).2.1 ≠ (TX2 b).2.1 := by decide +kernel
theorem tyX2_ok : ∀ k, k < 8 → parseFieldDescriptor (TX2 k).2.2.1 = some (tyX2 k) := by decide +kernel
abbrev cX2_init : ByteArray := prog_16_method_1_code
def yX2_init : MethodName := ⟨RX2, "<init>", "(LTurnedBoards;)V"⟩
def dkwX2_init_0 : List UInt8 := [42, 43, 181, 0, 3, 42, 183, 0, 9, 42, 187, 0, 15, 89, 183, 0, 17, 181, 0, 18, 177]
abbrev dktX2_init_0 : List UInt8 := dkwX2_init_0 ++ []
theorem dksX2_init_0 : cX2_init.data.toList.drop 0 = dktX2_init_0 := by decide +kernel
theorem dX2_init_0 : decode cX2_init 0 = .ok (.aload_n 0, 1) := dk_42 (dk_at dksX2_init_0 0 rfl rfl)
theorem dX2_init_1 : decode cX2_init 1 = .ok (.aload_n 1, 1) := dk_43 (dk_at dksX2_init_0 1 rfl rfl)
theorem dX2_init_2 : decode cX2_init 2 = .ok (.putfield 3, 3) := dk_181 0 3 (dk_at dksX2_init_0 2 rfl rfl)
theorem dX2_init_5 : decode cX2_init 5 = .ok (.aload_n 0, 1) := dk_42 (dk_at dksX2_init_0 5 rfl rfl)
theorem dX2_init_6 : decode cX2_init 6 = .ok (.invokespecial 9, 3) := dk_183 0 9 (dk_at dksX2_init_0 6 rfl rfl)
theorem dX2_init_9 : decode cX2_init 9 = .ok (.aload_n 0, 1) := dk_42 (dk_at dksX2_init_0 9 rfl rfl)
theorem dX2_init_10 : decode cX2_init 10 = .ok (.new 15, 3) := dk_187 0 15 (dk_at dksX2_init_0 10 rfl rfl)
theorem dX2_init_13 : decode cX2_init 13 = .ok (.dup, 1) := dk_89 (dk_at dksX2_init_0 13 rfl rfl)
theorem dX2_init_14 : decode cX2_init 14 = .ok (.invokespecial 17, 3) := dk_183 0 17 (dk_at dksX2_init_0 14 rfl rfl)
theorem dX2_init_17 : decode cX2_init 17 = .ok (.putfield 18, 3) := dk_181 0 18 (dk_at dksX2_init_0 17 rfl rfl)
theorem dX2_init_20 : decode cX2_init 20 = .ok (.return_, 1) := dk_177 (dk_at dksX2_init_0 20 rfl rfl)
abbrev cX2_all : ByteArray := prog_16_method_14_code
def yX2_all : MethodName := ⟨RX2, "all", "(I)LTurnedBoards$Shop;"⟩
def dkwX2_all_4 : List UInt8 := [180, 0, 61, 182, 0, 121, 42, 16, 59, 182, 0, 125, 167, 255, 178, 42, 180, 0, 103, 176]
abbrev dktX2_all_4 : List UInt8 := dkwX2_all_4 ++ []
def dkwX2_all_3 : List UInt8 := [181, 0, 110, 42, 182, 0, 70, 77, 42, 44, 42, 180, 0, 61, 182, 0, 117, 154, 0, 12, 42, 44, 42]
abbrev dktX2_all_3 : List UInt8 := dkwX2_all_3 ++ dktX2_all_4
def dkwX2_all_2 : List UInt8 := [4, 167, 0, 4, 3, 42, 180, 0, 36, 182, 0, 113, 42, 180, 0, 103, 89, 180, 0, 110, 4, 96]
abbrev dktX2_all_2 : List UInt8 := dkwX2_all_2 ++ dktX2_all_3
def dkwX2_all_1 : List UInt8 := [181, 0, 107, 42, 182, 0, 43, 2, 159, 0, 76, 42, 42, 180, 0, 103, 180, 0, 110, 16, 60, 160, 0, 7]
abbrev dktX2_all_1 : List UInt8 := dkwX2_all_1 ++ dktX2_all_2
def dkwX2_all_0 : List UInt8 := [42, 187, 0, 100, 89, 183, 0, 102, 181, 0, 103, 42, 27, 181, 0, 29, 42, 3, 181, 0, 36, 42, 3]
abbrev dktX2_all_0 : List UInt8 := dkwX2_all_0 ++ dktX2_all_1
theorem dksX2_all_0 : cX2_all.data.toList.drop 0 = dktX2_all_0 := by decide +kernel
theorem dksX2_all_1 : cX2_all.data.toList.drop 23 = dktX2_all_1 := dk_seg dksX2_all_0 23 rfl rfl
theorem dksX2_all_2 : cX2_all.data.toList.drop 47 = dktX2_all_2 := dk_seg dksX2_all_1 24 rfl rfl
theorem dksX2_all_3 : cX2_all.data.toList.drop 69 = dktX2_all_3 := dk_seg dksX2_all_2 22 rfl rfl
theorem dksX2_all_4 : cX2_all.data.toList.drop 92 = dktX2_all_4 := dk_seg dksX2_all_3 23 rfl rfl
theorem dX2_all_0 : decode cX2_all 0 = .ok (.aload_n 0, 1) := dk_42 (dk_at dksX2_all_0 0 rfl rfl)
theorem dX2_all_1 : decode cX2_all 1 = .ok (.new 100, 3) := dk_187 0 100 (dk_at dksX2_all_0 1 rfl rfl)
theorem dX2_all_4 : decode cX2_all 4 = .ok (.dup, 1) := dk_89 (dk_at dksX2_all_0 4 rfl rfl)
theorem dX2_all_5 : decode cX2_all 5 = .ok (.invokespecial 102, 3) := dk_183 0 102 (dk_at dksX2_all_0 5 rfl rfl)
theorem dX2_all_8 : decode cX2_all 8 = .ok (.putfield 103, 3) := dk_181 0 103 (dk_at dksX2_all_0 8 rfl rfl)
theorem dX2_all_11 : decode cX2_all 11 = .ok (.aload_n 0, 1) := dk_42 (dk_at dksX2_all_0 11 rfl rfl)
theorem dX2_all_12 : decode cX2_all 12 = .ok (.iload_n 1, 1) := dk_27 (dk_at dksX2_all_0 12 rfl rfl)
theorem dX2_all_13 : decode cX2_all 13 = .ok (.putfield 29, 3) := dk_181 0 29 (dk_at dksX2_all_0 13 rfl rfl)
theorem dX2_all_16 : decode cX2_all 16 = .ok (.aload_n 0, 1) := dk_42 (dk_at dksX2_all_0 16 rfl rfl)
theorem dX2_all_17 : decode cX2_all 17 = .ok (.iconst 0, 1) := dk_3 (dk_at dksX2_all_0 17 rfl rfl)
theorem dX2_all_18 : decode cX2_all 18 = .ok (.putfield 36, 3) := dk_181 0 36 (dk_at dksX2_all_0 18 rfl rfl)
theorem dX2_all_21 : decode cX2_all 21 = .ok (.aload_n 0, 1) := dk_42 (dk_at dksX2_all_0 21 rfl rfl)
theorem dX2_all_22 : decode cX2_all 22 = .ok (.iconst 0, 1) := dk_3 (dk_at dksX2_all_0 22 rfl rfl)
theorem dX2_all_23 : decode cX2_all 23 = .ok (.putfield 107, 3) := dk_181 0 107 (dk_at dksX2_all_1 0 rfl rfl)
theorem dX2_all_26 : decode cX2_all 26 = .ok (.aload_n 0, 1) := dk_42 (dk_at dksX2_all_1 3 rfl rfl)
theorem dX2_all_27 : decode cX2_all 27 = .ok (.invokevirtual 43, 3) := dk_182 0 43 (dk_at dksX2_all_1 4 rfl rfl)
theorem dX2_all_30 : decode cX2_all 30 = .ok (.iconst (-1), 1) := dk_2 (dk_at dksX2_all_1 7 rfl rfl)
theorem dX2_all_31 : decode cX2_all 31 = .ok (.if_icmp .eq 76, 3) := dk_159 0 76 (dk_at dksX2_all_1 8 rfl rfl)
theorem dX2_all_34 : decode cX2_all 34 = .ok (.aload_n 0, 1) := dk_42 (dk_at dksX2_all_1 11 rfl rfl)
theorem dX2_all_35 : decode cX2_all 35 = .ok (.aload_n 0, 1) := dk_42 (dk_at dksX2_all_1 12 rfl rfl)
theorem dX2_all_36 : decode cX2_all 36 = .ok (.getfield 103, 3) := dk_180 0 103 (dk_at dksX2_all_1 13 rfl rfl)
theorem dX2_all_39 : decode cX2_all 39 = .ok (.getfield 110, 3) := dk_180 0 110 (dk_at dksX2_all_1 16 rfl rfl)
theorem dX2_all_42 : decode cX2_all 42 = .ok (.bipush 60, 2) := dk_16 60 (dk_at dksX2_all_1 19 rfl rfl)
theorem dX2_all_44 : decode cX2_all 44 = .ok (.if_icmp .ne 7, 3) := dk_160 0 7 (dk_at dksX2_all_1 21 rfl rfl)
theorem dX2_all_47 : decode cX2_all 47 = .ok (.iconst 1, 1) := dk_4 (dk_at dksX2_all_2 0 rfl rfl)
theorem dX2_all_48 : decode cX2_all 48 = .ok (.goto 4, 3) := dk_167 0 4 (dk_at dksX2_all_2 1 rfl rfl)
theorem dX2_all_51 : decode cX2_all 51 = .ok (.iconst 0, 1) := dk_3 (dk_at dksX2_all_2 4 rfl rfl)
theorem dX2_all_52 : decode cX2_all 52 = .ok (.aload_n 0, 1) := dk_42 (dk_at dksX2_all_2 5 rfl rfl)
theorem dX2_all_53 : decode cX2_all 53 = .ok (.getfield 36, 3) := dk_180 0 36 (dk_at dksX2_all_2 6 rfl rfl)
theorem dX2_all_56 : decode cX2_all 56 = .ok (.invokevirtual 113, 3) := dk_182 0 113 (dk_at dksX2_all_2 9 rfl rfl)
theorem dX2_all_59 : decode cX2_all 59 = .ok (.aload_n 0, 1) := dk_42 (dk_at dksX2_all_2 12 rfl rfl)
theorem dX2_all_60 : decode cX2_all 60 = .ok (.getfield 103, 3) := dk_180 0 103 (dk_at dksX2_all_2 13 rfl rfl)
theorem dX2_all_63 : decode cX2_all 63 = .ok (.dup, 1) := dk_89 (dk_at dksX2_all_2 16 rfl rfl)
theorem dX2_all_64 : decode cX2_all 64 = .ok (.getfield 110, 3) := dk_180 0 110 (dk_at dksX2_all_2 17 rfl rfl)
theorem dX2_all_67 : decode cX2_all 67 = .ok (.iconst 1, 1) := dk_4 (dk_at dksX2_all_2 20 rfl rfl)
theorem dX2_all_68 : decode cX2_all 68 = .ok (.iadd, 1) := dk_96 (dk_at dksX2_all_2 21 rfl rfl)
theorem dX2_all_69 : decode cX2_all 69 = .ok (.putfield 110, 3) := dk_181 0 110 (dk_at dksX2_all_3 0 rfl rfl)
theorem dX2_all_72 : decode cX2_all 72 = .ok (.aload_n 0, 1) := dk_42 (dk_at dksX2_all_3 3 rfl rfl)
theorem dX2_all_73 : decode cX2_all 73 = .ok (.invokevirtual 70, 3) := dk_182 0 70 (dk_at dksX2_all_3 4 rfl rfl)
theorem dX2_all_76 : decode cX2_all 76 = .ok (.astore_n 2, 1) := dk_77 (dk_at dksX2_all_3 7 rfl rfl)
theorem dX2_all_77 : decode cX2_all 77 = .ok (.aload_n 0, 1) := dk_42 (dk_at dksX2_all_3 8 rfl rfl)
theorem dX2_all_78 : decode cX2_all 78 = .ok (.aload_n 2, 1) := dk_44 (dk_at dksX2_all_3 9 rfl rfl)
theorem dX2_all_79 : decode cX2_all 79 = .ok (.aload_n 0, 1) := dk_42 (dk_at dksX2_all_3 10 rfl rfl)
theorem dX2_all_80 : decode cX2_all 80 = .ok (.getfield 61, 3) := dk_180 0 61 (dk_at dksX2_all_3 11 rfl rfl)
theorem dX2_all_83 : decode cX2_all 83 = .ok (.invokevirtual 117, 3) := dk_182 0 117 (dk_at dksX2_all_3 14 rfl rfl)
theorem dX2_all_86 : decode cX2_all 86 = .ok (.ifCond .ne 12, 3) := dk_154 0 12 (dk_at dksX2_all_3 17 rfl rfl)
theorem dX2_all_89 : decode cX2_all 89 = .ok (.aload_n 0, 1) := dk_42 (dk_at dksX2_all_3 20 rfl rfl)
theorem dX2_all_90 : decode cX2_all 90 = .ok (.aload_n 2, 1) := dk_44 (dk_at dksX2_all_3 21 rfl rfl)
theorem dX2_all_91 : decode cX2_all 91 = .ok (.aload_n 0, 1) := dk_42 (dk_at dksX2_all_3 22 rfl rfl)
theorem dX2_all_92 : decode cX2_all 92 = .ok (.getfield 61, 3) := dk_180 0 61 (dk_at dksX2_all_4 0 rfl rfl)
theorem dX2_all_95 : decode cX2_all 95 = .ok (.invokevirtual 121, 3) := dk_182 0 121 (dk_at dksX2_all_4 3 rfl rfl)
theorem dX2_all_98 : decode cX2_all 98 = .ok (.aload_n 0, 1) := dk_42 (dk_at dksX2_all_4 6 rfl rfl)
theorem dX2_all_99 : decode cX2_all 99 = .ok (.bipush 59, 2) := dk_16 59 (dk_at dksX2_all_4 7 rfl rfl)
theorem dX2_all_101 : decode cX2_all 101 = .ok (.invokevirtual 125, 3) := dk_182 0 125 (dk_at dksX2_all_4 9 rfl rfl)
theorem dX2_all_104 : decode cX2_all 104 = .ok (.goto (-78), 3) := dk_167 255 178 (dk_at dksX2_all_4 12 rfl rfl)
theorem dX2_all_107 : decode cX2_all 107 = .ok (.aload_n 0, 1) := dk_42 (dk_at dksX2_all_4 15 rfl rfl)
theorem dX2_all_108 : decode cX2_all 108 = .ok (.getfield 103, 3) := dk_180 0 103 (dk_at dksX2_all_4 16 rfl rfl)
theorem dX2_all_111 : decode cX2_all 111 = .ok (.areturn, 1) := dk_176 (dk_at dksX2_all_4 19 rfl rfl)
abbrev cX2_here : ByteArray := prog_16_method_4_code
def yX2_here : MethodName := ⟨RX2, "here", "()I"⟩
def dkwX2_here_2 : List UInt8 := [172]
abbrev dktX2_here_2 : List UInt8 := dkwX2_here_2 ++ []
def dkwX2_here_1 : List UInt8 := [160, 0, 16, 42, 89, 180, 0, 36, 4, 96, 181, 0, 36, 167, 255, 220, 42, 42, 180, 0, 36, 182, 0, 39]
abbrev dktX2_here_1 : List UInt8 := dkwX2_here_1 ++ dktX2_here_2
def dkwX2_here_0 : List UInt8 := [42, 42, 180, 0, 36, 182, 0, 39, 16, 32, 159, 0, 16, 42, 42, 180, 0, 36, 182, 0, 39, 16, 10]
abbrev dktX2_here_0 : List UInt8 := dkwX2_here_0 ++ dktX2_here_1
theorem dksX2_here_0 : cX2_here.data.toList.drop 0 = dktX2_here_0 := by decide +kernel
theorem dksX2_here_1 : cX2_here.data.toList.drop 23 = dktX2_here_1 := dk_seg dksX2_here_0 23 rfl rfl
theorem dksX2_here_2 : cX2_here.data.toList.drop 47 = dktX2_here_2 := dk_seg dksX2_here_1 24 rfl rfl
theorem dX2_here_0 : decode cX2_here 0 = .ok (.aload_n 0, 1) := dk_42 (dk_at dksX2_here_0 0 rfl rfl)
theorem dX2_here_1 : decode cX2_here 1 = .ok (.aload_n 0, 1) := dk_42 (dk_at dksX2_here_0 1 rfl rfl)
theorem dX2_here_2 : decode cX2_here 2 = .ok (.getfield 36, 3) := dk_180 0 36 (dk_at dksX2_here_0 2 rfl rfl)
theorem dX2_here_5 : decode cX2_here 5 = .ok (.invokevirtual 39, 3) := dk_182 0 39 (dk_at dksX2_here_0 5 rfl rfl)
theorem dX2_here_8 : decode cX2_here 8 = .ok (.bipush 32, 2) := dk_16 32 (dk_at dksX2_here_0 8 rfl rfl)
theorem dX2_here_10 : decode cX2_here 10 = .ok (.if_icmp .eq 16, 3) := dk_159 0 16 (dk_at dksX2_here_0 10 rfl rfl)
theorem dX2_here_13 : decode cX2_here 13 = .ok (.aload_n 0, 1) := dk_42 (dk_at dksX2_here_0 13 rfl rfl)
theorem dX2_here_14 : decode cX2_here 14 = .ok (.aload_n 0, 1) := dk_42 (dk_at dksX2_here_0 14 rfl rfl)
theorem dX2_here_15 : decode cX2_here 15 = .ok (.getfield 36, 3) := dk_180 0 36 (dk_at dksX2_here_0 15 rfl rfl)
theorem dX2_here_18 : decode cX2_here 18 = .ok (.invokevirtual 39, 3) := dk_182 0 39 (dk_at dksX2_here_0 18 rfl rfl)
theorem dX2_here_21 : decode cX2_here 21 = .ok (.bipush 10, 2) := dk_16 10 (dk_at dksX2_here_0 21 rfl rfl)
theorem dX2_here_23 : decode cX2_here 23 = .ok (.if_icmp .ne 16, 3) := dk_160 0 16 (dk_at dksX2_here_1 0 rfl rfl)
theorem dX2_here_26 : decode cX2_here 26 = .ok (.aload_n 0, 1) := dk_42 (dk_at dksX2_here_1 3 rfl rfl)
theorem dX2_here_27 : decode cX2_here 27 = .ok (.dup, 1) := dk_89 (dk_at dksX2_here_1 4 rfl rfl)
theorem dX2_here_28 : decode cX2_here 28 = .ok (.getfield 36, 3) := dk_180 0 36 (dk_at dksX2_here_1 5 rfl rfl)
theorem dX2_here_31 : decode cX2_here 31 = .ok (.iconst 1, 1) := dk_4 (dk_at dksX2_here_1 8 rfl rfl)
theorem dX2_here_32 : decode cX2_here 32 = .ok (.iadd, 1) := dk_96 (dk_at dksX2_here_1 9 rfl rfl)
theorem dX2_here_33 : decode cX2_here 33 = .ok (.putfield 36, 3) := dk_181 0 36 (dk_at dksX2_here_1 10 rfl rfl)
theorem dX2_here_36 : decode cX2_here 36 = .ok (.goto (-36), 3) := dk_167 255 220 (dk_at dksX2_here_1 13 rfl rfl)
theorem dX2_here_39 : decode cX2_here 39 = .ok (.aload_n 0, 1) := dk_42 (dk_at dksX2_here_1 16 rfl rfl)
theorem dX2_here_40 : decode cX2_here 40 = .ok (.aload_n 0, 1) := dk_42 (dk_at dksX2_here_1 17 rfl rfl)
theorem dX2_here_41 : decode cX2_here 41 = .ok (.getfield 36, 3) := dk_180 0 36 (dk_at dksX2_here_1 18 rfl rfl)
theorem dX2_here_44 : decode cX2_here 44 = .ok (.invokevirtual 39, 3) := dk_182 0 39 (dk_at dksX2_here_1 21 rfl rfl)
theorem dX2_here_47 : decode cX2_here 47 = .ok (.ireturn, 1) := dk_172 (dk_at dksX2_here_2 0 rfl rfl)
abbrev cX2_byteAt : ByteArray := prog_16_method_3_code
def yX2_byteAt : MethodName := ⟨RX2, "byteAt", "(I)I"⟩
def dkwX2_byteAt_1 : List UInt8 := [126, 167, 0, 4, 2, 172]
abbrev dktX2_byteAt_1 : List UInt8 := dkwX2_byteAt_1 ++ []
def dkwX2_byteAt_0 : List UInt8 := [27, 155, 0, 27, 27, 42, 180, 0, 29, 162, 0, 19, 42, 180, 0, 3, 180, 0, 32, 27, 51, 17, 0, 255]
abbrev dktX2_byteAt_0 : List UInt8 := dkwX2_byteAt_0 ++ dktX2_byteAt_1
theorem dksX2_byteAt_0 : cX2_byteAt.data.toList.drop 0 = dktX2_byteAt_0 := by decide +kernel
theorem dksX2_byteAt_1 : cX2_byteAt.data.toList.drop 24 = dktX2_byteAt_1 := dk_seg dksX2_byteAt_0 24 rfl rfl
theorem dX2_byteAt_0 : decode cX2_byteAt 0 = .ok (.iload_n 1, 1) := dk_27 (dk_at dksX2_byteAt_0 0 rfl rfl)
theorem dX2_byteAt_1 : decode cX2_byteAt 1 = .ok (.ifCond .lt 27, 3) := dk_155 0 27 (dk_at dksX2_byteAt_0 1 rfl rfl)
theorem dX2_byteAt_4 : decode cX2_byteAt 4 = .ok (.iload_n 1, 1) := dk_27 (dk_at dksX2_byteAt_0 4 rfl rfl)
theorem dX2_byteAt_5 : decode cX2_byteAt 5 = .ok (.aload_n 0, 1) := dk_42 (dk_at dksX2_byteAt_0 5 rfl rfl)
theorem dX2_byteAt_6 : decode cX2_byteAt 6 = .ok (.getfield 29, 3) := dk_180 0 29 (dk_at dksX2_byteAt_0 6 rfl rfl)
theorem dX2_byteAt_9 : decode cX2_byteAt 9 = .ok (.if_icmp .ge 19, 3) := dk_162 0 19 (dk_at dksX2_byteAt_0 9 rfl rfl)
theorem dX2_byteAt_12 : decode cX2_byteAt 12 = .ok (.aload_n 0, 1) := dk_42 (dk_at dksX2_byteAt_0 12 rfl rfl)
theorem dX2_byteAt_13 : decode cX2_byteAt 13 = .ok (.getfield 3, 3) := dk_180 0 3 (dk_at dksX2_byteAt_0 13 rfl rfl)
theorem dX2_byteAt_16 : decode cX2_byteAt 16 = .ok (.getfield 32, 3) := dk_180 0 32 (dk_at dksX2_byteAt_0 16 rfl rfl)
theorem dX2_byteAt_19 : decode cX2_byteAt 19 = .ok (.iload_n 1, 1) := dk_27 (dk_at dksX2_byteAt_0 19 rfl rfl)
theorem dX2_byteAt_20 : decode cX2_byteAt 20 = .ok (.baload, 1) := dk_51 (dk_at dksX2_byteAt_0 20 rfl rfl)
theorem dX2_byteAt_21 : decode cX2_byteAt 21 = .ok (.sipush 255, 3) := dk_17 0 255 (dk_at dksX2_byteAt_0 21 rfl rfl)
theorem dX2_byteAt_24 : decode cX2_byteAt 24 = .ok (.iand, 1) := dk_126 (dk_at dksX2_byteAt_1 0 rfl rfl)
theorem dX2_byteAt_25 : decode cX2_byteAt 25 = .ok (.goto 4, 3) := dk_167 0 4 (dk_at dksX2_byteAt_1 1 rfl rfl)
theorem dX2_byteAt_28 : decode cX2_byteAt 28 = .ok (.iconst (-1), 1) := dk_2 (dk_at dksX2_byteAt_1 4 rfl rfl)
theorem dX2_byteAt_29 : decode cX2_byteAt 29 = .ok (.ireturn, 1) := dk_172 (dk_at dksX2_byteAt_1 5 rfl rfl)
abbrev cX2_most : ByteArray := prog_16_method_13_code
def yX2_most : MethodName := ⟨RX2, "most", "(ZI)V"⟩
def dkwX2_most_0 : List UInt8 := [27, 153, 0, 10, 42, 8, 28, 182, 0, 47, 191, 177]
abbrev dktX2_most_0 : List UInt8 := dkwX2_most_0 ++ []
theorem dksX2_most_0 : cX2_most.data.toList.drop 0 = dktX2_most_0 := by decide +kernel
theorem dX2_most_0 : decode cX2_most 0 = .ok (.iload_n 1, 1) := dk_27 (dk_at dksX2_most_0 0 rfl rfl)
theorem dX2_most_1 : decode cX2_most 1 = .ok (.ifCond .eq 10, 3) := dk_153 0 10 (dk_at dksX2_most_0 1 rfl rfl)
theorem dX2_most_4 : decode cX2_most 4 = .ok (.aload_n 0, 1) := dk_42 (dk_at dksX2_most_0 4 rfl rfl)
theorem dX2_most_5 : decode cX2_most 5 = .ok (.iconst 5, 1) := dk_8 (dk_at dksX2_most_0 5 rfl rfl)
theorem dX2_most_6 : decode cX2_most 6 = .ok (.iload_n 2, 1) := dk_28 (dk_at dksX2_most_0 6 rfl rfl)
theorem dX2_most_7 : decode cX2_most 7 = .ok (.invokevirtual 47, 3) := dk_182 0 47 (dk_at dksX2_most_0 7 rfl rfl)
theorem dX2_most_10 : decode cX2_most 10 = .ok (.athrow, 1) := dk_191 (dk_at dksX2_most_0 10 rfl rfl)
theorem dX2_most_11 : decode cX2_most 11 = .ok (.return_, 1) := dk_177 (dk_at dksX2_most_0 11 rfl rfl)
abbrev cX2_wrong : ByteArray := prog_16_method_2_code
def yX2_wrong : MethodName := ⟨RX2, "wrong", "(II)LTurnedBoards$Fault;"⟩
def dkwX2_wrong_0 : List UInt8 := [42, 180, 0, 18, 27, 181, 0, 22, 42, 180, 0, 18, 28, 181, 0, 26, 42, 180, 0, 18, 176]
abbrev dktX2_wrong_0 : List UInt8 := dkwX2_wrong_0 ++ []
theorem dksX2_wrong_0 : cX2_wrong.data.toList.drop 0 = dktX2_wrong_0 := by decide +kernel
theorem dX2_wrong_0 : decode cX2_wrong 0 = .ok (.aload_n 0, 1) := dk_42 (dk_at dksX2_wrong_0 0 rfl rfl)
theorem dX2_wrong_1 : decode cX2_wrong 1 = .ok (.getfield 18, 3) := dk_180 0 18 (dk_at dksX2_wrong_0 1 rfl rfl)
theorem dX2_wrong_4 : decode cX2_wrong 4 = .ok (.iload_n 1, 1) := dk_27 (dk_at dksX2_wrong_0 4 rfl rfl)
theorem dX2_wrong_5 : decode cX2_wrong 5 = .ok (.putfield 22, 3) := dk_181 0 22 (dk_at dksX2_wrong_0 5 rfl rfl)
theorem dX2_wrong_8 : decode cX2_wrong 8 = .ok (.aload_n 0, 1) := dk_42 (dk_at dksX2_wrong_0 8 rfl rfl)
theorem dX2_wrong_9 : decode cX2_wrong 9 = .ok (.getfield 18, 3) := dk_180 0 18 (dk_at dksX2_wrong_0 9 rfl rfl)
theorem dX2_wrong_12 : decode cX2_wrong 12 = .ok (.iload_n 2, 1) := dk_28 (dk_at dksX2_wrong_0 12 rfl rfl)
theorem dX2_wrong_13 : decode cX2_wrong 13 = .ok (.putfield 26, 3) := dk_181 0 26 (dk_at dksX2_wrong_0 13 rfl rfl)
theorem dX2_wrong_16 : decode cX2_wrong 16 = .ok (.aload_n 0, 1) := dk_42 (dk_at dksX2_wrong_0 16 rfl rfl)
theorem dX2_wrong_17 : decode cX2_wrong 17 = .ok (.getfield 18, 3) := dk_180 0 18 (dk_at dksX2_wrong_0 17 rfl rfl)
theorem dX2_wrong_20 : decode cX2_wrong 20 = .ok (.areturn, 1) := dk_176 (dk_at dksX2_wrong_0 20 rfl rfl)
abbrev cX2_word : ByteArray := prog_16_method_7_code
def yX2_word : MethodName := ⟨RX2, "word", "()Ljava/lang/String;"⟩
def dkwX2_word_4 : List UInt8 := [180, 0, 32, 28, 51, 146, 85, 132, 2, 1, 167, 255, 227, 43, 184, 0, 64, 176]
abbrev dktX2_word_4 : List UInt8 := dkwX2_word_4 ++ []
def dkwX2_word_3 : List UInt8 := [180, 0, 61, 61, 28, 42, 180, 0, 36, 162, 0, 27, 43, 28, 42, 180, 0, 61, 100, 42, 180, 0, 3]
abbrev dktX2_word_3 : List UInt8 := dkwX2_word_3 ++ dktX2_word_4
def dkwX2_word_2 : List UInt8 := [180, 0, 36, 4, 96, 181, 0, 36, 167, 255, 232, 42, 180, 0, 36, 42, 180, 0, 61, 100, 188, 5, 76, 42]
abbrev dktX2_word_2 : List UInt8 := dkwX2_word_2 ++ dktX2_word_3
def dkwX2_word_1 : List UInt8 := [42, 42, 180, 0, 36, 181, 0, 61, 42, 42, 180, 0, 36, 182, 0, 39, 184, 0, 51, 153, 0, 16, 42, 89]
abbrev dktX2_word_1 : List UInt8 := dkwX2_word_1 ++ dktX2_word_2
def dkwX2_word_0 : List UInt8 := [42, 182, 0, 43, 184, 0, 51, 154, 0, 13, 42, 4, 42, 180, 0, 36, 182, 0, 47, 191, 42, 182, 0, 58]
abbrev dktX2_word_0 : List UInt8 := dkwX2_word_0 ++ dktX2_word_1
theorem dksX2_word_0 : cX2_word.data.toList.drop 0 = dktX2_word_0 := by decide +kernel
theorem dksX2_word_1 : cX2_word.data.toList.drop 24 = dktX2_word_1 := dk_seg dksX2_word_0 24 rfl rfl
theorem dksX2_word_2 : cX2_word.data.toList.drop 48 = dktX2_word_2 := dk_seg dksX2_word_1 24 rfl rfl
theorem dksX2_word_3 : cX2_word.data.toList.drop 72 = dktX2_word_3 := dk_seg dksX2_word_2 24 rfl rfl
theorem dksX2_word_4 : cX2_word.data.toList.drop 95 = dktX2_word_4 := dk_seg dksX2_word_3 23 rfl rfl
theorem dX2_word_0 : decode cX2_word 0 = .ok (.aload_n 0, 1) := dk_42 (dk_at dksX2_word_0 0 rfl rfl)
theorem dX2_word_1 : decode cX2_word 1 = .ok (.invokevirtual 43, 3) := dk_182 0 43 (dk_at dksX2_word_0 1 rfl rfl)
theorem dX2_word_4 : decode cX2_word 4 = .ok (.invokestatic 51, 3) := dk_184 0 51 (dk_at dksX2_word_0 4 rfl rfl)
theorem dX2_word_7 : decode cX2_word 7 = .ok (.ifCond .ne 13, 3) := dk_154 0 13 (dk_at dksX2_word_0 7 rfl rfl)
theorem dX2_word_10 : decode cX2_word 10 = .ok (.aload_n 0, 1) := dk_42 (dk_at dksX2_word_0 10 rfl rfl)
theorem dX2_word_11 : decode cX2_word 11 = .ok (.iconst 1, 1) := dk_4 (dk_at dksX2_word_0 11 rfl rfl)
theorem dX2_word_12 : decode cX2_word 12 = .ok (.aload_n 0, 1) := dk_42 (dk_at dksX2_word_0 12 rfl rfl)
theorem dX2_word_13 : decode cX2_word 13 = .ok (.getfield 36, 3) := dk_180 0 36 (dk_at dksX2_word_0 13 rfl rfl)
theorem dX2_word_16 : decode cX2_word 16 = .ok (.invokevirtual 47, 3) := dk_182 0 47 (dk_at dksX2_word_0 16 rfl rfl)
theorem dX2_word_19 : decode cX2_word 19 = .ok (.athrow, 1) := dk_191 (dk_at dksX2_word_0 19 rfl rfl)
theorem dX2_word_20 : decode cX2_word 20 = .ok (.aload_n 0, 1) := dk_42 (dk_at dksX2_word_0 20 rfl rfl)
theorem dX2_word_21 : decode cX2_word 21 = .ok (.invokevirtual 58, 3) := dk_182 0 58 (dk_at dksX2_word_0 21 rfl rfl)
theorem dX2_word_24 : decode cX2_word 24 = .ok (.aload_n 0, 1) := dk_42 (dk_at dksX2_word_1 0 rfl rfl)
theorem dX2_word_25 : decode cX2_word 25 = .ok (.aload_n 0, 1) := dk_42 (dk_at dksX2_word_1 1 rfl rfl)
theorem dX2_word_26 : decode cX2_word 26 = .ok (.getfield 36, 3) := dk_180 0 36 (dk_at dksX2_word_1 2 rfl rfl)
theorem dX2_word_29 : decode cX2_word 29 = .ok (.putfield 61, 3) := dk_181 0 61 (dk_at dksX2_word_1 5 rfl rfl)
theorem dX2_word_32 : decode cX2_word 32 = .ok (.aload_n 0, 1) := dk_42 (dk_at dksX2_word_1 8 rfl rfl)
theorem dX2_word_33 : decode cX2_word 33 = .ok (.aload_n 0, 1) := dk_42 (dk_at dksX2_word_1 9 rfl rfl)
theorem dX2_word_34 : decode cX2_word 34 = .ok (.getfield 36, 3) := dk_180 0 36 (dk_at dksX2_word_1 10 rfl rfl)
theorem dX2_word_37 : decode cX2_word 37 = .ok (.invokevirtual 39, 3) := dk_182 0 39 (dk_at dksX2_word_1 13 rfl rfl)
theorem dX2_word_40 : decode cX2_word 40 = .ok (.invokestatic 51, 3) := dk_184 0 51 (dk_at dksX2_word_1 16 rfl rfl)
theorem dX2_word_43 : decode cX2_word 43 = .ok (.ifCond .eq 16, 3) := dk_153 0 16 (dk_at dksX2_word_1 19 rfl rfl)
theorem dX2_word_46 : decode cX2_word 46 = .ok (.aload_n 0, 1) := dk_42 (dk_at dksX2_word_1 22 rfl rfl)
theorem dX2_word_47 : decode cX2_word 47 = .ok (.dup, 1) := dk_89 (dk_at dksX2_word_1 23 rfl rfl)
theorem dX2_word_48 : decode cX2_word 48 = .ok (.getfield 36, 3) := dk_180 0 36 (dk_at dksX2_word_2 0 rfl rfl)
theorem dX2_word_51 : decode cX2_word 51 = .ok (.iconst 1, 1) := dk_4 (dk_at dksX2_word_2 3 rfl rfl)
theorem dX2_word_52 : decode cX2_word 52 = .ok (.iadd, 1) := dk_96 (dk_at dksX2_word_2 4 rfl rfl)
theorem dX2_word_53 : decode cX2_word 53 = .ok (.putfield 36, 3) := dk_181 0 36 (dk_at dksX2_word_2 5 rfl rfl)
theorem dX2_word_56 : decode cX2_word 56 = .ok (.goto (-24), 3) := dk_167 255 232 (dk_at dksX2_word_2 8 rfl rfl)
theorem dX2_word_59 : decode cX2_word 59 = .ok (.aload_n 0, 1) := dk_42 (dk_at dksX2_word_2 11 rfl rfl)
theorem dX2_word_60 : decode cX2_word 60 = .ok (.getfield 36, 3) := dk_180 0 36 (dk_at dksX2_word_2 12 rfl rfl)
theorem dX2_word_63 : decode cX2_word 63 = .ok (.aload_n 0, 1) := dk_42 (dk_at dksX2_word_2 15 rfl rfl)
theorem dX2_word_64 : decode cX2_word 64 = .ok (.getfield 61, 3) := dk_180 0 61 (dk_at dksX2_word_2 16 rfl rfl)
theorem dX2_word_67 : decode cX2_word 67 = .ok (.isub, 1) := dk_100 (dk_at dksX2_word_2 19 rfl rfl)
theorem dX2_word_68 : decode cX2_word 68 = .ok (.newarray .char, 2) := dk_188_5 (dk_at dksX2_word_2 20 rfl rfl)
theorem dX2_word_70 : decode cX2_word 70 = .ok (.astore_n 1, 1) := dk_76 (dk_at dksX2_word_2 22 rfl rfl)
theorem dX2_word_71 : decode cX2_word 71 = .ok (.aload_n 0, 1) := dk_42 (dk_at dksX2_word_2 23 rfl rfl)
theorem dX2_word_72 : decode cX2_word 72 = .ok (.getfield 61, 3) := dk_180 0 61 (dk_at dksX2_word_3 0 rfl rfl)
theorem dX2_word_75 : decode cX2_word 75 = .ok (.istore_n 2, 1) := dk_61 (dk_at dksX2_word_3 3 rfl rfl)
theorem dX2_word_76 : decode cX2_word 76 = .ok (.iload_n 2, 1) := dk_28 (dk_at dksX2_word_3 4 rfl rfl)
theorem dX2_word_77 : decode cX2_word 77 = .ok (.aload_n 0, 1) := dk_42 (dk_at dksX2_word_3 5 rfl rfl)
theorem dX2_word_78 : decode cX2_word 78 = .ok (.getfield 36, 3) := dk_180 0 36 (dk_at dksX2_word_3 6 rfl rfl)
theorem dX2_word_81 : decode cX2_word 81 = .ok (.if_icmp .ge 27, 3) := dk_162 0 27 (dk_at dksX2_word_3 9 rfl rfl)
theorem dX2_word_84 : decode cX2_word 84 = .ok (.aload_n 1, 1) := dk_43 (dk_at dksX2_word_3 12 rfl rfl)
theorem dX2_word_85 : decode cX2_word 85 = .ok (.iload_n 2, 1) := dk_28 (dk_at dksX2_word_3 13 rfl rfl)
theorem dX2_word_86 : decode cX2_word 86 = .ok (.aload_n 0, 1) := dk_42 (dk_at dksX2_word_3 14 rfl rfl)
theorem dX2_word_87 : decode cX2_word 87 = .ok (.getfield 61, 3) := dk_180 0 61 (dk_at dksX2_word_3 15 rfl rfl)
theorem dX2_word_90 : decode cX2_word 90 = .ok (.isub, 1) := dk_100 (dk_at dksX2_word_3 18 rfl rfl)
theorem dX2_word_91 : decode cX2_word 91 = .ok (.aload_n 0, 1) := dk_42 (dk_at dksX2_word_3 19 rfl rfl)
theorem dX2_word_92 : decode cX2_word 92 = .ok (.getfield 3, 3) := dk_180 0 3 (dk_at dksX2_word_3 20 rfl rfl)
theorem dX2_word_95 : decode cX2_word 95 = .ok (.getfield 32, 3) := dk_180 0 32 (dk_at dksX2_word_4 0 rfl rfl)
theorem dX2_word_98 : decode cX2_word 98 = .ok (.iload_n 2, 1) := dk_28 (dk_at dksX2_word_4 3 rfl rfl)
theorem dX2_word_99 : decode cX2_word 99 = .ok (.baload, 1) := dk_51 (dk_at dksX2_word_4 4 rfl rfl)
theorem dX2_word_100 : decode cX2_word 100 = .ok (.i2c, 1) := dk_146 (dk_at dksX2_word_4 5 rfl rfl)
theorem dX2_word_101 : decode cX2_word 101 = .ok (.castore, 1) := dk_85 (dk_at dksX2_word_4 6 rfl rfl)
theorem dX2_word_102 : decode cX2_word 102 = .ok (.iinc 2 1, 3) := dk_132 2 1 (dk_at dksX2_word_4 7 rfl rfl)
theorem dX2_word_105 : decode cX2_word 105 = .ok (.goto (-29), 3) := dk_167 255 227 (dk_at dksX2_word_4 10 rfl rfl)
theorem dX2_word_108 : decode cX2_word 108 = .ok (.aload_n 1, 1) := dk_43 (dk_at dksX2_word_4 13 rfl rfl)
theorem dX2_word_109 : decode cX2_word 109 = .ok (.invokestatic 64, 3) := dk_184 0 64 (dk_at dksX2_word_4 14 rfl rfl)
theorem dX2_word_112 : decode cX2_word 112 = .ok (.areturn, 1) := dk_176 (dk_at dksX2_word_4 17 rfl rfl)
abbrev cX2_parted : ByteArray := prog_16_method_6_code
def yX2_parted : MethodName := ⟨RX2, "parted", "()V"⟩
def dkwX2_parted_1 : List UInt8 := [182, 0, 39, 184, 0, 55, 153, 0, 13, 42, 4, 42, 180, 0, 36, 182, 0, 47, 191, 177]
abbrev dktX2_parted_1 : List UInt8 := dkwX2_parted_1 ++ []
def dkwX2_parted_0 : List UInt8 := [42, 42, 180, 0, 36, 4, 100, 182, 0, 39, 184, 0, 51, 154, 0, 19, 42, 42, 180, 0, 36, 4, 100]
abbrev dktX2_parted_0 : List UInt8 := dkwX2_parted_0 ++ dktX2_parted_1
theorem dksX2_parted_0 : cX2_parted.data.toList.drop 0 = dktX2_parted_0 := by decide +kernel
theorem dksX2_parted_1 : cX2_parted.data.toList.drop 23 = dktX2_parted_1 := dk_seg dksX2_parted_0 23 rfl rfl
theorem dX2_parted_0 : decode cX2_parted 0 = .ok (.aload_n 0, 1) := dk_42 (dk_at dksX2_parted_0 0 rfl rfl)
theorem dX2_parted_1 : decode cX2_parted 1 = .ok (.aload_n 0, 1) := dk_42 (dk_at dksX2_parted_0 1 rfl rfl)
theorem dX2_parted_2 : decode cX2_parted 2 = .ok (.getfield 36, 3) := dk_180 0 36 (dk_at dksX2_parted_0 2 rfl rfl)
theorem dX2_parted_5 : decode cX2_parted 5 = .ok (.iconst 1, 1) := dk_4 (dk_at dksX2_parted_0 5 rfl rfl)
theorem dX2_parted_6 : decode cX2_parted 6 = .ok (.isub, 1) := dk_100 (dk_at dksX2_parted_0 6 rfl rfl)
theorem dX2_parted_7 : decode cX2_parted 7 = .ok (.invokevirtual 39, 3) := dk_182 0 39 (dk_at dksX2_parted_0 7 rfl rfl)
theorem dX2_parted_10 : decode cX2_parted 10 = .ok (.invokestatic 51, 3) := dk_184 0 51 (dk_at dksX2_parted_0 10 rfl rfl)
theorem dX2_parted_13 : decode cX2_parted 13 = .ok (.ifCond .ne 19, 3) := dk_154 0 19 (dk_at dksX2_parted_0 13 rfl rfl)
theorem dX2_parted_16 : decode cX2_parted 16 = .ok (.aload_n 0, 1) := dk_42 (dk_at dksX2_parted_0 16 rfl rfl)
theorem dX2_parted_17 : decode cX2_parted 17 = .ok (.aload_n 0, 1) := dk_42 (dk_at dksX2_parted_0 17 rfl rfl)
theorem dX2_parted_18 : decode cX2_parted 18 = .ok (.getfield 36, 3) := dk_180 0 36 (dk_at dksX2_parted_0 18 rfl rfl)
theorem dX2_parted_21 : decode cX2_parted 21 = .ok (.iconst 1, 1) := dk_4 (dk_at dksX2_parted_0 21 rfl rfl)
theorem dX2_parted_22 : decode cX2_parted 22 = .ok (.isub, 1) := dk_100 (dk_at dksX2_parted_0 22 rfl rfl)
theorem dX2_parted_23 : decode cX2_parted 23 = .ok (.invokevirtual 39, 3) := dk_182 0 39 (dk_at dksX2_parted_1 0 rfl rfl)
theorem dX2_parted_26 : decode cX2_parted 26 = .ok (.invokestatic 55, 3) := dk_184 0 55 (dk_at dksX2_parted_1 3 rfl rfl)
theorem dX2_parted_29 : decode cX2_parted 29 = .ok (.ifCond .eq 13, 3) := dk_153 0 13 (dk_at dksX2_parted_1 6 rfl rfl)
theorem dX2_parted_32 : decode cX2_parted 32 = .ok (.aload_n 0, 1) := dk_42 (dk_at dksX2_parted_1 9 rfl rfl)
theorem dX2_parted_33 : decode cX2_parted 33 = .ok (.iconst 1, 1) := dk_4 (dk_at dksX2_parted_1 10 rfl rfl)
theorem dX2_parted_34 : decode cX2_parted 34 = .ok (.aload_n 0, 1) := dk_42 (dk_at dksX2_parted_1 11 rfl rfl)
theorem dX2_parted_35 : decode cX2_parted 35 = .ok (.getfield 36, 3) := dk_180 0 36 (dk_at dksX2_parted_1 12 rfl rfl)
theorem dX2_parted_38 : decode cX2_parted 38 = .ok (.invokevirtual 47, 3) := dk_182 0 47 (dk_at dksX2_parted_1 15 rfl rfl)
theorem dX2_parted_41 : decode cX2_parted 41 = .ok (.athrow, 1) := dk_191 (dk_at dksX2_parted_1 18 rfl rfl)
theorem dX2_parted_42 : decode cX2_parted 42 = .ok (.return_, 1) := dk_177 (dk_at dksX2_parted_1 19 rfl rfl)
abbrev cX2_laid : ByteArray := prog_16_method_18_code
def yX2_laid : MethodName := ⟨RX2, "laid", "(Ljava/lang/String;I)Z"⟩
def dkwX2_laid_5 : List UInt8 := [42, 182, 0, 195, 4, 172, 42, 28, 182, 0, 197, 4, 172, 42, 28, 182, 0, 200, 4, 172, 3, 172]
abbrev dktX2_laid_5 : List UInt8 := dkwX2_laid_5 ++ []
def dkwX2_laid_4 : List UInt8 := [170, 0, 0, 0, 0, 0, 0, 48, 0, 0, 0, 0, 0, 0, 0, 2, 0, 0, 0, 28, 0, 0, 0, 34, 0, 0, 0, 41]
abbrev dktX2_laid_4 : List UInt8 := dkwX2_laid_4 ++ dktX2_laid_5
def dkwX2_laid_3 : List UInt8 := [4, 54, 4, 167, 0, 15, 45, 18, 193, 182, 0, 74, 153, 0, 6, 5, 54, 4, 21, 4]
abbrev dktX2_laid_3 : List UInt8 := dkwX2_laid_3 ++ dktX2_laid_4
def dkwX2_laid_2 : List UInt8 := [45, 18, 191, 182, 0, 74, 153, 0, 36, 3, 54, 4, 167, 0, 30, 45, 18, 192, 182, 0, 74, 153, 0, 21]
abbrev dktX2_laid_2 : List UInt8 := dkwX2_laid_2 ++ dktX2_laid_3
def dkwX2_laid_1 : List UInt8 := [171, 0, 0, 0, 0, 0, 77, 0, 0, 0, 3, 190, 17, 36, 38, 0, 0, 0, 35, 0, 55, 199, 10, 0, 0, 0, 50, 5, 152, 238, 230, 0, 0, 0, 65]
abbrev dktX2_laid_1 : List UInt8 := dkwX2_laid_1 ++ dktX2_laid_2
def dkwX2_laid_0 : List UInt8 := [43, 78, 2, 54, 4, 45, 182, 0, 188]
abbrev dktX2_laid_0 : List UInt8 := dkwX2_laid_0 ++ dktX2_laid_1
theorem dksX2_laid_0 : cX2_laid.data.toList.drop 0 = dktX2_laid_0 := by decide +kernel
theorem dksX2_laid_1 : cX2_laid.data.toList.drop 9 = dktX2_laid_1 := dk_seg dksX2_laid_0 9 rfl rfl
theorem dksX2_laid_2 : cX2_laid.data.toList.drop 44 = dktX2_laid_2 := dk_seg dksX2_laid_1 35 rfl rfl
theorem dksX2_laid_3 : cX2_laid.data.toList.drop 68 = dktX2_laid_3 := dk_seg dksX2_laid_2 24 rfl rfl
theorem dksX2_laid_4 : cX2_laid.data.toList.drop 88 = dktX2_laid_4 := dk_seg dksX2_laid_3 20 rfl rfl
theorem dksX2_laid_5 : cX2_laid.data.toList.drop 116 = dktX2_laid_5 := dk_seg dksX2_laid_4 28 rfl rfl
theorem dX2_laid_0 : decode cX2_laid 0 = .ok (.aload_n 1, 1) := dk_43 (dk_at dksX2_laid_0 0 rfl rfl)
theorem dX2_laid_1 : decode cX2_laid 1 = .ok (.astore_n 3, 1) := dk_78 (dk_at dksX2_laid_0 1 rfl rfl)
theorem dX2_laid_2 : decode cX2_laid 2 = .ok (.iconst (-1), 1) := dk_2 (dk_at dksX2_laid_0 2 rfl rfl)
theorem dX2_laid_3 : decode cX2_laid 3 = .ok (.istore 4, 2) := dk_54 4 (dk_at dksX2_laid_0 3 rfl rfl)
theorem dX2_laid_5 : decode cX2_laid 5 = .ok (.aload_n 3, 1) := dk_45 (dk_at dksX2_laid_0 5 rfl rfl)
theorem dX2_laid_6 : decode cX2_laid 6 = .ok (.invokevirtual 188, 3) := dk_182 0 188 (dk_at dksX2_laid_0 6 rfl rfl)
theorem dX2_laid_9 : decode cX2_laid 9 = .ok (.lookupswitch 77 #[(-1106172890, 35), (3655434, 50), (93908710, 65)], 35) := by decide +kernel
theorem dX2_laid_44 : decode cX2_laid 44 = .ok (.aload_n 3, 1) := dk_45 (dk_at dksX2_laid_2 0 rfl rfl)
theorem dX2_laid_45 : decode cX2_laid 45 = .ok (.ldc 191, 2) := dk_18 191 (dk_at dksX2_laid_2 1 rfl rfl)
theorem dX2_laid_47 : decode cX2_laid 47 = .ok (.invokevirtual 74, 3) := dk_182 0 74 (dk_at dksX2_laid_2 3 rfl rfl)
theorem dX2_laid_50 : decode cX2_laid 50 = .ok (.ifCond .eq 36, 3) := dk_153 0 36 (dk_at dksX2_laid_2 6 rfl rfl)
theorem dX2_laid_53 : decode cX2_laid 53 = .ok (.iconst 0, 1) := dk_3 (dk_at dksX2_laid_2 9 rfl rfl)
theorem dX2_laid_54 : decode cX2_laid 54 = .ok (.istore 4, 2) := dk_54 4 (dk_at dksX2_laid_2 10 rfl rfl)
theorem dX2_laid_56 : decode cX2_laid 56 = .ok (.goto 30, 3) := dk_167 0 30 (dk_at dksX2_laid_2 12 rfl rfl)
theorem dX2_laid_59 : decode cX2_laid 59 = .ok (.aload_n 3, 1) := dk_45 (dk_at dksX2_laid_2 15 rfl rfl)
theorem dX2_laid_60 : decode cX2_laid 60 = .ok (.ldc 192, 2) := dk_18 192 (dk_at dksX2_laid_2 16 rfl rfl)
theorem dX2_laid_62 : decode cX2_laid 62 = .ok (.invokevirtual 74, 3) := dk_182 0 74 (dk_at dksX2_laid_2 18 rfl rfl)
theorem dX2_laid_65 : decode cX2_laid 65 = .ok (.ifCond .eq 21, 3) := dk_153 0 21 (dk_at dksX2_laid_2 21 rfl rfl)
theorem dX2_laid_68 : decode cX2_laid 68 = .ok (.iconst 1, 1) := dk_4 (dk_at dksX2_laid_3 0 rfl rfl)
theorem dX2_laid_69 : decode cX2_laid 69 = .ok (.istore 4, 2) := dk_54 4 (dk_at dksX2_laid_3 1 rfl rfl)
theorem dX2_laid_71 : decode cX2_laid 71 = .ok (.goto 15, 3) := dk_167 0 15 (dk_at dksX2_laid_3 3 rfl rfl)
theorem dX2_laid_74 : decode cX2_laid 74 = .ok (.aload_n 3, 1) := dk_45 (dk_at dksX2_laid_3 6 rfl rfl)
theorem dX2_laid_75 : decode cX2_laid 75 = .ok (.ldc 193, 2) := dk_18 193 (dk_at dksX2_laid_3 7 rfl rfl)
theorem dX2_laid_77 : decode cX2_laid 77 = .ok (.invokevirtual 74, 3) := dk_182 0 74 (dk_at dksX2_laid_3 9 rfl rfl)
theorem dX2_laid_80 : decode cX2_laid 80 = .ok (.ifCond .eq 6, 3) := dk_153 0 6 (dk_at dksX2_laid_3 12 rfl rfl)
theorem dX2_laid_83 : decode cX2_laid 83 = .ok (.iconst 2, 1) := dk_5 (dk_at dksX2_laid_3 15 rfl rfl)
theorem dX2_laid_84 : decode cX2_laid 84 = .ok (.istore 4, 2) := dk_54 4 (dk_at dksX2_laid_3 16 rfl rfl)
theorem dX2_laid_86 : decode cX2_laid 86 = .ok (.iload 4, 2) := dk_21 4 (dk_at dksX2_laid_3 18 rfl rfl)
theorem dX2_laid_88 : decode cX2_laid 88 = .ok (.tableswitch 48 0 2 #[28, 34, 41], 28) := by decide +kernel
theorem dX2_laid_116 : decode cX2_laid 116 = .ok (.aload_n 0, 1) := dk_42 (dk_at dksX2_laid_5 0 rfl rfl)
theorem dX2_laid_117 : decode cX2_laid 117 = .ok (.invokevirtual 195, 3) := dk_182 0 195 (dk_at dksX2_laid_5 1 rfl rfl)
theorem dX2_laid_120 : decode cX2_laid 120 = .ok (.iconst 1, 1) := dk_4 (dk_at dksX2_laid_5 4 rfl rfl)
theorem dX2_laid_121 : decode cX2_laid 121 = .ok (.ireturn, 1) := dk_172 (dk_at dksX2_laid_5 5 rfl rfl)
theorem dX2_laid_122 : decode cX2_laid 122 = .ok (.aload_n 0, 1) := dk_42 (dk_at dksX2_laid_5 6 rfl rfl)
theorem dX2_laid_123 : decode cX2_laid 123 = .ok (.iload_n 2, 1) := dk_28 (dk_at dksX2_laid_5 7 rfl rfl)
theorem dX2_laid_124 : decode cX2_laid 124 = .ok (.invokevirtual 197, 3) := dk_182 0 197 (dk_at dksX2_laid_5 8 rfl rfl)
theorem dX2_laid_127 : decode cX2_laid 127 = .ok (.iconst 1, 1) := dk_4 (dk_at dksX2_laid_5 11 rfl rfl)
theorem dX2_laid_128 : decode cX2_laid 128 = .ok (.ireturn, 1) := dk_172 (dk_at dksX2_laid_5 12 rfl rfl)
theorem dX2_laid_129 : decode cX2_laid 129 = .ok (.aload_n 0, 1) := dk_42 (dk_at dksX2_laid_5 13 rfl rfl)
theorem dX2_laid_130 : decode cX2_laid 130 = .ok (.iload_n 2, 1) := dk_28 (dk_at dksX2_laid_5 14 rfl rfl)
theorem dX2_laid_131 : decode cX2_laid 131 = .ok (.invokevirtual 200, 3) := dk_182 0 200 (dk_at dksX2_laid_5 15 rfl rfl)
theorem dX2_laid_134 : decode cX2_laid 134 = .ok (.iconst 1, 1) := dk_4 (dk_at dksX2_laid_5 18 rfl rfl)
theorem dX2_laid_135 : decode cX2_laid 135 = .ok (.ireturn, 1) := dk_172 (dk_at dksX2_laid_5 19 rfl rfl)
theorem dX2_laid_136 : decode cX2_laid 136 = .ok (.iconst 0, 1) := dk_3 (dk_at dksX2_laid_5 20 rfl rfl)
theorem dX2_laid_137 : decode cX2_laid 137 = .ok (.ireturn, 1) := dk_172 (dk_at dksX2_laid_5 21 rfl rfl)
abbrev cX2_letter : ByteArray := prog_16_method_15_code
def yX2_letter : MethodName := ⟨RX2, "letter", "()V"⟩
def dkwX2_letter_10 : List UInt8 := [177]
abbrev dktX2_letter_10 : List UInt8 := dkwX2_letter_10 ++ []
def dkwX2_letter_9 : List UInt8 := [185, 0, 142, 2, 0, 192, 0, 143, 187, 0, 154, 89, 28, 21, 4, 183, 0, 156, 185, 0, 159, 2, 0, 87]
abbrev dktX2_letter_9 : List UInt8 := dkwX2_letter_9 ++ dktX2_letter_10
def dkwX2_letter_8 : List UInt8 := [54, 4, 132, 7, 1, 167, 255, 225, 132, 5, 1, 167, 255, 201, 42, 180, 0, 103, 180, 0, 138, 29]
abbrev dktX2_letter_8 : List UInt8 := dkwX2_letter_8 ++ dktX2_letter_9
def dkwX2_letter_7 : List UInt8 := [162, 0, 31, 21, 4, 21, 6, 5, 21, 7, 100, 122, 4, 126, 6, 21, 5, 104, 21, 7, 96, 120, 128]
abbrev dktX2_letter_7 : List UInt8 := dkwX2_letter_7 ++ dktX2_letter_8
def dkwX2_letter_6 : List UInt8 := [54, 5, 21, 5, 8, 162, 0, 55, 42, 3, 16, 7, 182, 0, 96, 54, 6, 3, 54, 7, 21, 7, 6]
abbrev dktX2_letter_6 : List UInt8 := dkwX2_letter_6 ++ dktX2_letter_7
def dkwX2_letter_5 : List UInt8 := [2, 159, 0, 13, 42, 5, 42, 180, 0, 61, 182, 0, 47, 191, 42, 18, 153, 182, 0, 93, 3, 54, 4, 3]
abbrev dktX2_letter_5 : List UInt8 := dkwX2_letter_5 ++ dktX2_letter_6
def dkwX2_letter_4 : List UInt8 := [160, 0, 7, 4, 167, 0, 4, 3, 42, 180, 0, 61, 182, 0, 113, 42, 180, 0, 103, 29, 28, 182, 0, 150]
abbrev dktX2_letter_4 : List UInt8 := dkwX2_letter_4 ++ dktX2_letter_5
def dkwX2_letter_3 : List UInt8 := [180, 0, 103, 180, 0, 138, 29, 185, 0, 142, 2, 0, 192, 0, 143, 185, 0, 148, 1, 0, 16, 12]
abbrev dktX2_letter_3 : List UInt8 := dkwX2_letter_3 ++ dktX2_letter_4
def dkwX2_letter_2 : List UInt8 := [43, 3, 182, 0, 129, 16, 97, 100, 4, 96, 61, 42, 18, 133, 3, 4, 182, 0, 135, 62, 42, 42]
abbrev dktX2_letter_2 : List UInt8 := dkwX2_letter_2 ++ dktX2_letter_3
def dkwX2_letter_1 : List UInt8 := [182, 0, 47, 191, 43, 182, 0, 86, 4, 164, 0, 15, 42, 4, 42, 180, 0, 61, 4, 96, 182, 0, 47, 191]
abbrev dktX2_letter_1 : List UInt8 := dkwX2_letter_1 ++ dktX2_letter_2
def dkwX2_letter_0 : List UInt8 := [42, 182, 0, 70, 76, 43, 178, 0, 78, 184, 0, 82, 2, 159, 0, 13, 42, 4, 42, 180, 0, 61]
abbrev dktX2_letter_0 : List UInt8 := dkwX2_letter_0 ++ dktX2_letter_1
theorem dksX2_letter_0 : cX2_letter.data.toList.drop 0 = dktX2_letter_0 := by decide +kernel
theorem dksX2_letter_1 : cX2_letter.data.toList.drop 22 = dktX2_letter_1 := dk_seg dksX2_letter_0 22 rfl rfl
theorem dksX2_letter_2 : cX2_letter.data.toList.drop 46 = dktX2_letter_2 := dk_seg dksX2_letter_1 24 rfl rfl
theorem dksX2_letter_3 : cX2_letter.data.toList.drop 68 = dktX2_letter_3 := dk_seg dksX2_letter_2 22 rfl rfl
theorem dksX2_letter_4 : cX2_letter.data.toList.drop 90 = dktX2_letter_4 := dk_seg dksX2_letter_3 22 rfl rfl
theorem dksX2_letter_5 : cX2_letter.data.toList.drop 114 = dktX2_letter_5 := dk_seg dksX2_letter_4 24 rfl rfl
theorem dksX2_letter_6 : cX2_letter.data.toList.drop 138 = dktX2_letter_6 := dk_seg dksX2_letter_5 24 rfl rfl
theorem dksX2_letter_7 : cX2_letter.data.toList.drop 161 = dktX2_letter_7 := dk_seg dksX2_letter_6 23 rfl rfl
theorem dksX2_letter_8 : cX2_letter.data.toList.drop 184 = dktX2_letter_8 := dk_seg dksX2_letter_7 23 rfl rfl
theorem dksX2_letter_9 : cX2_letter.data.toList.drop 206 = dktX2_letter_9 := dk_seg dksX2_letter_8 22 rfl rfl
theorem dksX2_letter_10 : cX2_letter.data.toList.drop 230 = dktX2_letter_10 := dk_seg dksX2_letter_9 24 rfl rfl
theorem dX2_letter_0 : decode cX2_letter 0 = .ok (.aload_n 0, 1) := dk_42 (dk_at dksX2_letter_0 0 rfl rfl)
theorem dX2_letter_1 : decode cX2_letter 1 = .ok (.invokevirtual 70, 3) := dk_182 0 70 (dk_at dksX2_letter_0 1 rfl rfl)
theorem dX2_letter_4 : decode cX2_letter 4 = .ok (.astore_n 1, 1) := dk_76 (dk_at dksX2_letter_0 4 rfl rfl)
theorem dX2_letter_5 : decode cX2_letter 5 = .ok (.aload_n 1, 1) := dk_43 (dk_at dksX2_letter_0 5 rfl rfl)
theorem dX2_letter_6 : decode cX2_letter 6 = .ok (.getstatic 78, 3) := dk_178 0 78 (dk_at dksX2_letter_0 6 rfl rfl)
theorem dX2_letter_9 : decode cX2_letter 9 = .ok (.invokestatic 82, 3) := dk_184 0 82 (dk_at dksX2_letter_0 9 rfl rfl)
theorem dX2_letter_12 : decode cX2_letter 12 = .ok (.iconst (-1), 1) := dk_2 (dk_at dksX2_letter_0 12 rfl rfl)
theorem dX2_letter_13 : decode cX2_letter 13 = .ok (.if_icmp .eq 13, 3) := dk_159 0 13 (dk_at dksX2_letter_0 13 rfl rfl)
theorem dX2_letter_16 : decode cX2_letter 16 = .ok (.aload_n 0, 1) := dk_42 (dk_at dksX2_letter_0 16 rfl rfl)
theorem dX2_letter_17 : decode cX2_letter 17 = .ok (.iconst 1, 1) := dk_4 (dk_at dksX2_letter_0 17 rfl rfl)
theorem dX2_letter_18 : decode cX2_letter 18 = .ok (.aload_n 0, 1) := dk_42 (dk_at dksX2_letter_0 18 rfl rfl)
theorem dX2_letter_19 : decode cX2_letter 19 = .ok (.getfield 61, 3) := dk_180 0 61 (dk_at dksX2_letter_0 19 rfl rfl)
theorem dX2_letter_22 : decode cX2_letter 22 = .ok (.invokevirtual 47, 3) := dk_182 0 47 (dk_at dksX2_letter_1 0 rfl rfl)
theorem dX2_letter_25 : decode cX2_letter 25 = .ok (.athrow, 1) := dk_191 (dk_at dksX2_letter_1 3 rfl rfl)
theorem dX2_letter_26 : decode cX2_letter 26 = .ok (.aload_n 1, 1) := dk_43 (dk_at dksX2_letter_1 4 rfl rfl)
theorem dX2_letter_27 : decode cX2_letter 27 = .ok (.invokevirtual 86, 3) := dk_182 0 86 (dk_at dksX2_letter_1 5 rfl rfl)
theorem dX2_letter_30 : decode cX2_letter 30 = .ok (.iconst 1, 1) := dk_4 (dk_at dksX2_letter_1 8 rfl rfl)
theorem dX2_letter_31 : decode cX2_letter 31 = .ok (.if_icmp .le 15, 3) := dk_164 0 15 (dk_at dksX2_letter_1 9 rfl rfl)
theorem dX2_letter_34 : decode cX2_letter 34 = .ok (.aload_n 0, 1) := dk_42 (dk_at dksX2_letter_1 12 rfl rfl)
theorem dX2_letter_35 : decode cX2_letter 35 = .ok (.iconst 1, 1) := dk_4 (dk_at dksX2_letter_1 13 rfl rfl)
theorem dX2_letter_36 : decode cX2_letter 36 = .ok (.aload_n 0, 1) := dk_42 (dk_at dksX2_letter_1 14 rfl rfl)
theorem dX2_letter_37 : decode cX2_letter 37 = .ok (.getfield 61, 3) := dk_180 0 61 (dk_at dksX2_letter_1 15 rfl rfl)
theorem dX2_letter_40 : decode cX2_letter 40 = .ok (.iconst 1, 1) := dk_4 (dk_at dksX2_letter_1 18 rfl rfl)
theorem dX2_letter_41 : decode cX2_letter 41 = .ok (.iadd, 1) := dk_96 (dk_at dksX2_letter_1 19 rfl rfl)
theorem dX2_letter_42 : decode cX2_letter 42 = .ok (.invokevirtual 47, 3) := dk_182 0 47 (dk_at dksX2_letter_1 20 rfl rfl)
theorem dX2_letter_45 : decode cX2_letter 45 = .ok (.athrow, 1) := dk_191 (dk_at dksX2_letter_1 23 rfl rfl)
theorem dX2_letter_46 : decode cX2_letter 46 = .ok (.aload_n 1, 1) := dk_43 (dk_at dksX2_letter_2 0 rfl rfl)
theorem dX2_letter_47 : decode cX2_letter 47 = .ok (.iconst 0, 1) := dk_3 (dk_at dksX2_letter_2 1 rfl rfl)
theorem dX2_letter_48 : decode cX2_letter 48 = .ok (.invokevirtual 129, 3) := dk_182 0 129 (dk_at dksX2_letter_2 2 rfl rfl)
theorem dX2_letter_51 : decode cX2_letter 51 = .ok (.bipush 97, 2) := dk_16 97 (dk_at dksX2_letter_2 5 rfl rfl)
theorem dX2_letter_53 : decode cX2_letter 53 = .ok (.isub, 1) := dk_100 (dk_at dksX2_letter_2 7 rfl rfl)
theorem dX2_letter_54 : decode cX2_letter 54 = .ok (.iconst 1, 1) := dk_4 (dk_at dksX2_letter_2 8 rfl rfl)
theorem dX2_letter_55 : decode cX2_letter 55 = .ok (.iadd, 1) := dk_96 (dk_at dksX2_letter_2 9 rfl rfl)
theorem dX2_letter_56 : decode cX2_letter 56 = .ok (.istore_n 2, 1) := dk_61 (dk_at dksX2_letter_2 10 rfl rfl)
theorem dX2_letter_57 : decode cX2_letter 57 = .ok (.aload_n 0, 1) := dk_42 (dk_at dksX2_letter_2 11 rfl rfl)
theorem dX2_letter_58 : decode cX2_letter 58 = .ok (.ldc 133, 2) := dk_18 133 (dk_at dksX2_letter_2 12 rfl rfl)
theorem dX2_letter_60 : decode cX2_letter 60 = .ok (.iconst 0, 1) := dk_3 (dk_at dksX2_letter_2 14 rfl rfl)
theorem dX2_letter_61 : decode cX2_letter 61 = .ok (.iconst 1, 1) := dk_4 (dk_at dksX2_letter_2 15 rfl rfl)
theorem dX2_letter_62 : decode cX2_letter 62 = .ok (.invokevirtual 135, 3) := dk_182 0 135 (dk_at dksX2_letter_2 16 rfl rfl)
theorem dX2_letter_65 : decode cX2_letter 65 = .ok (.istore_n 3, 1) := dk_62 (dk_at dksX2_letter_2 19 rfl rfl)
theorem dX2_letter_66 : decode cX2_letter 66 = .ok (.aload_n 0, 1) := dk_42 (dk_at dksX2_letter_2 20 rfl rfl)
theorem dX2_letter_67 : decode cX2_letter 67 = .ok (.aload_n 0, 1) := dk_42 (dk_at dksX2_letter_2 21 rfl rfl)
theorem dX2_letter_68 : decode cX2_letter 68 = .ok (.getfield 103, 3) := dk_180 0 103 (dk_at dksX2_letter_3 0 rfl rfl)
theorem dX2_letter_71 : decode cX2_letter 71 = .ok (.getfield 138, 3) := dk_180 0 138 (dk_at dksX2_letter_3 3 rfl rfl)
theorem dX2_letter_74 : decode cX2_letter 74 = .ok (.iload_n 3, 1) := dk_29 (dk_at dksX2_letter_3 6 rfl rfl)
theorem dX2_letter_75 : decode cX2_letter 75 = .ok (.invokeinterface 142 2, 5) := by decide +kernel
theorem dX2_letter_80 : decode cX2_letter 80 = .ok (.checkcast 143, 3) := dk_192 0 143 (dk_at dksX2_letter_3 12 rfl rfl)
theorem dX2_letter_83 : decode cX2_letter 83 = .ok (.invokeinterface 148 1, 5) := by decide +kernel
theorem dX2_letter_88 : decode cX2_letter 88 = .ok (.bipush 12, 2) := dk_16 12 (dk_at dksX2_letter_3 20 rfl rfl)
theorem dX2_letter_90 : decode cX2_letter 90 = .ok (.if_icmp .ne 7, 3) := dk_160 0 7 (dk_at dksX2_letter_4 0 rfl rfl)
theorem dX2_letter_93 : decode cX2_letter 93 = .ok (.iconst 1, 1) := dk_4 (dk_at dksX2_letter_4 3 rfl rfl)
theorem dX2_letter_94 : decode cX2_letter 94 = .ok (.goto 4, 3) := dk_167 0 4 (dk_at dksX2_letter_4 4 rfl rfl)
theorem dX2_letter_97 : decode cX2_letter 97 = .ok (.iconst 0, 1) := dk_3 (dk_at dksX2_letter_4 7 rfl rfl)
theorem dX2_letter_98 : decode cX2_letter 98 = .ok (.aload_n 0, 1) := dk_42 (dk_at dksX2_letter_4 8 rfl rfl)
theorem dX2_letter_99 : decode cX2_letter 99 = .ok (.getfield 61, 3) := dk_180 0 61 (dk_at dksX2_letter_4 9 rfl rfl)
theorem dX2_letter_102 : decode cX2_letter 102 = .ok (.invokevirtual 113, 3) := dk_182 0 113 (dk_at dksX2_letter_4 12 rfl rfl)
theorem dX2_letter_105 : decode cX2_letter 105 = .ok (.aload_n 0, 1) := dk_42 (dk_at dksX2_letter_4 15 rfl rfl)
theorem dX2_letter_106 : decode cX2_letter 106 = .ok (.getfield 103, 3) := dk_180 0 103 (dk_at dksX2_letter_4 16 rfl rfl)
theorem dX2_letter_109 : decode cX2_letter 109 = .ok (.iload_n 3, 1) := dk_29 (dk_at dksX2_letter_4 19 rfl rfl)
theorem dX2_letter_110 : decode cX2_letter 110 = .ok (.iload_n 2, 1) := dk_28 (dk_at dksX2_letter_4 20 rfl rfl)
theorem dX2_letter_111 : decode cX2_letter 111 = .ok (.invokevirtual 150, 3) := dk_182 0 150 (dk_at dksX2_letter_4 21 rfl rfl)
theorem dX2_letter_114 : decode cX2_letter 114 = .ok (.iconst (-1), 1) := dk_2 (dk_at dksX2_letter_5 0 rfl rfl)
theorem dX2_letter_115 : decode cX2_letter 115 = .ok (.if_icmp .eq 13, 3) := dk_159 0 13 (dk_at dksX2_letter_5 1 rfl rfl)
theorem dX2_letter_118 : decode cX2_letter 118 = .ok (.aload_n 0, 1) := dk_42 (dk_at dksX2_letter_5 4 rfl rfl)
theorem dX2_letter_119 : decode cX2_letter 119 = .ok (.iconst 2, 1) := dk_5 (dk_at dksX2_letter_5 5 rfl rfl)
theorem dX2_letter_120 : decode cX2_letter 120 = .ok (.aload_n 0, 1) := dk_42 (dk_at dksX2_letter_5 6 rfl rfl)
theorem dX2_letter_121 : decode cX2_letter 121 = .ok (.getfield 61, 3) := dk_180 0 61 (dk_at dksX2_letter_5 7 rfl rfl)
theorem dX2_letter_124 : decode cX2_letter 124 = .ok (.invokevirtual 47, 3) := dk_182 0 47 (dk_at dksX2_letter_5 10 rfl rfl)
theorem dX2_letter_127 : decode cX2_letter 127 = .ok (.athrow, 1) := dk_191 (dk_at dksX2_letter_5 13 rfl rfl)
theorem dX2_letter_128 : decode cX2_letter 128 = .ok (.aload_n 0, 1) := dk_42 (dk_at dksX2_letter_5 14 rfl rfl)
theorem dX2_letter_129 : decode cX2_letter 129 = .ok (.ldc 153, 2) := dk_18 153 (dk_at dksX2_letter_5 15 rfl rfl)
theorem dX2_letter_131 : decode cX2_letter 131 = .ok (.invokevirtual 93, 3) := dk_182 0 93 (dk_at dksX2_letter_5 17 rfl rfl)
theorem dX2_letter_134 : decode cX2_letter 134 = .ok (.iconst 0, 1) := dk_3 (dk_at dksX2_letter_5 20 rfl rfl)
theorem dX2_letter_135 : decode cX2_letter 135 = .ok (.istore 4, 2) := dk_54 4 (dk_at dksX2_letter_5 21 rfl rfl)
theorem dX2_letter_137 : decode cX2_letter 137 = .ok (.iconst 0, 1) := dk_3 (dk_at dksX2_letter_5 23 rfl rfl)
theorem dX2_letter_138 : decode cX2_letter 138 = .ok (.istore 5, 2) := dk_54 5 (dk_at dksX2_letter_6 0 rfl rfl)
theorem dX2_letter_140 : decode cX2_letter 140 = .ok (.iload 5, 2) := dk_21 5 (dk_at dksX2_letter_6 2 rfl rfl)
theorem dX2_letter_142 : decode cX2_letter 142 = .ok (.iconst 5, 1) := dk_8 (dk_at dksX2_letter_6 4 rfl rfl)
theorem dX2_letter_143 : decode cX2_letter 143 = .ok (.if_icmp .ge 55, 3) := dk_162 0 55 (dk_at dksX2_letter_6 5 rfl rfl)
theorem dX2_letter_146 : decode cX2_letter 146 = .ok (.aload_n 0, 1) := dk_42 (dk_at dksX2_letter_6 8 rfl rfl)
theorem dX2_letter_147 : decode cX2_letter 147 = .ok (.iconst 0, 1) := dk_3 (dk_at dksX2_letter_6 9 rfl rfl)
theorem dX2_letter_148 : decode cX2_letter 148 = .ok (.bipush 7, 2) := dk_16 7 (dk_at dksX2_letter_6 10 rfl rfl)
theorem dX2_letter_150 : decode cX2_letter 150 = .ok (.invokevirtual 96, 3) := dk_182 0 96 (dk_at dksX2_letter_6 12 rfl rfl)
theorem dX2_letter_153 : decode cX2_letter 153 = .ok (.istore 6, 2) := dk_54 6 (dk_at dksX2_letter_6 15 rfl rfl)
theorem dX2_letter_155 : decode cX2_letter 155 = .ok (.iconst 0, 1) := dk_3 (dk_at dksX2_letter_6 17 rfl rfl)
theorem dX2_letter_156 : decode cX2_letter 156 = .ok (.istore 7, 2) := dk_54 7 (dk_at dksX2_letter_6 18 rfl rfl)
theorem dX2_letter_158 : decode cX2_letter 158 = .ok (.iload 7, 2) := dk_21 7 (dk_at dksX2_letter_6 20 rfl rfl)
theorem dX2_letter_160 : decode cX2_letter 160 = .ok (.iconst 3, 1) := dk_6 (dk_at dksX2_letter_6 22 rfl rfl)
theorem dX2_letter_161 : decode cX2_letter 161 = .ok (.if_icmp .ge 31, 3) := dk_162 0 31 (dk_at dksX2_letter_7 0 rfl rfl)
theorem dX2_letter_164 : decode cX2_letter 164 = .ok (.iload 4, 2) := dk_21 4 (dk_at dksX2_letter_7 3 rfl rfl)
theorem dX2_letter_166 : decode cX2_letter 166 = .ok (.iload 6, 2) := dk_21 6 (dk_at dksX2_letter_7 5 rfl rfl)
theorem dX2_letter_168 : decode cX2_letter 168 = .ok (.iconst 2, 1) := dk_5 (dk_at dksX2_letter_7 7 rfl rfl)
theorem dX2_letter_169 : decode cX2_letter 169 = .ok (.iload 7, 2) := dk_21 7 (dk_at dksX2_letter_7 8 rfl rfl)
theorem dX2_letter_171 : decode cX2_letter 171 = .ok (.isub, 1) := dk_100 (dk_at dksX2_letter_7 10 rfl rfl)
theorem dX2_letter_172 : decode cX2_letter 172 = .ok (.ishr, 1) := dk_122 (dk_at dksX2_letter_7 11 rfl rfl)
theorem dX2_letter_173 : decode cX2_letter 173 = .ok (.iconst 1, 1) := dk_4 (dk_at dksX2_letter_7 12 rfl rfl)
theorem dX2_letter_174 : decode cX2_letter 174 = .ok (.iand, 1) := dk_126 (dk_at dksX2_letter_7 13 rfl rfl)
theorem dX2_letter_175 : decode cX2_letter 175 = .ok (.iconst 3, 1) := dk_6 (dk_at dksX2_letter_7 14 rfl rfl)
theorem dX2_letter_176 : decode cX2_letter 176 = .ok (.iload 5, 2) := dk_21 5 (dk_at dksX2_letter_7 15 rfl rfl)
theorem dX2_letter_178 : decode cX2_letter 178 = .ok (.imul, 1) := dk_104 (dk_at dksX2_letter_7 17 rfl rfl)
theorem dX2_letter_179 : decode cX2_letter 179 = .ok (.iload 7, 2) := dk_21 7 (dk_at dksX2_letter_7 18 rfl rfl)
theorem dX2_letter_181 : decode cX2_letter 181 = .ok (.iadd, 1) := dk_96 (dk_at dksX2_letter_7 20 rfl rfl)
theorem dX2_letter_182 : decode cX2_letter 182 = .ok (.ishl, 1) := dk_120 (dk_at dksX2_letter_7 21 rfl rfl)
theorem dX2_letter_183 : decode cX2_letter 183 = .ok (.ior, 1) := dk_128 (dk_at dksX2_letter_7 22 rfl rfl)
theorem dX2_letter_184 : decode cX2_letter 184 = .ok (.istore 4, 2) := dk_54 4 (dk_at dksX2_letter_8 0 rfl rfl)
theorem dX2_letter_186 : decode cX2_letter 186 = .ok (.iinc 7 1, 3) := dk_132 7 1 (dk_at dksX2_letter_8 2 rfl rfl)
theorem dX2_letter_189 : decode cX2_letter 189 = .ok (.goto (-31), 3) := dk_167 255 225 (dk_at dksX2_letter_8 5 rfl rfl)
theorem dX2_letter_192 : decode cX2_letter 192 = .ok (.iinc 5 1, 3) := dk_132 5 1 (dk_at dksX2_letter_8 8 rfl rfl)
theorem dX2_letter_195 : decode cX2_letter 195 = .ok (.goto (-55), 3) := dk_167 255 201 (dk_at dksX2_letter_8 11 rfl rfl)
theorem dX2_letter_198 : decode cX2_letter 198 = .ok (.aload_n 0, 1) := dk_42 (dk_at dksX2_letter_8 14 rfl rfl)
theorem dX2_letter_199 : decode cX2_letter 199 = .ok (.getfield 103, 3) := dk_180 0 103 (dk_at dksX2_letter_8 15 rfl rfl)
theorem dX2_letter_202 : decode cX2_letter 202 = .ok (.getfield 138, 3) := dk_180 0 138 (dk_at dksX2_letter_8 18 rfl rfl)
theorem dX2_letter_205 : decode cX2_letter 205 = .ok (.iload_n 3, 1) := dk_29 (dk_at dksX2_letter_8 21 rfl rfl)
theorem dX2_letter_206 : decode cX2_letter 206 = .ok (.invokeinterface 142 2, 5) := by decide +kernel
theorem dX2_letter_211 : decode cX2_letter 211 = .ok (.checkcast 143, 3) := dk_192 0 143 (dk_at dksX2_letter_9 5 rfl rfl)
theorem dX2_letter_214 : decode cX2_letter 214 = .ok (.new 154, 3) := dk_187 0 154 (dk_at dksX2_letter_9 8 rfl rfl)
theorem dX2_letter_217 : decode cX2_letter 217 = .ok (.dup, 1) := dk_89 (dk_at dksX2_letter_9 11 rfl rfl)
theorem dX2_letter_218 : decode cX2_letter 218 = .ok (.iload_n 2, 1) := dk_28 (dk_at dksX2_letter_9 12 rfl rfl)
theorem dX2_letter_219 : decode cX2_letter 219 = .ok (.iload 4, 2) := dk_21 4 (dk_at dksX2_letter_9 13 rfl rfl)
theorem dX2_letter_221 : decode cX2_letter 221 = .ok (.invokespecial 156, 3) := dk_183 0 156 (dk_at dksX2_letter_9 15 rfl rfl)
theorem dX2_letter_224 : decode cX2_letter 224 = .ok (.invokeinterface 159 2, 5) := by decide +kernel
theorem dX2_letter_229 : decode cX2_letter 229 = .ok (.pop, 1) := dk_87 (dk_at dksX2_letter_9 23 rfl rfl)
theorem dX2_letter_230 : decode cX2_letter 230 = .ok (.return_, 1) := dk_177 (dk_at dksX2_letter_10 0 rfl rfl)
abbrev cX2_number : ByteArray := prog_16_method_12_code
def yX2_number : MethodName := ⟨RX2, "number", "(Ljava/lang/String;II)I"⟩
def dkwX2_number_0 : List UInt8 := [42, 43, 182, 0, 93, 42, 28, 29, 182, 0, 96, 172]
abbrev dktX2_number_0 : List UInt8 := dkwX2_number_0 ++ []
theorem dksX2_number_0 : cX2_number.data.toList.drop 0 = dktX2_number_0 := by decide +kernel
theorem dX2_number_0 : decode cX2_number 0 = .ok (.aload_n 0, 1) := dk_42 (dk_at dksX2_number_0 0 rfl rfl)
theorem dX2_number_1 : decode cX2_number 1 = .ok (.aload_n 1, 1) := dk_43 (dk_at dksX2_number_0 1 rfl rfl)
theorem dX2_number_2 : decode cX2_number 2 = .ok (.invokevirtual 93, 3) := dk_182 0 93 (dk_at dksX2_number_0 2 rfl rfl)
theorem dX2_number_5 : decode cX2_number 5 = .ok (.aload_n 0, 1) := dk_42 (dk_at dksX2_number_0 5 rfl rfl)
theorem dX2_number_6 : decode cX2_number 6 = .ok (.iload_n 2, 1) := dk_28 (dk_at dksX2_number_0 6 rfl rfl)
theorem dX2_number_7 : decode cX2_number 7 = .ok (.iload_n 3, 1) := dk_29 (dk_at dksX2_number_0 7 rfl rfl)
theorem dX2_number_8 : decode cX2_number 8 = .ok (.invokevirtual 96, 3) := dk_182 0 96 (dk_at dksX2_number_0 8 rfl rfl)
theorem dX2_number_11 : decode cX2_number 11 = .ok (.ireturn, 1) := dk_172 (dk_at dksX2_number_0 11 rfl rfl)
abbrev cX2_word_2 : ByteArray := prog_16_method_8_code
def yX2_word_2 : MethodName := ⟨RX2, "word", "(Ljava/lang/String;)V"⟩
def dkwX2_word_2_0 : List UInt8 := [42, 182, 0, 70, 43, 182, 0, 74, 154, 0, 13, 42, 4, 42, 180, 0, 61, 182, 0, 47, 191, 177]
abbrev dktX2_word_2_0 : List UInt8 := dkwX2_word_2_0 ++ []
theorem dksX2_word_2_0 : cX2_word_2.data.toList.drop 0 = dktX2_word_2_0 := by decide +kernel
theorem dX2_word_2_0 : decode cX2_word_2 0 = .ok (.aload_n 0, 1) := dk_42 (dk_at dksX2_word_2_0 0 rfl rfl)
theorem dX2_word_2_1 : decode cX2_word_2 1 = .ok (.invokevirtual 70, 3) := dk_182 0 70 (dk_at dksX2_word_2_0 1 rfl rfl)
theorem dX2_word_2_4 : decode cX2_word_2 4 = .ok (.aload_n 1, 1) := dk_43 (dk_at dksX2_word_2_0 4 rfl rfl)
theorem dX2_word_2_5 : decode cX2_word_2 5 = .ok (.invokevirtual 74, 3) := dk_182 0 74 (dk_at dksX2_word_2_0 5 rfl rfl)
theorem dX2_word_2_8 : decode cX2_word_2 8 = .ok (.ifCond .ne 13, 3) := dk_154 0 13 (dk_at dksX2_word_2_0 8 rfl rfl)
theorem dX2_word_2_11 : decode cX2_word_2 11 = .ok (.aload_n 0, 1) := dk_42 (dk_at dksX2_word_2_0 11 rfl rfl)
theorem dX2_word_2_12 : decode cX2_word_2 12 = .ok (.iconst 1, 1) := dk_4 (dk_at dksX2_word_2_0 12 rfl rfl)
theorem dX2_word_2_13 : decode cX2_word_2 13 = .ok (.aload_n 0, 1) := dk_42 (dk_at dksX2_word_2_0 13 rfl rfl)
theorem dX2_word_2_14 : decode cX2_word_2 14 = .ok (.getfield 61, 3) := dk_180 0 61 (dk_at dksX2_word_2_0 14 rfl rfl)
theorem dX2_word_2_17 : decode cX2_word_2 17 = .ok (.invokevirtual 47, 3) := dk_182 0 47 (dk_at dksX2_word_2_0 17 rfl rfl)
theorem dX2_word_2_20 : decode cX2_word_2 20 = .ok (.athrow, 1) := dk_191 (dk_at dksX2_word_2_0 20 rfl rfl)
theorem dX2_word_2_21 : decode cX2_word_2 21 = .ok (.return_, 1) := dk_177 (dk_at dksX2_word_2_0 21 rfl rfl)
abbrev cX2_number_2 : ByteArray := prog_16_method_11_code
def yX2_number_2 : MethodName := ⟨RX2, "number", "(II)I"⟩
def dkwX2_number_2_5 : List UInt8 := [191, 29, 172]
abbrev dktX2_number_2_5 : List UInt8 := dkwX2_number_2_5 ++ []
def dkwX2_number_2_4 : List UInt8 := [181, 0, 36, 167, 255, 192, 29, 27, 28, 184, 0, 89, 154, 0, 13, 42, 5, 42, 180, 0, 61, 182, 0, 47]
abbrev dktX2_number_2_4 : List UInt8 := dkwX2_number_2_4 ++ dktX2_number_2_5
def dkwX2_number_2_3 : List UInt8 := [16, 10, 29, 104, 42, 42, 180, 0, 36, 182, 0, 39, 96, 16, 48, 100, 62, 42, 89, 180, 0, 36, 4, 96]
abbrev dktX2_number_2_3 : List UInt8 := dkwX2_number_2_3 ++ dktX2_number_2_4
def dkwX2_number_2_2 : List UInt8 := [42, 180, 0, 36, 42, 180, 0, 61, 100, 7, 160, 0, 13, 42, 4, 42, 180, 0, 36, 182, 0, 47, 191]
abbrev dktX2_number_2_2 : List UInt8 := dkwX2_number_2_2 ++ dktX2_number_2_3
def dkwX2_number_2_1 : List UInt8 := [42, 42, 180, 0, 36, 181, 0, 61, 3, 62, 42, 42, 180, 0, 36, 182, 0, 39, 184, 0, 55, 153, 0, 56]
abbrev dktX2_number_2_1 : List UInt8 := dkwX2_number_2_1 ++ dktX2_number_2_2
def dkwX2_number_2_0 : List UInt8 := [42, 182, 0, 43, 184, 0, 55, 154, 0, 13, 42, 4, 42, 180, 0, 36, 182, 0, 47, 191, 42, 182, 0, 58]
abbrev dktX2_number_2_0 : List UInt8 := dkwX2_number_2_0 ++ dktX2_number_2_1
theorem dksX2_number_2_0 : cX2_number_2.data.toList.drop 0 = dktX2_number_2_0 := by decide +kernel
theorem dksX2_number_2_1 : cX2_number_2.data.toList.drop 24 = dktX2_number_2_1 := dk_seg dksX2_number_2_0 24 rfl rfl
theorem dksX2_number_2_2 : cX2_number_2.data.toList.drop 48 = dktX2_number_2_2 := dk_seg dksX2_number_2_1 24 rfl rfl
theorem dksX2_number_2_3 : cX2_number_2.data.toList.drop 71 = dktX2_number_2_3 := dk_seg dksX2_number_2_2 23 rfl rfl
theorem dksX2_number_2_4 : cX2_number_2.data.toList.drop 95 = dktX2_number_2_4 := dk_seg dksX2_number_2_3 24 rfl rfl
theorem dksX2_number_2_5 : cX2_number_2.data.toList.drop 119 = dktX2_number_2_5 := dk_seg dksX2_number_2_4 24 rfl rfl
theorem dX2_number_2_0 : decode cX2_number_2 0 = .ok (.aload_n 0, 1) := dk_42 (dk_at dksX2_number_2_0 0 rfl rfl)
theorem dX2_number_2_1 : decode cX2_number_2 1 = .ok (.invokevirtual 43, 3) := dk_182 0 43 (dk_at dksX2_number_2_0 1 rfl rfl)
theorem dX2_number_2_4 : decode cX2_number_2 4 = .ok (.invokestatic 55, 3) := dk_184 0 55 (dk_at dksX2_number_2_0 4 rfl rfl)
theorem dX2_number_2_7 : decode cX2_number_2 7 = .ok (.ifCond .ne 13, 3) := dk_154 0 13 (dk_at dksX2_number_2_0 7 rfl rfl)
theorem dX2_number_2_10 : decode cX2_number_2 10 = .ok (.aload_n 0, 1) := dk_42 (dk_at dksX2_number_2_0 10 rfl rfl)
theorem dX2_number_2_11 : decode cX2_number_2 11 = .ok (.iconst 1, 1) := dk_4 (dk_at dksX2_number_2_0 11 rfl rfl)
theorem dX2_number_2_12 : decode cX2_number_2 12 = .ok (.aload_n 0, 1) := dk_42 (dk_at dksX2_number_2_0 12 rfl rfl)
theorem dX2_number_2_13 : decode cX2_number_2 13 = .ok (.getfield 36, 3) := dk_180 0 36 (dk_at dksX2_number_2_0 13 rfl rfl)
theorem dX2_number_2_16 : decode cX2_number_2 16 = .ok (.invokevirtual 47, 3) := dk_182 0 47 (dk_at dksX2_number_2_0 16 rfl rfl)
theorem dX2_number_2_19 : decode cX2_number_2 19 = .ok (.athrow, 1) := dk_191 (dk_at dksX2_number_2_0 19 rfl rfl)
theorem dX2_number_2_20 : decode cX2_number_2 20 = .ok (.aload_n 0, 1) := dk_42 (dk_at dksX2_number_2_0 20 rfl rfl)
theorem dX2_number_2_21 : decode cX2_number_2 21 = .ok (.invokevirtual 58, 3) := dk_182 0 58 (dk_at dksX2_number_2_0 21 rfl rfl)
theorem dX2_number_2_24 : decode cX2_number_2 24 = .ok (.aload_n 0, 1) := dk_42 (dk_at dksX2_number_2_1 0 rfl rfl)
theorem dX2_number_2_25 : decode cX2_number_2 25 = .ok (.aload_n 0, 1) := dk_42 (dk_at dksX2_number_2_1 1 rfl rfl)
theorem dX2_number_2_26 : decode cX2_number_2 26 = .ok (.getfield 36, 3) := dk_180 0 36 (dk_at dksX2_number_2_1 2 rfl rfl)
theorem dX2_number_2_29 : decode cX2_number_2 29 = .ok (.putfield 61, 3) := dk_181 0 61 (dk_at dksX2_number_2_1 5 rfl rfl)
theorem dX2_number_2_32 : decode cX2_number_2 32 = .ok (.iconst 0, 1) := dk_3 (dk_at dksX2_number_2_1 8 rfl rfl)
theorem dX2_number_2_33 : decode cX2_number_2 33 = .ok (.istore_n 3, 1) := dk_62 (dk_at dksX2_number_2_1 9 rfl rfl)
theorem dX2_number_2_34 : decode cX2_number_2 34 = .ok (.aload_n 0, 1) := dk_42 (dk_at dksX2_number_2_1 10 rfl rfl)
theorem dX2_number_2_35 : decode cX2_number_2 35 = .ok (.aload_n 0, 1) := dk_42 (dk_at dksX2_number_2_1 11 rfl rfl)
theorem dX2_number_2_36 : decode cX2_number_2 36 = .ok (.getfield 36, 3) := dk_180 0 36 (dk_at dksX2_number_2_1 12 rfl rfl)
theorem dX2_number_2_39 : decode cX2_number_2 39 = .ok (.invokevirtual 39, 3) := dk_182 0 39 (dk_at dksX2_number_2_1 15 rfl rfl)
theorem dX2_number_2_42 : decode cX2_number_2 42 = .ok (.invokestatic 55, 3) := dk_184 0 55 (dk_at dksX2_number_2_1 18 rfl rfl)
theorem dX2_number_2_45 : decode cX2_number_2 45 = .ok (.ifCond .eq 56, 3) := dk_153 0 56 (dk_at dksX2_number_2_1 21 rfl rfl)
theorem dX2_number_2_48 : decode cX2_number_2 48 = .ok (.aload_n 0, 1) := dk_42 (dk_at dksX2_number_2_2 0 rfl rfl)
theorem dX2_number_2_49 : decode cX2_number_2 49 = .ok (.getfield 36, 3) := dk_180 0 36 (dk_at dksX2_number_2_2 1 rfl rfl)
theorem dX2_number_2_52 : decode cX2_number_2 52 = .ok (.aload_n 0, 1) := dk_42 (dk_at dksX2_number_2_2 4 rfl rfl)
theorem dX2_number_2_53 : decode cX2_number_2 53 = .ok (.getfield 61, 3) := dk_180 0 61 (dk_at dksX2_number_2_2 5 rfl rfl)
theorem dX2_number_2_56 : decode cX2_number_2 56 = .ok (.isub, 1) := dk_100 (dk_at dksX2_number_2_2 8 rfl rfl)
theorem dX2_number_2_57 : decode cX2_number_2 57 = .ok (.iconst 4, 1) := dk_7 (dk_at dksX2_number_2_2 9 rfl rfl)
theorem dX2_number_2_58 : decode cX2_number_2 58 = .ok (.if_icmp .ne 13, 3) := dk_160 0 13 (dk_at dksX2_number_2_2 10 rfl rfl)
theorem dX2_number_2_61 : decode cX2_number_2 61 = .ok (.aload_n 0, 1) := dk_42 (dk_at dksX2_number_2_2 13 rfl rfl)
theorem dX2_number_2_62 : decode cX2_number_2 62 = .ok (.iconst 1, 1) := dk_4 (dk_at dksX2_number_2_2 14 rfl rfl)
theorem dX2_number_2_63 : decode cX2_number_2 63 = .ok (.aload_n 0, 1) := dk_42 (dk_at dksX2_number_2_2 15 rfl rfl)
theorem dX2_number_2_64 : decode cX2_number_2 64 = .ok (.getfield 36, 3) := dk_180 0 36 (dk_at dksX2_number_2_2 16 rfl rfl)
theorem dX2_number_2_67 : decode cX2_number_2 67 = .ok (.invokevirtual 47, 3) := dk_182 0 47 (dk_at dksX2_number_2_2 19 rfl rfl)
theorem dX2_number_2_70 : decode cX2_number_2 70 = .ok (.athrow, 1) := dk_191 (dk_at dksX2_number_2_2 22 rfl rfl)
theorem dX2_number_2_71 : decode cX2_number_2 71 = .ok (.bipush 10, 2) := dk_16 10 (dk_at dksX2_number_2_3 0 rfl rfl)
theorem dX2_number_2_73 : decode cX2_number_2 73 = .ok (.iload_n 3, 1) := dk_29 (dk_at dksX2_number_2_3 2 rfl rfl)
theorem dX2_number_2_74 : decode cX2_number_2 74 = .ok (.imul, 1) := dk_104 (dk_at dksX2_number_2_3 3 rfl rfl)
theorem dX2_number_2_75 : decode cX2_number_2 75 = .ok (.aload_n 0, 1) := dk_42 (dk_at dksX2_number_2_3 4 rfl rfl)
theorem dX2_number_2_76 : decode cX2_number_2 76 = .ok (.aload_n 0, 1) := dk_42 (dk_at dksX2_number_2_3 5 rfl rfl)
theorem dX2_number_2_77 : decode cX2_number_2 77 = .ok (.getfield 36, 3) := dk_180 0 36 (dk_at dksX2_number_2_3 6 rfl rfl)
theorem dX2_number_2_80 : decode cX2_number_2 80 = .ok (.invokevirtual 39, 3) := dk_182 0 39 (dk_at dksX2_number_2_3 9 rfl rfl)
theorem dX2_number_2_83 : decode cX2_number_2 83 = .ok (.iadd, 1) := dk_96 (dk_at dksX2_number_2_3 12 rfl rfl)
theorem dX2_number_2_84 : decode cX2_number_2 84 = .ok (.bipush 48, 2) := dk_16 48 (dk_at dksX2_number_2_3 13 rfl rfl)
theorem dX2_number_2_86 : decode cX2_number_2 86 = .ok (.isub, 1) := dk_100 (dk_at dksX2_number_2_3 15 rfl rfl)
theorem dX2_number_2_87 : decode cX2_number_2 87 = .ok (.istore_n 3, 1) := dk_62 (dk_at dksX2_number_2_3 16 rfl rfl)
theorem dX2_number_2_88 : decode cX2_number_2 88 = .ok (.aload_n 0, 1) := dk_42 (dk_at dksX2_number_2_3 17 rfl rfl)
theorem dX2_number_2_89 : decode cX2_number_2 89 = .ok (.dup, 1) := dk_89 (dk_at dksX2_number_2_3 18 rfl rfl)
theorem dX2_number_2_90 : decode cX2_number_2 90 = .ok (.getfield 36, 3) := dk_180 0 36 (dk_at dksX2_number_2_3 19 rfl rfl)
theorem dX2_number_2_93 : decode cX2_number_2 93 = .ok (.iconst 1, 1) := dk_4 (dk_at dksX2_number_2_3 22 rfl rfl)
theorem dX2_number_2_94 : decode cX2_number_2 94 = .ok (.iadd, 1) := dk_96 (dk_at dksX2_number_2_3 23 rfl rfl)
theorem dX2_number_2_95 : decode cX2_number_2 95 = .ok (.putfield 36, 3) := dk_181 0 36 (dk_at dksX2_number_2_4 0 rfl rfl)
theorem dX2_number_2_98 : decode cX2_number_2 98 = .ok (.goto (-64), 3) := dk_167 255 192 (dk_at dksX2_number_2_4 3 rfl rfl)
theorem dX2_number_2_101 : decode cX2_number_2 101 = .ok (.iload_n 3, 1) := dk_29 (dk_at dksX2_number_2_4 6 rfl rfl)
theorem dX2_number_2_102 : decode cX2_number_2 102 = .ok (.iload_n 1, 1) := dk_27 (dk_at dksX2_number_2_4 7 rfl rfl)
theorem dX2_number_2_103 : decode cX2_number_2 103 = .ok (.iload_n 2, 1) := dk_28 (dk_at dksX2_number_2_4 8 rfl rfl)
theorem dX2_number_2_104 : decode cX2_number_2 104 = .ok (.invokestatic 89, 3) := dk_184 0 89 (dk_at dksX2_number_2_4 9 rfl rfl)
theorem dX2_number_2_107 : decode cX2_number_2 107 = .ok (.ifCond .ne 13, 3) := dk_154 0 13 (dk_at dksX2_number_2_4 12 rfl rfl)
theorem dX2_number_2_110 : decode cX2_number_2 110 = .ok (.aload_n 0, 1) := dk_42 (dk_at dksX2_number_2_4 15 rfl rfl)
theorem dX2_number_2_111 : decode cX2_number_2 111 = .ok (.iconst 2, 1) := dk_5 (dk_at dksX2_number_2_4 16 rfl rfl)
theorem dX2_number_2_112 : decode cX2_number_2 112 = .ok (.aload_n 0, 1) := dk_42 (dk_at dksX2_number_2_4 17 rfl rfl)
theorem dX2_number_2_113 : decode cX2_number_2 113 = .ok (.getfield 61, 3) := dk_180 0 61 (dk_at dksX2_number_2_4 18 rfl rfl)
theorem dX2_number_2_116 : decode cX2_number_2 116 = .ok (.invokevirtual 47, 3) := dk_182 0 47 (dk_at dksX2_number_2_4 21 rfl rfl)
theorem dX2_number_2_119 : decode cX2_number_2 119 = .ok (.athrow, 1) := dk_191 (dk_at dksX2_number_2_5 0 rfl rfl)
theorem dX2_number_2_120 : decode cX2_number_2 120 = .ok (.iload_n 3, 1) := dk_29 (dk_at dksX2_number_2_5 1 rfl rfl)
theorem dX2_number_2_121 : decode cX2_number_2 121 = .ok (.ireturn, 1) := dk_172 (dk_at dksX2_number_2_5 2 rfl rfl)
abbrev cX2_aWord : ByteArray := prog_16_method_16_code
def yX2_aWord : MethodName := ⟨RX2, "aWord", "(I)V"⟩
def dkwX2_aWord_3 : List UInt8 := [180, 0, 61, 182, 0, 47, 191, 42, 180, 0, 103, 180, 0, 162, 44, 185, 0, 159, 2, 0, 87, 177]
abbrev dktX2_aWord_3 : List UInt8 := dkwX2_aWord_3 ++ []
def dkwX2_aWord_2 : List UInt8 := [182, 0, 175, 2, 160, 0, 15, 42, 180, 0, 103, 3, 44, 182, 0, 178, 154, 0, 13, 42, 6, 42]
abbrev dktX2_aWord_2 : List UInt8 := dkwX2_aWord_2 ++ dktX2_aWord_3
def dkwX2_aWord_1 : List UInt8 := [182, 0, 113, 187, 0, 165, 89, 42, 182, 0, 167, 183, 0, 170, 77, 42, 180, 0, 103, 44, 180, 0, 172]
abbrev dktX2_aWord_1 : List UInt8 := dkwX2_aWord_1 ++ dktX2_aWord_2
def dkwX2_aWord_0 : List UInt8 := [42, 42, 180, 0, 103, 180, 0, 162, 185, 0, 148, 1, 0, 16, 8, 160, 0, 7, 4, 167, 0, 4, 3, 27]
abbrev dktX2_aWord_0 : List UInt8 := dkwX2_aWord_0 ++ dktX2_aWord_1
theorem dksX2_aWord_0 : cX2_aWord.data.toList.drop 0 = dktX2_aWord_0 := by decide +kernel
theorem dksX2_aWord_1 : cX2_aWord.data.toList.drop 24 = dktX2_aWord_1 := dk_seg dksX2_aWord_0 24 rfl rfl
theorem dksX2_aWord_2 : cX2_aWord.data.toList.drop 47 = dktX2_aWord_2 := dk_seg dksX2_aWord_1 23 rfl rfl
theorem dksX2_aWord_3 : cX2_aWord.data.toList.drop 69 = dktX2_aWord_3 := dk_seg dksX2_aWord_2 22 rfl rfl
theorem dX2_aWord_0 : decode cX2_aWord 0 = .ok (.aload_n 0, 1) := dk_42 (dk_at dksX2_aWord_0 0 rfl rfl)
theorem dX2_aWord_1 : decode cX2_aWord 1 = .ok (.aload_n 0, 1) := dk_42 (dk_at dksX2_aWord_0 1 rfl rfl)
theorem dX2_aWord_2 : decode cX2_aWord 2 = .ok (.getfield 103, 3) := dk_180 0 103 (dk_at dksX2_aWord_0 2 rfl rfl)
theorem dX2_aWord_5 : decode cX2_aWord 5 = .ok (.getfield 162, 3) := dk_180 0 162 (dk_at dksX2_aWord_0 5 rfl rfl)
theorem dX2_aWord_8 : decode cX2_aWord 8 = .ok (.invokeinterface 148 1, 5) := by decide +kernel
theorem dX2_aWord_13 : decode cX2_aWord 13 = .ok (.bipush 8, 2) := dk_16 8 (dk_at dksX2_aWord_0 13 rfl rfl)
theorem dX2_aWord_15 : decode cX2_aWord 15 = .ok (.if_icmp .ne 7, 3) := dk_160 0 7 (dk_at dksX2_aWord_0 15 rfl rfl)
theorem dX2_aWord_18 : decode cX2_aWord 18 = .ok (.iconst 1, 1) := dk_4 (dk_at dksX2_aWord_0 18 rfl rfl)
theorem dX2_aWord_19 : decode cX2_aWord 19 = .ok (.goto 4, 3) := dk_167 0 4 (dk_at dksX2_aWord_0 19 rfl rfl)
theorem dX2_aWord_22 : decode cX2_aWord 22 = .ok (.iconst 0, 1) := dk_3 (dk_at dksX2_aWord_0 22 rfl rfl)
theorem dX2_aWord_23 : decode cX2_aWord 23 = .ok (.iload_n 1, 1) := dk_27 (dk_at dksX2_aWord_0 23 rfl rfl)
theorem dX2_aWord_24 : decode cX2_aWord 24 = .ok (.invokevirtual 113, 3) := dk_182 0 113 (dk_at dksX2_aWord_1 0 rfl rfl)
theorem dX2_aWord_27 : decode cX2_aWord 27 = .ok (.new 165, 3) := dk_187 0 165 (dk_at dksX2_aWord_1 3 rfl rfl)
theorem dX2_aWord_30 : decode cX2_aWord 30 = .ok (.dup, 1) := dk_89 (dk_at dksX2_aWord_1 6 rfl rfl)
theorem dX2_aWord_31 : decode cX2_aWord 31 = .ok (.aload_n 0, 1) := dk_42 (dk_at dksX2_aWord_1 7 rfl rfl)
theorem dX2_aWord_32 : decode cX2_aWord 32 = .ok (.invokevirtual 167, 3) := dk_182 0 167 (dk_at dksX2_aWord_1 8 rfl rfl)
theorem dX2_aWord_35 : decode cX2_aWord 35 = .ok (.invokespecial 170, 3) := dk_183 0 170 (dk_at dksX2_aWord_1 11 rfl rfl)
theorem dX2_aWord_38 : decode cX2_aWord 38 = .ok (.astore_n 2, 1) := dk_77 (dk_at dksX2_aWord_1 14 rfl rfl)
theorem dX2_aWord_39 : decode cX2_aWord 39 = .ok (.aload_n 0, 1) := dk_42 (dk_at dksX2_aWord_1 15 rfl rfl)
theorem dX2_aWord_40 : decode cX2_aWord 40 = .ok (.getfield 103, 3) := dk_180 0 103 (dk_at dksX2_aWord_1 16 rfl rfl)
theorem dX2_aWord_43 : decode cX2_aWord 43 = .ok (.aload_n 2, 1) := dk_44 (dk_at dksX2_aWord_1 19 rfl rfl)
theorem dX2_aWord_44 : decode cX2_aWord 44 = .ok (.getfield 172, 3) := dk_180 0 172 (dk_at dksX2_aWord_1 20 rfl rfl)
theorem dX2_aWord_47 : decode cX2_aWord 47 = .ok (.invokevirtual 175, 3) := dk_182 0 175 (dk_at dksX2_aWord_2 0 rfl rfl)
theorem dX2_aWord_50 : decode cX2_aWord 50 = .ok (.iconst (-1), 1) := dk_2 (dk_at dksX2_aWord_2 3 rfl rfl)
theorem dX2_aWord_51 : decode cX2_aWord 51 = .ok (.if_icmp .ne 15, 3) := dk_160 0 15 (dk_at dksX2_aWord_2 4 rfl rfl)
theorem dX2_aWord_54 : decode cX2_aWord 54 = .ok (.aload_n 0, 1) := dk_42 (dk_at dksX2_aWord_2 7 rfl rfl)
theorem dX2_aWord_55 : decode cX2_aWord 55 = .ok (.getfield 103, 3) := dk_180 0 103 (dk_at dksX2_aWord_2 8 rfl rfl)
theorem dX2_aWord_58 : decode cX2_aWord 58 = .ok (.iconst 0, 1) := dk_3 (dk_at dksX2_aWord_2 11 rfl rfl)
theorem dX2_aWord_59 : decode cX2_aWord 59 = .ok (.aload_n 2, 1) := dk_44 (dk_at dksX2_aWord_2 12 rfl rfl)
theorem dX2_aWord_60 : decode cX2_aWord 60 = .ok (.invokevirtual 178, 3) := dk_182 0 178 (dk_at dksX2_aWord_2 13 rfl rfl)
theorem dX2_aWord_63 : decode cX2_aWord 63 = .ok (.ifCond .ne 13, 3) := dk_154 0 13 (dk_at dksX2_aWord_2 16 rfl rfl)
theorem dX2_aWord_66 : decode cX2_aWord 66 = .ok (.aload_n 0, 1) := dk_42 (dk_at dksX2_aWord_2 19 rfl rfl)
theorem dX2_aWord_67 : decode cX2_aWord 67 = .ok (.iconst 3, 1) := dk_6 (dk_at dksX2_aWord_2 20 rfl rfl)
theorem dX2_aWord_68 : decode cX2_aWord 68 = .ok (.aload_n 0, 1) := dk_42 (dk_at dksX2_aWord_2 21 rfl rfl)
theorem dX2_aWord_69 : decode cX2_aWord 69 = .ok (.getfield 61, 3) := dk_180 0 61 (dk_at dksX2_aWord_3 0 rfl rfl)
theorem dX2_aWord_72 : decode cX2_aWord 72 = .ok (.invokevirtual 47, 3) := dk_182 0 47 (dk_at dksX2_aWord_3 3 rfl rfl)
theorem dX2_aWord_75 : decode cX2_aWord 75 = .ok (.athrow, 1) := dk_191 (dk_at dksX2_aWord_3 6 rfl rfl)
theorem dX2_aWord_76 : decode cX2_aWord 76 = .ok (.aload_n 0, 1) := dk_42 (dk_at dksX2_aWord_3 7 rfl rfl)
theorem dX2_aWord_77 : decode cX2_aWord 77 = .ok (.getfield 103, 3) := dk_180 0 103 (dk_at dksX2_aWord_3 8 rfl rfl)
theorem dX2_aWord_80 : decode cX2_aWord 80 = .ok (.getfield 162, 3) := dk_180 0 162 (dk_at dksX2_aWord_3 11 rfl rfl)
theorem dX2_aWord_83 : decode cX2_aWord 83 = .ok (.aload_n 2, 1) := dk_44 (dk_at dksX2_aWord_3 14 rfl rfl)
theorem dX2_aWord_84 : decode cX2_aWord 84 = .ok (.invokeinterface 159 2, 5) := by decide +kernel
theorem dX2_aWord_89 : decode cX2_aWord 89 = .ok (.pop, 1) := dk_87 (dk_at dksX2_aWord_3 20 rfl rfl)
theorem dX2_aWord_90 : decode cX2_aWord 90 = .ok (.return_, 1) := dk_177 (dk_at dksX2_aWord_3 21 rfl rfl)
abbrev cX2_name : ByteArray := prog_16_method_10_code
def yX2_name : MethodName := ⟨RX2, "name", "()Ljava/lang/String;"⟩
def dkwX2_name_2 : List UInt8 := [182, 0, 47, 191, 43, 176]
abbrev dktX2_name_2 : List UInt8 := dkwX2_name_2 ++ []
def dkwX2_name_1 : List UInt8 := [182, 0, 47, 191, 43, 182, 0, 86, 16, 6, 164, 0, 16, 42, 4, 42, 180, 0, 61, 16, 6, 96]
abbrev dktX2_name_1 : List UInt8 := dkwX2_name_1 ++ dktX2_name_2
def dkwX2_name_0 : List UInt8 := [42, 182, 0, 70, 76, 43, 178, 0, 78, 184, 0, 82, 2, 159, 0, 13, 42, 4, 42, 180, 0, 61]
abbrev dktX2_name_0 : List UInt8 := dkwX2_name_0 ++ dktX2_name_1
theorem dksX2_name_0 : cX2_name.data.toList.drop 0 = dktX2_name_0 := by decide +kernel
theorem dksX2_name_1 : cX2_name.data.toList.drop 22 = dktX2_name_1 := dk_seg dksX2_name_0 22 rfl rfl
theorem dksX2_name_2 : cX2_name.data.toList.drop 44 = dktX2_name_2 := dk_seg dksX2_name_1 22 rfl rfl
theorem dX2_name_0 : decode cX2_name 0 = .ok (.aload_n 0, 1) := dk_42 (dk_at dksX2_name_0 0 rfl rfl)
theorem dX2_name_1 : decode cX2_name 1 = .ok (.invokevirtual 70, 3) := dk_182 0 70 (dk_at dksX2_name_0 1 rfl rfl)
theorem dX2_name_4 : decode cX2_name 4 = .ok (.astore_n 1, 1) := dk_76 (dk_at dksX2_name_0 4 rfl rfl)
theorem dX2_name_5 : decode cX2_name 5 = .ok (.aload_n 1, 1) := dk_43 (dk_at dksX2_name_0 5 rfl rfl)
theorem dX2_name_6 : decode cX2_name 6 = .ok (.getstatic 78, 3) := dk_178 0 78 (dk_at dksX2_name_0 6 rfl rfl)
theorem dX2_name_9 : decode cX2_name 9 = .ok (.invokestatic 82, 3) := dk_184 0 82 (dk_at dksX2_name_0 9 rfl rfl)
theorem dX2_name_12 : decode cX2_name 12 = .ok (.iconst (-1), 1) := dk_2 (dk_at dksX2_name_0 12 rfl rfl)
theorem dX2_name_13 : decode cX2_name 13 = .ok (.if_icmp .eq 13, 3) := dk_159 0 13 (dk_at dksX2_name_0 13 rfl rfl)
theorem dX2_name_16 : decode cX2_name 16 = .ok (.aload_n 0, 1) := dk_42 (dk_at dksX2_name_0 16 rfl rfl)
theorem dX2_name_17 : decode cX2_name 17 = .ok (.iconst 1, 1) := dk_4 (dk_at dksX2_name_0 17 rfl rfl)
theorem dX2_name_18 : decode cX2_name 18 = .ok (.aload_n 0, 1) := dk_42 (dk_at dksX2_name_0 18 rfl rfl)
theorem dX2_name_19 : decode cX2_name 19 = .ok (.getfield 61, 3) := dk_180 0 61 (dk_at dksX2_name_0 19 rfl rfl)
theorem dX2_name_22 : decode cX2_name 22 = .ok (.invokevirtual 47, 3) := dk_182 0 47 (dk_at dksX2_name_1 0 rfl rfl)
theorem dX2_name_25 : decode cX2_name 25 = .ok (.athrow, 1) := dk_191 (dk_at dksX2_name_1 3 rfl rfl)
theorem dX2_name_26 : decode cX2_name 26 = .ok (.aload_n 1, 1) := dk_43 (dk_at dksX2_name_1 4 rfl rfl)
theorem dX2_name_27 : decode cX2_name 27 = .ok (.invokevirtual 86, 3) := dk_182 0 86 (dk_at dksX2_name_1 5 rfl rfl)
theorem dX2_name_30 : decode cX2_name 30 = .ok (.bipush 6, 2) := dk_16 6 (dk_at dksX2_name_1 8 rfl rfl)
theorem dX2_name_32 : decode cX2_name 32 = .ok (.if_icmp .le 16, 3) := dk_164 0 16 (dk_at dksX2_name_1 10 rfl rfl)
theorem dX2_name_35 : decode cX2_name 35 = .ok (.aload_n 0, 1) := dk_42 (dk_at dksX2_name_1 13 rfl rfl)
theorem dX2_name_36 : decode cX2_name 36 = .ok (.iconst 1, 1) := dk_4 (dk_at dksX2_name_1 14 rfl rfl)
theorem dX2_name_37 : decode cX2_name 37 = .ok (.aload_n 0, 1) := dk_42 (dk_at dksX2_name_1 15 rfl rfl)
theorem dX2_name_38 : decode cX2_name 38 = .ok (.getfield 61, 3) := dk_180 0 61 (dk_at dksX2_name_1 16 rfl rfl)
theorem dX2_name_41 : decode cX2_name 41 = .ok (.bipush 6, 2) := dk_16 6 (dk_at dksX2_name_1 19 rfl rfl)
theorem dX2_name_43 : decode cX2_name 43 = .ok (.iadd, 1) := dk_96 (dk_at dksX2_name_1 21 rfl rfl)
theorem dX2_name_44 : decode cX2_name 44 = .ok (.invokevirtual 47, 3) := dk_182 0 47 (dk_at dksX2_name_2 0 rfl rfl)
theorem dX2_name_47 : decode cX2_name 47 = .ok (.athrow, 1) := dk_191 (dk_at dksX2_name_2 3 rfl rfl)
theorem dX2_name_48 : decode cX2_name 48 = .ok (.aload_n 1, 1) := dk_43 (dk_at dksX2_name_2 4 rfl rfl)
theorem dX2_name_49 : decode cX2_name 49 = .ok (.areturn, 1) := dk_176 (dk_at dksX2_name_2 5 rfl rfl)
abbrev cX2_board : ByteArray := prog_16_method_17_code
def yX2_board : MethodName := ⟨RX2, "board", "(I)V"⟩
def dkwX2_board_5 : List UInt8 := [185, 0, 159, 2, 0, 87, 177]
abbrev dktX2_board_5 : List UInt8 := dkwX2_board_5 ++ []
def dkwX2_board_4 : List UInt8 := [180, 0, 61, 182, 0, 47, 191, 42, 180, 0, 103, 180, 0, 182, 187, 0, 185, 89, 28, 29, 183, 0, 187]
abbrev dktX2_board_4 : List UInt8 := dkwX2_board_4 ++ dktX2_board_5
def dkwX2_board_3 : List UInt8 := [180, 0, 103, 180, 0, 162, 28, 185, 0, 142, 2, 0, 192, 0, 165, 182, 0, 178, 154, 0, 13, 42, 5, 42]
abbrev dktX2_board_3 : List UInt8 := dkwX2_board_3 ++ dktX2_board_4
def dkwX2_board_2 : List UInt8 := [180, 0, 61, 182, 0, 47, 191, 42, 18, 133, 3, 4, 182, 0, 135, 62, 42, 180, 0, 103, 29, 42]
abbrev dktX2_board_2 : List UInt8 := dkwX2_board_2 ++ dktX2_board_3
def dkwX2_board_1 : List UInt8 := [182, 0, 113, 42, 180, 0, 103, 42, 182, 0, 167, 182, 0, 175, 61, 28, 2, 160, 0, 13, 42, 6, 42]
abbrev dktX2_board_1 : List UInt8 := dkwX2_board_1 ++ dktX2_board_2
def dkwX2_board_0 : List UInt8 := [42, 42, 180, 0, 103, 180, 0, 182, 185, 0, 148, 1, 0, 7, 160, 0, 7, 4, 167, 0, 4, 3, 27]
abbrev dktX2_board_0 : List UInt8 := dkwX2_board_0 ++ dktX2_board_1
theorem dksX2_board_0 : cX2_board.data.toList.drop 0 = dktX2_board_0 := by decide +kernel
theorem dksX2_board_1 : cX2_board.data.toList.drop 23 = dktX2_board_1 := dk_seg dksX2_board_0 23 rfl rfl
theorem dksX2_board_2 : cX2_board.data.toList.drop 46 = dktX2_board_2 := dk_seg dksX2_board_1 23 rfl rfl
theorem dksX2_board_3 : cX2_board.data.toList.drop 68 = dktX2_board_3 := dk_seg dksX2_board_2 22 rfl rfl
theorem dksX2_board_4 : cX2_board.data.toList.drop 92 = dktX2_board_4 := dk_seg dksX2_board_3 24 rfl rfl
theorem dksX2_board_5 : cX2_board.data.toList.drop 115 = dktX2_board_5 := dk_seg dksX2_board_4 23 rfl rfl
theorem dX2_board_0 : decode cX2_board 0 = .ok (.aload_n 0, 1) := dk_42 (dk_at dksX2_board_0 0 rfl rfl)
theorem dX2_board_1 : decode cX2_board 1 = .ok (.aload_n 0, 1) := dk_42 (dk_at dksX2_board_0 1 rfl rfl)
theorem dX2_board_2 : decode cX2_board 2 = .ok (.getfield 103, 3) := dk_180 0 103 (dk_at dksX2_board_0 2 rfl rfl)
theorem dX2_board_5 : decode cX2_board 5 = .ok (.getfield 182, 3) := dk_180 0 182 (dk_at dksX2_board_0 5 rfl rfl)
theorem dX2_board_8 : decode cX2_board 8 = .ok (.invokeinterface 148 1, 5) := by decide +kernel
theorem dX2_board_13 : decode cX2_board 13 = .ok (.iconst 4, 1) := dk_7 (dk_at dksX2_board_0 13 rfl rfl)
theorem dX2_board_14 : decode cX2_board 14 = .ok (.if_icmp .ne 7, 3) := dk_160 0 7 (dk_at dksX2_board_0 14 rfl rfl)
theorem dX2_board_17 : decode cX2_board 17 = .ok (.iconst 1, 1) := dk_4 (dk_at dksX2_board_0 17 rfl rfl)
theorem dX2_board_18 : decode cX2_board 18 = .ok (.goto 4, 3) := dk_167 0 4 (dk_at dksX2_board_0 18 rfl rfl)
theorem dX2_board_21 : decode cX2_board 21 = .ok (.iconst 0, 1) := dk_3 (dk_at dksX2_board_0 21 rfl rfl)
theorem dX2_board_22 : decode cX2_board 22 = .ok (.iload_n 1, 1) := dk_27 (dk_at dksX2_board_0 22 rfl rfl)
theorem dX2_board_23 : decode cX2_board 23 = .ok (.invokevirtual 113, 3) := dk_182 0 113 (dk_at dksX2_board_1 0 rfl rfl)
theorem dX2_board_26 : decode cX2_board 26 = .ok (.aload_n 0, 1) := dk_42 (dk_at dksX2_board_1 3 rfl rfl)
theorem dX2_board_27 : decode cX2_board 27 = .ok (.getfield 103, 3) := dk_180 0 103 (dk_at dksX2_board_1 4 rfl rfl)
theorem dX2_board_30 : decode cX2_board 30 = .ok (.aload_n 0, 1) := dk_42 (dk_at dksX2_board_1 7 rfl rfl)
theorem dX2_board_31 : decode cX2_board 31 = .ok (.invokevirtual 167, 3) := dk_182 0 167 (dk_at dksX2_board_1 8 rfl rfl)
theorem dX2_board_34 : decode cX2_board 34 = .ok (.invokevirtual 175, 3) := dk_182 0 175 (dk_at dksX2_board_1 11 rfl rfl)
theorem dX2_board_37 : decode cX2_board 37 = .ok (.istore_n 2, 1) := dk_61 (dk_at dksX2_board_1 14 rfl rfl)
theorem dX2_board_38 : decode cX2_board 38 = .ok (.iload_n 2, 1) := dk_28 (dk_at dksX2_board_1 15 rfl rfl)
theorem dX2_board_39 : decode cX2_board 39 = .ok (.iconst (-1), 1) := dk_2 (dk_at dksX2_board_1 16 rfl rfl)
theorem dX2_board_40 : decode cX2_board 40 = .ok (.if_icmp .ne 13, 3) := dk_160 0 13 (dk_at dksX2_board_1 17 rfl rfl)
theorem dX2_board_43 : decode cX2_board 43 = .ok (.aload_n 0, 1) := dk_42 (dk_at dksX2_board_1 20 rfl rfl)
theorem dX2_board_44 : decode cX2_board 44 = .ok (.iconst 3, 1) := dk_6 (dk_at dksX2_board_1 21 rfl rfl)
theorem dX2_board_45 : decode cX2_board 45 = .ok (.aload_n 0, 1) := dk_42 (dk_at dksX2_board_1 22 rfl rfl)
theorem dX2_board_46 : decode cX2_board 46 = .ok (.getfield 61, 3) := dk_180 0 61 (dk_at dksX2_board_2 0 rfl rfl)
theorem dX2_board_49 : decode cX2_board 49 = .ok (.invokevirtual 47, 3) := dk_182 0 47 (dk_at dksX2_board_2 3 rfl rfl)
theorem dX2_board_52 : decode cX2_board 52 = .ok (.athrow, 1) := dk_191 (dk_at dksX2_board_2 6 rfl rfl)
theorem dX2_board_53 : decode cX2_board 53 = .ok (.aload_n 0, 1) := dk_42 (dk_at dksX2_board_2 7 rfl rfl)
theorem dX2_board_54 : decode cX2_board 54 = .ok (.ldc 133, 2) := dk_18 133 (dk_at dksX2_board_2 8 rfl rfl)
theorem dX2_board_56 : decode cX2_board 56 = .ok (.iconst 0, 1) := dk_3 (dk_at dksX2_board_2 10 rfl rfl)
theorem dX2_board_57 : decode cX2_board 57 = .ok (.iconst 1, 1) := dk_4 (dk_at dksX2_board_2 11 rfl rfl)
theorem dX2_board_58 : decode cX2_board 58 = .ok (.invokevirtual 135, 3) := dk_182 0 135 (dk_at dksX2_board_2 12 rfl rfl)
theorem dX2_board_61 : decode cX2_board 61 = .ok (.istore_n 3, 1) := dk_62 (dk_at dksX2_board_2 15 rfl rfl)
theorem dX2_board_62 : decode cX2_board 62 = .ok (.aload_n 0, 1) := dk_42 (dk_at dksX2_board_2 16 rfl rfl)
theorem dX2_board_63 : decode cX2_board 63 = .ok (.getfield 103, 3) := dk_180 0 103 (dk_at dksX2_board_2 17 rfl rfl)
theorem dX2_board_66 : decode cX2_board 66 = .ok (.iload_n 3, 1) := dk_29 (dk_at dksX2_board_2 20 rfl rfl)
theorem dX2_board_67 : decode cX2_board 67 = .ok (.aload_n 0, 1) := dk_42 (dk_at dksX2_board_2 21 rfl rfl)
theorem dX2_board_68 : decode cX2_board 68 = .ok (.getfield 103, 3) := dk_180 0 103 (dk_at dksX2_board_3 0 rfl rfl)
theorem dX2_board_71 : decode cX2_board 71 = .ok (.getfield 162, 3) := dk_180 0 162 (dk_at dksX2_board_3 3 rfl rfl)
theorem dX2_board_74 : decode cX2_board 74 = .ok (.iload_n 2, 1) := dk_28 (dk_at dksX2_board_3 6 rfl rfl)
theorem dX2_board_75 : decode cX2_board 75 = .ok (.invokeinterface 142 2, 5) := by decide +kernel
theorem dX2_board_80 : decode cX2_board 80 = .ok (.checkcast 165, 3) := dk_192 0 165 (dk_at dksX2_board_3 12 rfl rfl)
theorem dX2_board_83 : decode cX2_board 83 = .ok (.invokevirtual 178, 3) := dk_182 0 178 (dk_at dksX2_board_3 15 rfl rfl)
theorem dX2_board_86 : decode cX2_board 86 = .ok (.ifCond .ne 13, 3) := dk_154 0 13 (dk_at dksX2_board_3 18 rfl rfl)
theorem dX2_board_89 : decode cX2_board 89 = .ok (.aload_n 0, 1) := dk_42 (dk_at dksX2_board_3 21 rfl rfl)
theorem dX2_board_90 : decode cX2_board 90 = .ok (.iconst 2, 1) := dk_5 (dk_at dksX2_board_3 22 rfl rfl)
theorem dX2_board_91 : decode cX2_board 91 = .ok (.aload_n 0, 1) := dk_42 (dk_at dksX2_board_3 23 rfl rfl)
theorem dX2_board_92 : decode cX2_board 92 = .ok (.getfield 61, 3) := dk_180 0 61 (dk_at dksX2_board_4 0 rfl rfl)
theorem dX2_board_95 : decode cX2_board 95 = .ok (.invokevirtual 47, 3) := dk_182 0 47 (dk_at dksX2_board_4 3 rfl rfl)
theorem dX2_board_98 : decode cX2_board 98 = .ok (.athrow, 1) := dk_191 (dk_at dksX2_board_4 6 rfl rfl)
theorem dX2_board_99 : decode cX2_board 99 = .ok (.aload_n 0, 1) := dk_42 (dk_at dksX2_board_4 7 rfl rfl)
theorem dX2_board_100 : decode cX2_board 100 = .ok (.getfield 103, 3) := dk_180 0 103 (dk_at dksX2_board_4 8 rfl rfl)
theorem dX2_board_103 : decode cX2_board 103 = .ok (.getfield 182, 3) := dk_180 0 182 (dk_at dksX2_board_4 11 rfl rfl)
theorem dX2_board_106 : decode cX2_board 106 = .ok (.new 185, 3) := dk_187 0 185 (dk_at dksX2_board_4 14 rfl rfl)
theorem dX2_board_109 : decode cX2_board 109 = .ok (.dup, 1) := dk_89 (dk_at dksX2_board_4 17 rfl rfl)
theorem dX2_board_110 : decode cX2_board 110 = .ok (.iload_n 2, 1) := dk_28 (dk_at dksX2_board_4 18 rfl rfl)
theorem dX2_board_111 : decode cX2_board 111 = .ok (.iload_n 3, 1) := dk_29 (dk_at dksX2_board_4 19 rfl rfl)
theorem dX2_board_112 : decode cX2_board 112 = .ok (.invokespecial 187, 3) := dk_183 0 187 (dk_at dksX2_board_4 20 rfl rfl)
theorem dX2_board_115 : decode cX2_board 115 = .ok (.invokeinterface 159 2, 5) := by decide +kernel
theorem dX2_board_120 : decode cX2_board 120 = .ok (.pop, 1) := dk_87 (dk_at dksX2_board_5 5 rfl rfl)
theorem dX2_board_121 : decode cX2_board 121 = .ok (.return_, 1) := dk_177 (dk_at dksX2_board_5 6 rfl rfl)
abbrev cX2_more : ByteArray := prog_16_method_19_code
def yX2_more : MethodName := ⟨RX2, "more", "(Ljava/lang/String;I)V"⟩
def dkwX2_more_12 : List UInt8 := [180, 0, 103, 42, 3, 16, 100, 182, 0, 96, 181, 0, 233, 167, 0, 10, 42, 4, 28, 182, 0, 47, 191, 177]
abbrev dktX2_more_12 : List UInt8 := dkwX2_more_12 ++ []
def dkwX2_more_11 : List UInt8 := [181, 0, 229, 167, 0, 44, 42, 180, 0, 103, 42, 3, 16, 99, 182, 0, 96, 181, 0, 231, 167, 0, 27, 42]
abbrev dktX2_more_11 : List UInt8 := dkwX2_more_11 ++ dktX2_more_12
def dkwX2_more_10 : List UInt8 := [180, 0, 103, 42, 182, 0, 225, 181, 0, 222, 167, 0, 61, 42, 180, 0, 103, 42, 3, 16, 99, 182, 0, 96]
abbrev dktX2_more_10 : List UInt8 := dkwX2_more_10 ++ dktX2_more_11
def dkwX2_more_9 : List UInt8 := [180, 0, 222, 198, 0, 7, 4, 167, 0, 4, 3, 28, 182, 0, 113, 42, 17, 0, 248, 181, 0, 215, 42]
abbrev dktX2_more_9 : List UInt8 := dkwX2_more_9 ++ dktX2_more_10
def dkwX2_more_8 : List UInt8 := [181, 0, 215, 42, 180, 0, 103, 42, 182, 0, 218, 181, 0, 212, 167, 0, 102, 42, 42, 180, 0, 103]
abbrev dktX2_more_8 : List UInt8 := dkwX2_more_8 ++ dktX2_more_9
def dkwX2_more_7 : List UInt8 := [42, 42, 180, 0, 103, 180, 0, 212, 198, 0, 7, 4, 167, 0, 4, 3, 28, 182, 0, 113, 42, 16, 7]
abbrev dktX2_more_7 : List UInt8 := dkwX2_more_7 ++ dktX2_more_8
def dkwX2_more_6 : List UInt8 := [170, 0, 0, 0, 0, 166, 0, 0, 0, 0, 0, 0, 0, 4, 0, 0, 0, 34, 0, 0, 0, 74, 0, 0, 0, 115, 0, 0, 0, 132, 0, 0, 0, 149]
abbrev dktX2_more_6 : List UInt8 := dkwX2_more_6 ++ dktX2_more_7
def dkwX2_more_5 : List UInt8 := [21, 4]
abbrev dktX2_more_5 : List UInt8 := dkwX2_more_5 ++ dktX2_more_6
def dkwX2_more_4 : List UInt8 := [182, 0, 74, 153, 0, 21, 6, 54, 4, 167, 0, 15, 45, 18, 210, 182, 0, 74, 153, 0, 6, 7, 54, 4]
abbrev dktX2_more_4 : List UInt8 := dkwX2_more_4 ++ dktX2_more_5
def dkwX2_more_3 : List UInt8 := [4, 54, 4, 167, 0, 45, 45, 18, 206, 182, 0, 74, 153, 0, 36, 5, 54, 4, 167, 0, 30, 45, 18, 208]
abbrev dktX2_more_3 : List UInt8 := dkwX2_more_3 ++ dktX2_more_4
def dkwX2_more_2 : List UInt8 := [45, 18, 202, 182, 0, 74, 153, 0, 66, 3, 54, 4, 167, 0, 60, 45, 18, 204, 182, 0, 74, 153, 0, 51]
abbrev dktX2_more_2 : List UInt8 := dkwX2_more_2 ++ dktX2_more_3
def dkwX2_more_1 : List UInt8 := [171, 0, 0, 0, 0, 0, 123, 0, 0, 0, 5, 215, 156, 107, 90, 0, 0, 0, 81, 0, 48, 191, 220, 0, 0, 0, 111, 0, 53, 75, 148, 0, 0, 0, 66, 5, 151, 145, 84, 0, 0, 0, 96, 5, 181, 103, 28, 0, 0, 0, 51]
abbrev dktX2_more_1 : List UInt8 := dkwX2_more_1 ++ dktX2_more_2
def dkwX2_more_0 : List UInt8 := [43, 78, 2, 54, 4, 45, 182, 0, 188]
abbrev dktX2_more_0 : List UInt8 := dkwX2_more_0 ++ dktX2_more_1
theorem dksX2_more_0 : cX2_more.data.toList.drop 0 = dktX2_more_0 := by decide +kernel
theorem dksX2_more_1 : cX2_more.data.toList.drop 9 = dktX2_more_1 := dk_seg dksX2_more_0 9 rfl rfl
theorem dksX2_more_2 : cX2_more.data.toList.drop 60 = dktX2_more_2 := dk_seg dksX2_more_1 51 rfl rfl
theorem dksX2_more_3 : cX2_more.data.toList.drop 84 = dktX2_more_3 := dk_seg dksX2_more_2 24 rfl rfl
theorem dksX2_more_4 : cX2_more.data.toList.drop 108 = dktX2_more_4 := dk_seg dksX2_more_3 24 rfl rfl
theorem dksX2_more_5 : cX2_more.data.toList.drop 132 = dktX2_more_5 := dk_seg dksX2_more_4 24 rfl rfl
theorem dksX2_more_6 : cX2_more.data.toList.drop 134 = dktX2_more_6 := dk_seg dksX2_more_5 2 rfl rfl
theorem dksX2_more_7 : cX2_more.data.toList.drop 168 = dktX2_more_7 := dk_seg dksX2_more_6 34 rfl rfl
theorem dksX2_more_8 : cX2_more.data.toList.drop 191 = dktX2_more_8 := dk_seg dksX2_more_7 23 rfl rfl
theorem dksX2_more_9 : cX2_more.data.toList.drop 213 = dktX2_more_9 := dk_seg dksX2_more_8 22 rfl rfl
theorem dksX2_more_10 : cX2_more.data.toList.drop 236 = dktX2_more_10 := dk_seg dksX2_more_9 23 rfl rfl
theorem dksX2_more_11 : cX2_more.data.toList.drop 260 = dktX2_more_11 := dk_seg dksX2_more_10 24 rfl rfl
theorem dksX2_more_12 : cX2_more.data.toList.drop 284 = dktX2_more_12 := dk_seg dksX2_more_11 24 rfl rfl
theorem dX2_more_0 : decode cX2_more 0 = .ok (.aload_n 1, 1) := dk_43 (dk_at dksX2_more_0 0 rfl rfl)
theorem dX2_more_1 : decode cX2_more 1 = .ok (.astore_n 3, 1) := dk_78 (dk_at dksX2_more_0 1 rfl rfl)
theorem dX2_more_2 : decode cX2_more 2 = .ok (.iconst (-1), 1) := dk_2 (dk_at dksX2_more_0 2 rfl rfl)
theorem dX2_more_3 : decode cX2_more 3 = .ok (.istore 4, 2) := dk_54 4 (dk_at dksX2_more_0 3 rfl rfl)
theorem dX2_more_5 : decode cX2_more 5 = .ok (.aload_n 3, 1) := dk_45 (dk_at dksX2_more_0 5 rfl rfl)
theorem dX2_more_6 : decode cX2_more 6 = .ok (.invokevirtual 188, 3) := dk_182 0 188 (dk_at dksX2_more_0 6 rfl rfl)
theorem dX2_more_9 : decode cX2_more 9 = .ok (.lookupswitch 123 #[(-677614758, 81), (3194844, 111), (3492756, 66), (93819220, 96), (95774492, 51)], 51) := by decide +kernel
theorem dX2_more_60 : decode cX2_more 60 = .ok (.aload_n 3, 1) := dk_45 (dk_at dksX2_more_2 0 rfl rfl)
theorem dX2_more_61 : decode cX2_more 61 = .ok (.ldc 202, 2) := dk_18 202 (dk_at dksX2_more_2 1 rfl rfl)
theorem dX2_more_63 : decode cX2_more 63 = .ok (.invokevirtual 74, 3) := dk_182 0 74 (dk_at dksX2_more_2 3 rfl rfl)
theorem dX2_more_66 : decode cX2_more 66 = .ok (.ifCond .eq 66, 3) := dk_153 0 66 (dk_at dksX2_more_2 6 rfl rfl)
theorem dX2_more_69 : decode cX2_more 69 = .ok (.iconst 0, 1) := dk_3 (dk_at dksX2_more_2 9 rfl rfl)
theorem dX2_more_70 : decode cX2_more 70 = .ok (.istore 4, 2) := dk_54 4 (dk_at dksX2_more_2 10 rfl rfl)
theorem dX2_more_72 : decode cX2_more 72 = .ok (.goto 60, 3) := dk_167 0 60 (dk_at dksX2_more_2 12 rfl rfl)
theorem dX2_more_75 : decode cX2_more 75 = .ok (.aload_n 3, 1) := dk_45 (dk_at dksX2_more_2 15 rfl rfl)
theorem dX2_more_76 : decode cX2_more 76 = .ok (.ldc 204, 2) := dk_18 204 (dk_at dksX2_more_2 16 rfl rfl)
theorem dX2_more_78 : decode cX2_more 78 = .ok (.invokevirtual 74, 3) := dk_182 0 74 (dk_at dksX2_more_2 18 rfl rfl)
theorem dX2_more_81 : decode cX2_more 81 = .ok (.ifCond .eq 51, 3) := dk_153 0 51 (dk_at dksX2_more_2 21 rfl rfl)
theorem dX2_more_84 : decode cX2_more 84 = .ok (.iconst 1, 1) := dk_4 (dk_at dksX2_more_3 0 rfl rfl)
theorem dX2_more_85 : decode cX2_more 85 = .ok (.istore 4, 2) := dk_54 4 (dk_at dksX2_more_3 1 rfl rfl)
theorem dX2_more_87 : decode cX2_more 87 = .ok (.goto 45, 3) := dk_167 0 45 (dk_at dksX2_more_3 3 rfl rfl)
theorem dX2_more_90 : decode cX2_more 90 = .ok (.aload_n 3, 1) := dk_45 (dk_at dksX2_more_3 6 rfl rfl)
theorem dX2_more_91 : decode cX2_more 91 = .ok (.ldc 206, 2) := dk_18 206 (dk_at dksX2_more_3 7 rfl rfl)
theorem dX2_more_93 : decode cX2_more 93 = .ok (.invokevirtual 74, 3) := dk_182 0 74 (dk_at dksX2_more_3 9 rfl rfl)
theorem dX2_more_96 : decode cX2_more 96 = .ok (.ifCond .eq 36, 3) := dk_153 0 36 (dk_at dksX2_more_3 12 rfl rfl)
theorem dX2_more_99 : decode cX2_more 99 = .ok (.iconst 2, 1) := dk_5 (dk_at dksX2_more_3 15 rfl rfl)
theorem dX2_more_100 : decode cX2_more 100 = .ok (.istore 4, 2) := dk_54 4 (dk_at dksX2_more_3 16 rfl rfl)
theorem dX2_more_102 : decode cX2_more 102 = .ok (.goto 30, 3) := dk_167 0 30 (dk_at dksX2_more_3 18 rfl rfl)
theorem dX2_more_105 : decode cX2_more 105 = .ok (.aload_n 3, 1) := dk_45 (dk_at dksX2_more_3 21 rfl rfl)
theorem dX2_more_106 : decode cX2_more 106 = .ok (.ldc 208, 2) := dk_18 208 (dk_at dksX2_more_3 22 rfl rfl)
theorem dX2_more_108 : decode cX2_more 108 = .ok (.invokevirtual 74, 3) := dk_182 0 74 (dk_at dksX2_more_4 0 rfl rfl)
theorem dX2_more_111 : decode cX2_more 111 = .ok (.ifCond .eq 21, 3) := dk_153 0 21 (dk_at dksX2_more_4 3 rfl rfl)
theorem dX2_more_114 : decode cX2_more 114 = .ok (.iconst 3, 1) := dk_6 (dk_at dksX2_more_4 6 rfl rfl)
theorem dX2_more_115 : decode cX2_more 115 = .ok (.istore 4, 2) := dk_54 4 (dk_at dksX2_more_4 7 rfl rfl)
theorem dX2_more_117 : decode cX2_more 117 = .ok (.goto 15, 3) := dk_167 0 15 (dk_at dksX2_more_4 9 rfl rfl)
theorem dX2_more_120 : decode cX2_more 120 = .ok (.aload_n 3, 1) := dk_45 (dk_at dksX2_more_4 12 rfl rfl)
theorem dX2_more_121 : decode cX2_more 121 = .ok (.ldc 210, 2) := dk_18 210 (dk_at dksX2_more_4 13 rfl rfl)
theorem dX2_more_123 : decode cX2_more 123 = .ok (.invokevirtual 74, 3) := dk_182 0 74 (dk_at dksX2_more_4 15 rfl rfl)
theorem dX2_more_126 : decode cX2_more 126 = .ok (.ifCond .eq 6, 3) := dk_153 0 6 (dk_at dksX2_more_4 18 rfl rfl)
theorem dX2_more_129 : decode cX2_more 129 = .ok (.iconst 4, 1) := dk_7 (dk_at dksX2_more_4 21 rfl rfl)
theorem dX2_more_130 : decode cX2_more 130 = .ok (.istore 4, 2) := dk_54 4 (dk_at dksX2_more_4 22 rfl rfl)
theorem dX2_more_132 : decode cX2_more 132 = .ok (.iload 4, 2) := dk_21 4 (dk_at dksX2_more_5 0 rfl rfl)
theorem dX2_more_134 : decode cX2_more 134 = .ok (.tableswitch 166 0 4 #[34, 74, 115, 132, 149], 34) := by decide +kernel
theorem dX2_more_168 : decode cX2_more 168 = .ok (.aload_n 0, 1) := dk_42 (dk_at dksX2_more_7 0 rfl rfl)
theorem dX2_more_169 : decode cX2_more 169 = .ok (.aload_n 0, 1) := dk_42 (dk_at dksX2_more_7 1 rfl rfl)
theorem dX2_more_170 : decode cX2_more 170 = .ok (.getfield 103, 3) := dk_180 0 103 (dk_at dksX2_more_7 2 rfl rfl)
theorem dX2_more_173 : decode cX2_more 173 = .ok (.getfield 212, 3) := dk_180 0 212 (dk_at dksX2_more_7 5 rfl rfl)
theorem dX2_more_176 : decode cX2_more 176 = .ok (.ifnull 7, 3) := dk_198 0 7 (dk_at dksX2_more_7 8 rfl rfl)
theorem dX2_more_179 : decode cX2_more 179 = .ok (.iconst 1, 1) := dk_4 (dk_at dksX2_more_7 11 rfl rfl)
theorem dX2_more_180 : decode cX2_more 180 = .ok (.goto 4, 3) := dk_167 0 4 (dk_at dksX2_more_7 12 rfl rfl)
theorem dX2_more_183 : decode cX2_more 183 = .ok (.iconst 0, 1) := dk_3 (dk_at dksX2_more_7 15 rfl rfl)
theorem dX2_more_184 : decode cX2_more 184 = .ok (.iload_n 2, 1) := dk_28 (dk_at dksX2_more_7 16 rfl rfl)
theorem dX2_more_185 : decode cX2_more 185 = .ok (.invokevirtual 113, 3) := dk_182 0 113 (dk_at dksX2_more_7 17 rfl rfl)
theorem dX2_more_188 : decode cX2_more 188 = .ok (.aload_n 0, 1) := dk_42 (dk_at dksX2_more_7 20 rfl rfl)
theorem dX2_more_189 : decode cX2_more 189 = .ok (.bipush 7, 2) := dk_16 7 (dk_at dksX2_more_7 21 rfl rfl)
theorem dX2_more_191 : decode cX2_more 191 = .ok (.putfield 215, 3) := dk_181 0 215 (dk_at dksX2_more_8 0 rfl rfl)
theorem dX2_more_194 : decode cX2_more 194 = .ok (.aload_n 0, 1) := dk_42 (dk_at dksX2_more_8 3 rfl rfl)
theorem dX2_more_195 : decode cX2_more 195 = .ok (.getfield 103, 3) := dk_180 0 103 (dk_at dksX2_more_8 4 rfl rfl)
theorem dX2_more_198 : decode cX2_more 198 = .ok (.aload_n 0, 1) := dk_42 (dk_at dksX2_more_8 7 rfl rfl)
theorem dX2_more_199 : decode cX2_more 199 = .ok (.invokevirtual 218, 3) := dk_182 0 218 (dk_at dksX2_more_8 8 rfl rfl)
theorem dX2_more_202 : decode cX2_more 202 = .ok (.putfield 212, 3) := dk_181 0 212 (dk_at dksX2_more_8 11 rfl rfl)
theorem dX2_more_205 : decode cX2_more 205 = .ok (.goto 102, 3) := dk_167 0 102 (dk_at dksX2_more_8 14 rfl rfl)
theorem dX2_more_208 : decode cX2_more 208 = .ok (.aload_n 0, 1) := dk_42 (dk_at dksX2_more_8 17 rfl rfl)
theorem dX2_more_209 : decode cX2_more 209 = .ok (.aload_n 0, 1) := dk_42 (dk_at dksX2_more_8 18 rfl rfl)
theorem dX2_more_210 : decode cX2_more 210 = .ok (.getfield 103, 3) := dk_180 0 103 (dk_at dksX2_more_8 19 rfl rfl)
theorem dX2_more_213 : decode cX2_more 213 = .ok (.getfield 222, 3) := dk_180 0 222 (dk_at dksX2_more_9 0 rfl rfl)
theorem dX2_more_216 : decode cX2_more 216 = .ok (.ifnull 7, 3) := dk_198 0 7 (dk_at dksX2_more_9 3 rfl rfl)
theorem dX2_more_219 : decode cX2_more 219 = .ok (.iconst 1, 1) := dk_4 (dk_at dksX2_more_9 6 rfl rfl)
theorem dX2_more_220 : decode cX2_more 220 = .ok (.goto 4, 3) := dk_167 0 4 (dk_at dksX2_more_9 7 rfl rfl)
theorem dX2_more_223 : decode cX2_more 223 = .ok (.iconst 0, 1) := dk_3 (dk_at dksX2_more_9 10 rfl rfl)
theorem dX2_more_224 : decode cX2_more 224 = .ok (.iload_n 2, 1) := dk_28 (dk_at dksX2_more_9 11 rfl rfl)
theorem dX2_more_225 : decode cX2_more 225 = .ok (.invokevirtual 113, 3) := dk_182 0 113 (dk_at dksX2_more_9 12 rfl rfl)
theorem dX2_more_228 : decode cX2_more 228 = .ok (.aload_n 0, 1) := dk_42 (dk_at dksX2_more_9 15 rfl rfl)
theorem dX2_more_229 : decode cX2_more 229 = .ok (.sipush 248, 3) := dk_17 0 248 (dk_at dksX2_more_9 16 rfl rfl)
theorem dX2_more_232 : decode cX2_more 232 = .ok (.putfield 215, 3) := dk_181 0 215 (dk_at dksX2_more_9 19 rfl rfl)
theorem dX2_more_235 : decode cX2_more 235 = .ok (.aload_n 0, 1) := dk_42 (dk_at dksX2_more_9 22 rfl rfl)
theorem dX2_more_236 : decode cX2_more 236 = .ok (.getfield 103, 3) := dk_180 0 103 (dk_at dksX2_more_10 0 rfl rfl)
theorem dX2_more_239 : decode cX2_more 239 = .ok (.aload_n 0, 1) := dk_42 (dk_at dksX2_more_10 3 rfl rfl)
theorem dX2_more_240 : decode cX2_more 240 = .ok (.invokevirtual 225, 3) := dk_182 0 225 (dk_at dksX2_more_10 4 rfl rfl)
theorem dX2_more_243 : decode cX2_more 243 = .ok (.putfield 222, 3) := dk_181 0 222 (dk_at dksX2_more_10 7 rfl rfl)
theorem dX2_more_246 : decode cX2_more 246 = .ok (.goto 61, 3) := dk_167 0 61 (dk_at dksX2_more_10 10 rfl rfl)
theorem dX2_more_249 : decode cX2_more 249 = .ok (.aload_n 0, 1) := dk_42 (dk_at dksX2_more_10 13 rfl rfl)
theorem dX2_more_250 : decode cX2_more 250 = .ok (.getfield 103, 3) := dk_180 0 103 (dk_at dksX2_more_10 14 rfl rfl)
theorem dX2_more_253 : decode cX2_more 253 = .ok (.aload_n 0, 1) := dk_42 (dk_at dksX2_more_10 17 rfl rfl)
theorem dX2_more_254 : decode cX2_more 254 = .ok (.iconst 0, 1) := dk_3 (dk_at dksX2_more_10 18 rfl rfl)
theorem dX2_more_255 : decode cX2_more 255 = .ok (.bipush 99, 2) := dk_16 99 (dk_at dksX2_more_10 19 rfl rfl)
theorem dX2_more_257 : decode cX2_more 257 = .ok (.invokevirtual 96, 3) := dk_182 0 96 (dk_at dksX2_more_10 21 rfl rfl)
theorem dX2_more_260 : decode cX2_more 260 = .ok (.putfield 229, 3) := dk_181 0 229 (dk_at dksX2_more_11 0 rfl rfl)
theorem dX2_more_263 : decode cX2_more 263 = .ok (.goto 44, 3) := dk_167 0 44 (dk_at dksX2_more_11 3 rfl rfl)
theorem dX2_more_266 : decode cX2_more 266 = .ok (.aload_n 0, 1) := dk_42 (dk_at dksX2_more_11 6 rfl rfl)
theorem dX2_more_267 : decode cX2_more 267 = .ok (.getfield 103, 3) := dk_180 0 103 (dk_at dksX2_more_11 7 rfl rfl)
theorem dX2_more_270 : decode cX2_more 270 = .ok (.aload_n 0, 1) := dk_42 (dk_at dksX2_more_11 10 rfl rfl)
theorem dX2_more_271 : decode cX2_more 271 = .ok (.iconst 0, 1) := dk_3 (dk_at dksX2_more_11 11 rfl rfl)
theorem dX2_more_272 : decode cX2_more 272 = .ok (.bipush 99, 2) := dk_16 99 (dk_at dksX2_more_11 12 rfl rfl)
theorem dX2_more_274 : decode cX2_more 274 = .ok (.invokevirtual 96, 3) := dk_182 0 96 (dk_at dksX2_more_11 14 rfl rfl)
theorem dX2_more_277 : decode cX2_more 277 = .ok (.putfield 231, 3) := dk_181 0 231 (dk_at dksX2_more_11 17 rfl rfl)
theorem dX2_more_280 : decode cX2_more 280 = .ok (.goto 27, 3) := dk_167 0 27 (dk_at dksX2_more_11 20 rfl rfl)
theorem dX2_more_283 : decode cX2_more 283 = .ok (.aload_n 0, 1) := dk_42 (dk_at dksX2_more_11 23 rfl rfl)
theorem dX2_more_284 : decode cX2_more 284 = .ok (.getfield 103, 3) := dk_180 0 103 (dk_at dksX2_more_12 0 rfl rfl)
theorem dX2_more_287 : decode cX2_more 287 = .ok (.aload_n 0, 1) := dk_42 (dk_at dksX2_more_12 3 rfl rfl)
theorem dX2_more_288 : decode cX2_more 288 = .ok (.iconst 0, 1) := dk_3 (dk_at dksX2_more_12 4 rfl rfl)
theorem dX2_more_289 : decode cX2_more 289 = .ok (.bipush 100, 2) := dk_16 100 (dk_at dksX2_more_12 5 rfl rfl)
theorem dX2_more_291 : decode cX2_more 291 = .ok (.invokevirtual 96, 3) := dk_182 0 96 (dk_at dksX2_more_12 7 rfl rfl)
theorem dX2_more_294 : decode cX2_more 294 = .ok (.putfield 233, 3) := dk_181 0 233 (dk_at dksX2_more_12 10 rfl rfl)
theorem dX2_more_297 : decode cX2_more 297 = .ok (.goto 10, 3) := dk_167 0 10 (dk_at dksX2_more_12 13 rfl rfl)
theorem dX2_more_300 : decode cX2_more 300 = .ok (.aload_n 0, 1) := dk_42 (dk_at dksX2_more_12 16 rfl rfl)
theorem dX2_more_301 : decode cX2_more 301 = .ok (.iconst 1, 1) := dk_4 (dk_at dksX2_more_12 17 rfl rfl)
theorem dX2_more_302 : decode cX2_more 302 = .ok (.iload_n 2, 1) := dk_28 (dk_at dksX2_more_12 18 rfl rfl)
theorem dX2_more_303 : decode cX2_more 303 = .ok (.invokevirtual 47, 3) := dk_182 0 47 (dk_at dksX2_more_12 19 rfl rfl)
theorem dX2_more_306 : decode cX2_more 306 = .ok (.athrow, 1) := dk_191 (dk_at dksX2_more_12 22 rfl rfl)
theorem dX2_more_307 : decode cX2_more 307 = .ok (.return_, 1) := dk_177 (dk_at dksX2_more_12 23 rfl rfl)
abbrev cX2_sum : ByteArray := prog_16_method_21_code
def yX2_sum : MethodName := ⟨RX2, "sum", "()LTurnedBoards$Value;"⟩
def dkwX2_sum_3 : List UInt8 := [167, 255, 206, 43, 176]
abbrev dktX2_sum_3 : List UInt8 := dkwX2_sum_3 ++ []
def dkwX2_sum_2 : List UInt8 := [16, 45, 182, 0, 244, 153, 0, 16, 43, 16, 45, 42, 182, 0, 238, 182, 0, 241, 167, 255, 211, 3, 61]
abbrev dktX2_sum_2 : List UInt8 := dkwX2_sum_2 ++ dktX2_sum_3
def dkwX2_sum_1 : List UInt8 := [42, 16, 43, 182, 0, 244, 153, 0, 16, 43, 16, 43, 42, 182, 0, 238, 182, 0, 241, 167, 255, 233, 42]
abbrev dktX2_sum_1 : List UInt8 := dkwX2_sum_1 ++ dktX2_sum_2
def dkwX2_sum_0 : List UInt8 := [187, 0, 235, 89, 183, 0, 237, 76, 43, 16, 43, 42, 182, 0, 238, 182, 0, 241, 4, 61, 28, 153, 0, 52]
abbrev dktX2_sum_0 : List UInt8 := dkwX2_sum_0 ++ dktX2_sum_1
theorem dksX2_sum_0 : cX2_sum.data.toList.drop 0 = dktX2_sum_0 := by decide +kernel
theorem dksX2_sum_1 : cX2_sum.data.toList.drop 24 = dktX2_sum_1 := dk_seg dksX2_sum_0 24 rfl rfl
theorem dksX2_sum_2 : cX2_sum.data.toList.drop 47 = dktX2_sum_2 := dk_seg dksX2_sum_1 23 rfl rfl
theorem dksX2_sum_3 : cX2_sum.data.toList.drop 70 = dktX2_sum_3 := dk_seg dksX2_sum_2 23 rfl rfl
theorem dX2_sum_0 : decode cX2_sum 0 = .ok (.new 235, 3) := dk_187 0 235 (dk_at dksX2_sum_0 0 rfl rfl)
theorem dX2_sum_3 : decode cX2_sum 3 = .ok (.dup, 1) := dk_89 (dk_at dksX2_sum_0 3 rfl rfl)
theorem dX2_sum_4 : decode cX2_sum 4 = .ok (.invokespecial 237, 3) := dk_183 0 237 (dk_at dksX2_sum_0 4 rfl rfl)
theorem dX2_sum_7 : decode cX2_sum 7 = .ok (.astore_n 1, 1) := dk_76 (dk_at dksX2_sum_0 7 rfl rfl)
theorem dX2_sum_8 : decode cX2_sum 8 = .ok (.aload_n 1, 1) := dk_43 (dk_at dksX2_sum_0 8 rfl rfl)
theorem dX2_sum_9 : decode cX2_sum 9 = .ok (.bipush 43, 2) := dk_16 43 (dk_at dksX2_sum_0 9 rfl rfl)
theorem dX2_sum_11 : decode cX2_sum 11 = .ok (.aload_n 0, 1) := dk_42 (dk_at dksX2_sum_0 11 rfl rfl)
theorem dX2_sum_12 : decode cX2_sum 12 = .ok (.invokevirtual 238, 3) := dk_182 0 238 (dk_at dksX2_sum_0 12 rfl rfl)
theorem dX2_sum_15 : decode cX2_sum 15 = .ok (.invokevirtual 241, 3) := dk_182 0 241 (dk_at dksX2_sum_0 15 rfl rfl)
theorem dX2_sum_18 : decode cX2_sum 18 = .ok (.iconst 1, 1) := dk_4 (dk_at dksX2_sum_0 18 rfl rfl)
theorem dX2_sum_19 : decode cX2_sum 19 = .ok (.istore_n 2, 1) := dk_61 (dk_at dksX2_sum_0 19 rfl rfl)
theorem dX2_sum_20 : decode cX2_sum 20 = .ok (.iload_n 2, 1) := dk_28 (dk_at dksX2_sum_0 20 rfl rfl)
theorem dX2_sum_21 : decode cX2_sum 21 = .ok (.ifCond .eq 52, 3) := dk_153 0 52 (dk_at dksX2_sum_0 21 rfl rfl)
theorem dX2_sum_24 : decode cX2_sum 24 = .ok (.aload_n 0, 1) := dk_42 (dk_at dksX2_sum_1 0 rfl rfl)
theorem dX2_sum_25 : decode cX2_sum 25 = .ok (.bipush 43, 2) := dk_16 43 (dk_at dksX2_sum_1 1 rfl rfl)
theorem dX2_sum_27 : decode cX2_sum 27 = .ok (.invokevirtual 244, 3) := dk_182 0 244 (dk_at dksX2_sum_1 3 rfl rfl)
theorem dX2_sum_30 : decode cX2_sum 30 = .ok (.ifCond .eq 16, 3) := dk_153 0 16 (dk_at dksX2_sum_1 6 rfl rfl)
theorem dX2_sum_33 : decode cX2_sum 33 = .ok (.aload_n 1, 1) := dk_43 (dk_at dksX2_sum_1 9 rfl rfl)
theorem dX2_sum_34 : decode cX2_sum 34 = .ok (.bipush 43, 2) := dk_16 43 (dk_at dksX2_sum_1 10 rfl rfl)
theorem dX2_sum_36 : decode cX2_sum 36 = .ok (.aload_n 0, 1) := dk_42 (dk_at dksX2_sum_1 12 rfl rfl)
theorem dX2_sum_37 : decode cX2_sum 37 = .ok (.invokevirtual 238, 3) := dk_182 0 238 (dk_at dksX2_sum_1 13 rfl rfl)
theorem dX2_sum_40 : decode cX2_sum 40 = .ok (.invokevirtual 241, 3) := dk_182 0 241 (dk_at dksX2_sum_1 16 rfl rfl)
theorem dX2_sum_43 : decode cX2_sum 43 = .ok (.goto (-23), 3) := dk_167 255 233 (dk_at dksX2_sum_1 19 rfl rfl)
theorem dX2_sum_46 : decode cX2_sum 46 = .ok (.aload_n 0, 1) := dk_42 (dk_at dksX2_sum_1 22 rfl rfl)
theorem dX2_sum_47 : decode cX2_sum 47 = .ok (.bipush 45, 2) := dk_16 45 (dk_at dksX2_sum_2 0 rfl rfl)
theorem dX2_sum_49 : decode cX2_sum 49 = .ok (.invokevirtual 244, 3) := dk_182 0 244 (dk_at dksX2_sum_2 2 rfl rfl)
theorem dX2_sum_52 : decode cX2_sum 52 = .ok (.ifCond .eq 16, 3) := dk_153 0 16 (dk_at dksX2_sum_2 5 rfl rfl)
theorem dX2_sum_55 : decode cX2_sum 55 = .ok (.aload_n 1, 1) := dk_43 (dk_at dksX2_sum_2 8 rfl rfl)
theorem dX2_sum_56 : decode cX2_sum 56 = .ok (.bipush 45, 2) := dk_16 45 (dk_at dksX2_sum_2 9 rfl rfl)
theorem dX2_sum_58 : decode cX2_sum 58 = .ok (.aload_n 0, 1) := dk_42 (dk_at dksX2_sum_2 11 rfl rfl)
theorem dX2_sum_59 : decode cX2_sum 59 = .ok (.invokevirtual 238, 3) := dk_182 0 238 (dk_at dksX2_sum_2 12 rfl rfl)
theorem dX2_sum_62 : decode cX2_sum 62 = .ok (.invokevirtual 241, 3) := dk_182 0 241 (dk_at dksX2_sum_2 15 rfl rfl)
theorem dX2_sum_65 : decode cX2_sum 65 = .ok (.goto (-45), 3) := dk_167 255 211 (dk_at dksX2_sum_2 18 rfl rfl)
theorem dX2_sum_68 : decode cX2_sum 68 = .ok (.iconst 0, 1) := dk_3 (dk_at dksX2_sum_2 21 rfl rfl)
theorem dX2_sum_69 : decode cX2_sum 69 = .ok (.istore_n 2, 1) := dk_61 (dk_at dksX2_sum_2 22 rfl rfl)
theorem dX2_sum_70 : decode cX2_sum 70 = .ok (.goto (-50), 3) := dk_167 255 206 (dk_at dksX2_sum_3 0 rfl rfl)
theorem dX2_sum_73 : decode cX2_sum 73 = .ok (.aload_n 1, 1) := dk_43 (dk_at dksX2_sum_3 3 rfl rfl)
theorem dX2_sum_74 : decode cX2_sum 74 = .ok (.areturn, 1) := dk_176 (dk_at dksX2_sum_3 4 rfl rfl)
abbrev cX2_product : ByteArray := prog_16_method_22_code
def yX2_product : MethodName := ⟨RX2, "product", "()LTurnedBoards$Value;"⟩
def dkwX2_product_3 : List UInt8 := [167, 255, 206, 43, 176]
abbrev dktX2_product_3 : List UInt8 := dkwX2_product_3 ++ []
def dkwX2_product_2 : List UInt8 := [16, 47, 182, 0, 244, 153, 0, 16, 43, 16, 47, 42, 182, 0, 247, 182, 0, 241, 167, 255, 211, 3, 61]
abbrev dktX2_product_2 : List UInt8 := dkwX2_product_2 ++ dktX2_product_3
def dkwX2_product_1 : List UInt8 := [42, 16, 42, 182, 0, 244, 153, 0, 16, 43, 16, 42, 42, 182, 0, 247, 182, 0, 241, 167, 255, 233, 42]
abbrev dktX2_product_1 : List UInt8 := dkwX2_product_1 ++ dktX2_product_2
def dkwX2_product_0 : List UInt8 := [187, 0, 235, 89, 183, 0, 237, 76, 43, 16, 42, 42, 182, 0, 247, 182, 0, 241, 4, 61, 28, 153, 0, 52]
abbrev dktX2_product_0 : List UInt8 := dkwX2_product_0 ++ dktX2_product_1
theorem dksX2_product_0 : cX2_product.data.toList.drop 0 = dktX2_product_0 := by decide +kernel
theorem dksX2_product_1 : cX2_product.data.toList.drop 24 = dktX2_product_1 := dk_seg dksX2_product_0 24 rfl rfl
theorem dksX2_product_2 : cX2_product.data.toList.drop 47 = dktX2_product_2 := dk_seg dksX2_product_1 23 rfl rfl
theorem dksX2_product_3 : cX2_product.data.toList.drop 70 = dktX2_product_3 := dk_seg dksX2_product_2 23 rfl rfl
theorem dX2_product_0 : decode cX2_product 0 = .ok (.new 235, 3) := dk_187 0 235 (dk_at dksX2_product_0 0 rfl rfl)
theorem dX2_product_3 : decode cX2_product 3 = .ok (.dup, 1) := dk_89 (dk_at dksX2_product_0 3 rfl rfl)
theorem dX2_product_4 : decode cX2_product 4 = .ok (.invokespecial 237, 3) := dk_183 0 237 (dk_at dksX2_product_0 4 rfl rfl)
theorem dX2_product_7 : decode cX2_product 7 = .ok (.astore_n 1, 1) := dk_76 (dk_at dksX2_product_0 7 rfl rfl)
theorem dX2_product_8 : decode cX2_product 8 = .ok (.aload_n 1, 1) := dk_43 (dk_at dksX2_product_0 8 rfl rfl)
theorem dX2_product_9 : decode cX2_product 9 = .ok (.bipush 42, 2) := dk_16 42 (dk_at dksX2_product_0 9 rfl rfl)
theorem dX2_product_11 : decode cX2_product 11 = .ok (.aload_n 0, 1) := dk_42 (dk_at dksX2_product_0 11 rfl rfl)
theorem dX2_product_12 : decode cX2_product 12 = .ok (.invokevirtual 247, 3) := dk_182 0 247 (dk_at dksX2_product_0 12 rfl rfl)
theorem dX2_product_15 : decode cX2_product 15 = .ok (.invokevirtual 241, 3) := dk_182 0 241 (dk_at dksX2_product_0 15 rfl rfl)
theorem dX2_product_18 : decode cX2_product 18 = .ok (.iconst 1, 1) := dk_4 (dk_at dksX2_product_0 18 rfl rfl)
theorem dX2_product_19 : decode cX2_product 19 = .ok (.istore_n 2, 1) := dk_61 (dk_at dksX2_product_0 19 rfl rfl)
theorem dX2_product_20 : decode cX2_product 20 = .ok (.iload_n 2, 1) := dk_28 (dk_at dksX2_product_0 20 rfl rfl)
theorem dX2_product_21 : decode cX2_product 21 = .ok (.ifCond .eq 52, 3) := dk_153 0 52 (dk_at dksX2_product_0 21 rfl rfl)
theorem dX2_product_24 : decode cX2_product 24 = .ok (.aload_n 0, 1) := dk_42 (dk_at dksX2_product_1 0 rfl rfl)
theorem dX2_product_25 : decode cX2_product 25 = .ok (.bipush 42, 2) := dk_16 42 (dk_at dksX2_product_1 1 rfl rfl)
theorem dX2_product_27 : decode cX2_product 27 = .ok (.invokevirtual 244, 3) := dk_182 0 244 (dk_at dksX2_product_1 3 rfl rfl)
theorem dX2_product_30 : decode cX2_product 30 = .ok (.ifCond .eq 16, 3) := dk_153 0 16 (dk_at dksX2_product_1 6 rfl rfl)
theorem dX2_product_33 : decode cX2_product 33 = .ok (.aload_n 1, 1) := dk_43 (dk_at dksX2_product_1 9 rfl rfl)
theorem dX2_product_34 : decode cX2_product 34 = .ok (.bipush 42, 2) := dk_16 42 (dk_at dksX2_product_1 10 rfl rfl)
theorem dX2_product_36 : decode cX2_product 36 = .ok (.aload_n 0, 1) := dk_42 (dk_at dksX2_product_1 12 rfl rfl)
theorem dX2_product_37 : decode cX2_product 37 = .ok (.invokevirtual 247, 3) := dk_182 0 247 (dk_at dksX2_product_1 13 rfl rfl)
theorem dX2_product_40 : decode cX2_product 40 = .ok (.invokevirtual 241, 3) := dk_182 0 241 (dk_at dksX2_product_1 16 rfl rfl)
theorem dX2_product_43 : decode cX2_product 43 = .ok (.goto (-23), 3) := dk_167 255 233 (dk_at dksX2_product_1 19 rfl rfl)
theorem dX2_product_46 : decode cX2_product 46 = .ok (.aload_n 0, 1) := dk_42 (dk_at dksX2_product_1 22 rfl rfl)
theorem dX2_product_47 : decode cX2_product 47 = .ok (.bipush 47, 2) := dk_16 47 (dk_at dksX2_product_2 0 rfl rfl)
theorem dX2_product_49 : decode cX2_product 49 = .ok (.invokevirtual 244, 3) := dk_182 0 244 (dk_at dksX2_product_2 2 rfl rfl)
theorem dX2_product_52 : decode cX2_product 52 = .ok (.ifCond .eq 16, 3) := dk_153 0 16 (dk_at dksX2_product_2 5 rfl rfl)
theorem dX2_product_55 : decode cX2_product 55 = .ok (.aload_n 1, 1) := dk_43 (dk_at dksX2_product_2 8 rfl rfl)
theorem dX2_product_56 : decode cX2_product 56 = .ok (.bipush 47, 2) := dk_16 47 (dk_at dksX2_product_2 9 rfl rfl)
theorem dX2_product_58 : decode cX2_product 58 = .ok (.aload_n 0, 1) := dk_42 (dk_at dksX2_product_2 11 rfl rfl)
theorem dX2_product_59 : decode cX2_product 59 = .ok (.invokevirtual 247, 3) := dk_182 0 247 (dk_at dksX2_product_2 12 rfl rfl)
theorem dX2_product_62 : decode cX2_product 62 = .ok (.invokevirtual 241, 3) := dk_182 0 241 (dk_at dksX2_product_2 15 rfl rfl)
theorem dX2_product_65 : decode cX2_product 65 = .ok (.goto (-45), 3) := dk_167 255 211 (dk_at dksX2_product_2 18 rfl rfl)
theorem dX2_product_68 : decode cX2_product 68 = .ok (.iconst 0, 1) := dk_3 (dk_at dksX2_product_2 21 rfl rfl)
theorem dX2_product_69 : decode cX2_product 69 = .ok (.istore_n 2, 1) := dk_61 (dk_at dksX2_product_2 22 rfl rfl)
theorem dX2_product_70 : decode cX2_product 70 = .ok (.goto (-50), 3) := dk_167 255 206 (dk_at dksX2_product_3 0 rfl rfl)
theorem dX2_product_73 : decode cX2_product 73 = .ok (.aload_n 1, 1) := dk_43 (dk_at dksX2_product_3 3 rfl rfl)
theorem dX2_product_74 : decode cX2_product 74 = .ok (.areturn, 1) := dk_176 (dk_at dksX2_product_3 4 rfl rfl)
abbrev cX2_atom : ByteArray := prog_16_method_25_code
def yX2_atom : MethodName := ⟨RX2, "atom", "()LTurnedBoards$Value;"⟩
def dkwX2_atom_7 : List UInt8 := [182, 1, 2, 176]
abbrev dktX2_atom_7 : List UInt8 := dkwX2_atom_7 ++ []
def dkwX2_atom_6 : List UInt8 := [180, 0, 61, 182, 0, 47, 191, 42, 43, 19, 1, 28, 182, 0, 74, 153, 0, 7, 4, 167, 0, 4, 5]
abbrev dktX2_atom_6 : List UInt8 := dkwX2_atom_6 ++ dktX2_atom_7
def dkwX2_atom_5 : List UInt8 := [19, 1, 28, 182, 0, 74, 154, 0, 23, 43, 19, 1, 30, 182, 0, 74, 154, 0, 13, 42, 4, 42]
abbrev dktX2_atom_5 : List UInt8 := dkwX2_atom_5 ++ dktX2_atom_6
def dkwX2_atom_4 : List UInt8 := [178, 1, 22, 184, 0, 82, 167, 0, 4, 2, 61, 28, 2, 159, 0, 9, 42, 28, 182, 1, 25, 176, 43]
abbrev dktX2_atom_4 : List UInt8 := dkwX2_atom_4 ++ dktX2_atom_5
def dkwX2_atom_3 : List UInt8 := [153, 0, 12, 187, 1, 18, 89, 28, 183, 1, 20, 176, 42, 180, 0, 215, 17, 3, 132, 160, 0, 13, 43]
abbrev dktX2_atom_3 : List UInt8 := dkwX2_atom_3 ++ dktX2_atom_4
def dkwX2_atom_2 : List UInt8 := [76, 43, 178, 1, 11, 184, 0, 82, 61, 28, 2, 159, 0, 23, 42, 180, 0, 215, 28, 184, 1, 14]
abbrev dktX2_atom_2 : List UInt8 := dkwX2_atom_2 ++ dktX2_atom_3
def dkwX2_atom_1 : List UInt8 := [153, 0, 20, 187, 1, 6, 89, 42, 3, 17, 39, 15, 182, 0, 96, 133, 183, 1, 8, 176, 42, 182, 0, 70]
abbrev dktX2_atom_1 : List UInt8 := dkwX2_atom_1 ++ dktX2_atom_2
def dkwX2_atom_0 : List UInt8 := [42, 182, 0, 43, 16, 40, 160, 0, 9, 42, 3, 182, 1, 2, 176, 42, 182, 0, 43, 184, 0, 55]
abbrev dktX2_atom_0 : List UInt8 := dkwX2_atom_0 ++ dktX2_atom_1
theorem dksX2_atom_0 : cX2_atom.data.toList.drop 0 = dktX2_atom_0 := by decide +kernel
theorem dksX2_atom_1 : cX2_atom.data.toList.drop 22 = dktX2_atom_1 := dk_seg dksX2_atom_0 22 rfl rfl
theorem dksX2_atom_2 : cX2_atom.data.toList.drop 46 = dktX2_atom_2 := dk_seg dksX2_atom_1 24 rfl rfl
theorem dksX2_atom_3 : cX2_atom.data.toList.drop 68 = dktX2_atom_3 := dk_seg dksX2_atom_2 22 rfl rfl
theorem dksX2_atom_4 : cX2_atom.data.toList.drop 91 = dktX2_atom_4 := dk_seg dksX2_atom_3 23 rfl rfl
theorem dksX2_atom_5 : cX2_atom.data.toList.drop 114 = dktX2_atom_5 := dk_seg dksX2_atom_4 23 rfl rfl
theorem dksX2_atom_6 : cX2_atom.data.toList.drop 136 = dktX2_atom_6 := dk_seg dksX2_atom_5 22 rfl rfl
theorem dksX2_atom_7 : cX2_atom.data.toList.drop 159 = dktX2_atom_7 := dk_seg dksX2_atom_6 23 rfl rfl
theorem dX2_atom_0 : decode cX2_atom 0 = .ok (.aload_n 0, 1) := dk_42 (dk_at dksX2_atom_0 0 rfl rfl)
theorem dX2_atom_1 : decode cX2_atom 1 = .ok (.invokevirtual 43, 3) := dk_182 0 43 (dk_at dksX2_atom_0 1 rfl rfl)
theorem dX2_atom_4 : decode cX2_atom 4 = .ok (.bipush 40, 2) := dk_16 40 (dk_at dksX2_atom_0 4 rfl rfl)
theorem dX2_atom_6 : decode cX2_atom 6 = .ok (.if_icmp .ne 9, 3) := dk_160 0 9 (dk_at dksX2_atom_0 6 rfl rfl)
theorem dX2_atom_9 : decode cX2_atom 9 = .ok (.aload_n 0, 1) := dk_42 (dk_at dksX2_atom_0 9 rfl rfl)
theorem dX2_atom_10 : decode cX2_atom 10 = .ok (.iconst 0, 1) := dk_3 (dk_at dksX2_atom_0 10 rfl rfl)
theorem dX2_atom_11 : decode cX2_atom 11 = .ok (.invokevirtual 258, 3) := dk_182 1 2 (dk_at dksX2_atom_0 11 rfl rfl)
theorem dX2_atom_14 : decode cX2_atom 14 = .ok (.areturn, 1) := dk_176 (dk_at dksX2_atom_0 14 rfl rfl)
theorem dX2_atom_15 : decode cX2_atom 15 = .ok (.aload_n 0, 1) := dk_42 (dk_at dksX2_atom_0 15 rfl rfl)
theorem dX2_atom_16 : decode cX2_atom 16 = .ok (.invokevirtual 43, 3) := dk_182 0 43 (dk_at dksX2_atom_0 16 rfl rfl)
theorem dX2_atom_19 : decode cX2_atom 19 = .ok (.invokestatic 55, 3) := dk_184 0 55 (dk_at dksX2_atom_0 19 rfl rfl)
theorem dX2_atom_22 : decode cX2_atom 22 = .ok (.ifCond .eq 20, 3) := dk_153 0 20 (dk_at dksX2_atom_1 0 rfl rfl)
theorem dX2_atom_25 : decode cX2_atom 25 = .ok (.new 262, 3) := dk_187 1 6 (dk_at dksX2_atom_1 3 rfl rfl)
theorem dX2_atom_28 : decode cX2_atom 28 = .ok (.dup, 1) := dk_89 (dk_at dksX2_atom_1 6 rfl rfl)
theorem dX2_atom_29 : decode cX2_atom 29 = .ok (.aload_n 0, 1) := dk_42 (dk_at dksX2_atom_1 7 rfl rfl)
theorem dX2_atom_30 : decode cX2_atom 30 = .ok (.iconst 0, 1) := dk_3 (dk_at dksX2_atom_1 8 rfl rfl)
theorem dX2_atom_31 : decode cX2_atom 31 = .ok (.sipush 9999, 3) := dk_17 39 15 (dk_at dksX2_atom_1 9 rfl rfl)
theorem dX2_atom_34 : decode cX2_atom 34 = .ok (.invokevirtual 96, 3) := dk_182 0 96 (dk_at dksX2_atom_1 12 rfl rfl)
theorem dX2_atom_37 : decode cX2_atom 37 = .ok (.i2l, 1) := dk_133 (dk_at dksX2_atom_1 15 rfl rfl)
theorem dX2_atom_38 : decode cX2_atom 38 = .ok (.invokespecial 264, 3) := dk_183 1 8 (dk_at dksX2_atom_1 16 rfl rfl)
theorem dX2_atom_41 : decode cX2_atom 41 = .ok (.areturn, 1) := dk_176 (dk_at dksX2_atom_1 19 rfl rfl)
theorem dX2_atom_42 : decode cX2_atom 42 = .ok (.aload_n 0, 1) := dk_42 (dk_at dksX2_atom_1 20 rfl rfl)
theorem dX2_atom_43 : decode cX2_atom 43 = .ok (.invokevirtual 70, 3) := dk_182 0 70 (dk_at dksX2_atom_1 21 rfl rfl)
theorem dX2_atom_46 : decode cX2_atom 46 = .ok (.astore_n 1, 1) := dk_76 (dk_at dksX2_atom_2 0 rfl rfl)
theorem dX2_atom_47 : decode cX2_atom 47 = .ok (.aload_n 1, 1) := dk_43 (dk_at dksX2_atom_2 1 rfl rfl)
theorem dX2_atom_48 : decode cX2_atom 48 = .ok (.getstatic 267, 3) := dk_178 1 11 (dk_at dksX2_atom_2 2 rfl rfl)
theorem dX2_atom_51 : decode cX2_atom 51 = .ok (.invokestatic 82, 3) := dk_184 0 82 (dk_at dksX2_atom_2 5 rfl rfl)
theorem dX2_atom_54 : decode cX2_atom 54 = .ok (.istore_n 2, 1) := dk_61 (dk_at dksX2_atom_2 8 rfl rfl)
theorem dX2_atom_55 : decode cX2_atom 55 = .ok (.iload_n 2, 1) := dk_28 (dk_at dksX2_atom_2 9 rfl rfl)
theorem dX2_atom_56 : decode cX2_atom 56 = .ok (.iconst (-1), 1) := dk_2 (dk_at dksX2_atom_2 10 rfl rfl)
theorem dX2_atom_57 : decode cX2_atom 57 = .ok (.if_icmp .eq 23, 3) := dk_159 0 23 (dk_at dksX2_atom_2 11 rfl rfl)
theorem dX2_atom_60 : decode cX2_atom 60 = .ok (.aload_n 0, 1) := dk_42 (dk_at dksX2_atom_2 14 rfl rfl)
theorem dX2_atom_61 : decode cX2_atom 61 = .ok (.getfield 215, 3) := dk_180 0 215 (dk_at dksX2_atom_2 15 rfl rfl)
theorem dX2_atom_64 : decode cX2_atom 64 = .ok (.iload_n 2, 1) := dk_28 (dk_at dksX2_atom_2 18 rfl rfl)
theorem dX2_atom_65 : decode cX2_atom 65 = .ok (.invokestatic 270, 3) := dk_184 1 14 (dk_at dksX2_atom_2 19 rfl rfl)
theorem dX2_atom_68 : decode cX2_atom 68 = .ok (.ifCond .eq 12, 3) := dk_153 0 12 (dk_at dksX2_atom_3 0 rfl rfl)
theorem dX2_atom_71 : decode cX2_atom 71 = .ok (.new 274, 3) := dk_187 1 18 (dk_at dksX2_atom_3 3 rfl rfl)
theorem dX2_atom_74 : decode cX2_atom 74 = .ok (.dup, 1) := dk_89 (dk_at dksX2_atom_3 6 rfl rfl)
theorem dX2_atom_75 : decode cX2_atom 75 = .ok (.iload_n 2, 1) := dk_28 (dk_at dksX2_atom_3 7 rfl rfl)
theorem dX2_atom_76 : decode cX2_atom 76 = .ok (.invokespecial 276, 3) := dk_183 1 20 (dk_at dksX2_atom_3 8 rfl rfl)
theorem dX2_atom_79 : decode cX2_atom 79 = .ok (.areturn, 1) := dk_176 (dk_at dksX2_atom_3 11 rfl rfl)
theorem dX2_atom_80 : decode cX2_atom 80 = .ok (.aload_n 0, 1) := dk_42 (dk_at dksX2_atom_3 12 rfl rfl)
theorem dX2_atom_81 : decode cX2_atom 81 = .ok (.getfield 215, 3) := dk_180 0 215 (dk_at dksX2_atom_3 13 rfl rfl)
theorem dX2_atom_84 : decode cX2_atom 84 = .ok (.sipush 900, 3) := dk_17 3 132 (dk_at dksX2_atom_3 16 rfl rfl)
theorem dX2_atom_87 : decode cX2_atom 87 = .ok (.if_icmp .ne 13, 3) := dk_160 0 13 (dk_at dksX2_atom_3 19 rfl rfl)
theorem dX2_atom_90 : decode cX2_atom 90 = .ok (.aload_n 1, 1) := dk_43 (dk_at dksX2_atom_3 22 rfl rfl)
theorem dX2_atom_91 : decode cX2_atom 91 = .ok (.getstatic 278, 3) := dk_178 1 22 (dk_at dksX2_atom_4 0 rfl rfl)
theorem dX2_atom_94 : decode cX2_atom 94 = .ok (.invokestatic 82, 3) := dk_184 0 82 (dk_at dksX2_atom_4 3 rfl rfl)
theorem dX2_atom_97 : decode cX2_atom 97 = .ok (.goto 4, 3) := dk_167 0 4 (dk_at dksX2_atom_4 6 rfl rfl)
theorem dX2_atom_100 : decode cX2_atom 100 = .ok (.iconst (-1), 1) := dk_2 (dk_at dksX2_atom_4 9 rfl rfl)
theorem dX2_atom_101 : decode cX2_atom 101 = .ok (.istore_n 2, 1) := dk_61 (dk_at dksX2_atom_4 10 rfl rfl)
theorem dX2_atom_102 : decode cX2_atom 102 = .ok (.iload_n 2, 1) := dk_28 (dk_at dksX2_atom_4 11 rfl rfl)
theorem dX2_atom_103 : decode cX2_atom 103 = .ok (.iconst (-1), 1) := dk_2 (dk_at dksX2_atom_4 12 rfl rfl)
theorem dX2_atom_104 : decode cX2_atom 104 = .ok (.if_icmp .eq 9, 3) := dk_159 0 9 (dk_at dksX2_atom_4 13 rfl rfl)
theorem dX2_atom_107 : decode cX2_atom 107 = .ok (.aload_n 0, 1) := dk_42 (dk_at dksX2_atom_4 16 rfl rfl)
theorem dX2_atom_108 : decode cX2_atom 108 = .ok (.iload_n 2, 1) := dk_28 (dk_at dksX2_atom_4 17 rfl rfl)
theorem dX2_atom_109 : decode cX2_atom 109 = .ok (.invokevirtual 281, 3) := dk_182 1 25 (dk_at dksX2_atom_4 18 rfl rfl)
theorem dX2_atom_112 : decode cX2_atom 112 = .ok (.areturn, 1) := dk_176 (dk_at dksX2_atom_4 21 rfl rfl)
theorem dX2_atom_113 : decode cX2_atom 113 = .ok (.aload_n 1, 1) := dk_43 (dk_at dksX2_atom_4 22 rfl rfl)
theorem dX2_atom_114 : decode cX2_atom 114 = .ok (.ldc_w 284, 3) := dk_19 1 28 (dk_at dksX2_atom_5 0 rfl rfl)
theorem dX2_atom_117 : decode cX2_atom 117 = .ok (.invokevirtual 74, 3) := dk_182 0 74 (dk_at dksX2_atom_5 3 rfl rfl)
theorem dX2_atom_120 : decode cX2_atom 120 = .ok (.ifCond .ne 23, 3) := dk_154 0 23 (dk_at dksX2_atom_5 6 rfl rfl)
theorem dX2_atom_123 : decode cX2_atom 123 = .ok (.aload_n 1, 1) := dk_43 (dk_at dksX2_atom_5 9 rfl rfl)
theorem dX2_atom_124 : decode cX2_atom 124 = .ok (.ldc_w 286, 3) := dk_19 1 30 (dk_at dksX2_atom_5 10 rfl rfl)
theorem dX2_atom_127 : decode cX2_atom 127 = .ok (.invokevirtual 74, 3) := dk_182 0 74 (dk_at dksX2_atom_5 13 rfl rfl)
theorem dX2_atom_130 : decode cX2_atom 130 = .ok (.ifCond .ne 13, 3) := dk_154 0 13 (dk_at dksX2_atom_5 16 rfl rfl)
theorem dX2_atom_133 : decode cX2_atom 133 = .ok (.aload_n 0, 1) := dk_42 (dk_at dksX2_atom_5 19 rfl rfl)
theorem dX2_atom_134 : decode cX2_atom 134 = .ok (.iconst 1, 1) := dk_4 (dk_at dksX2_atom_5 20 rfl rfl)
theorem dX2_atom_135 : decode cX2_atom 135 = .ok (.aload_n 0, 1) := dk_42 (dk_at dksX2_atom_5 21 rfl rfl)
theorem dX2_atom_136 : decode cX2_atom 136 = .ok (.getfield 61, 3) := dk_180 0 61 (dk_at dksX2_atom_6 0 rfl rfl)
theorem dX2_atom_139 : decode cX2_atom 139 = .ok (.invokevirtual 47, 3) := dk_182 0 47 (dk_at dksX2_atom_6 3 rfl rfl)
theorem dX2_atom_142 : decode cX2_atom 142 = .ok (.athrow, 1) := dk_191 (dk_at dksX2_atom_6 6 rfl rfl)
theorem dX2_atom_143 : decode cX2_atom 143 = .ok (.aload_n 0, 1) := dk_42 (dk_at dksX2_atom_6 7 rfl rfl)
theorem dX2_atom_144 : decode cX2_atom 144 = .ok (.aload_n 1, 1) := dk_43 (dk_at dksX2_atom_6 8 rfl rfl)
theorem dX2_atom_145 : decode cX2_atom 145 = .ok (.ldc_w 284, 3) := dk_19 1 28 (dk_at dksX2_atom_6 9 rfl rfl)
theorem dX2_atom_148 : decode cX2_atom 148 = .ok (.invokevirtual 74, 3) := dk_182 0 74 (dk_at dksX2_atom_6 12 rfl rfl)
theorem dX2_atom_151 : decode cX2_atom 151 = .ok (.ifCond .eq 7, 3) := dk_153 0 7 (dk_at dksX2_atom_6 15 rfl rfl)
theorem dX2_atom_154 : decode cX2_atom 154 = .ok (.iconst 1, 1) := dk_4 (dk_at dksX2_atom_6 18 rfl rfl)
theorem dX2_atom_155 : decode cX2_atom 155 = .ok (.goto 4, 3) := dk_167 0 4 (dk_at dksX2_atom_6 19 rfl rfl)
theorem dX2_atom_158 : decode cX2_atom 158 = .ok (.iconst 2, 1) := dk_5 (dk_at dksX2_atom_6 22 rfl rfl)
theorem dX2_atom_159 : decode cX2_atom 159 = .ok (.invokevirtual 258, 3) := dk_182 1 2 (dk_at dksX2_atom_7 0 rfl rfl)
theorem dX2_atom_162 : decode cX2_atom 162 = .ok (.areturn, 1) := dk_176 (dk_at dksX2_atom_7 3 rfl rfl)
abbrev cX2_within : ByteArray := prog_16_method_24_code
def yX2_within : MethodName := ⟨RX2, "within", "(I)LTurnedBoards$Value;"⟩
def dkwX2_within_4 : List UInt8 := [176]
abbrev dktX2_within_4 : List UInt8 := dkwX2_within_4 ++ []
def dkwX2_within_3 : List UInt8 := [182, 0, 218, 183, 0, 255, 78, 42, 16, 41, 182, 0, 125, 42, 89, 180, 0, 107, 4, 100, 181, 0, 107, 45]
abbrev dktX2_within_3 : List UInt8 := dkwX2_within_3 ++ dktX2_within_4
def dkwX2_within_2 : List UInt8 := [42, 16, 44, 182, 0, 125, 187, 0, 253, 89, 27, 5, 160, 0, 7, 4, 167, 0, 4, 3, 44, 42]
abbrev dktX2_within_2 : List UInt8 := dkwX2_within_2 ++ dktX2_within_3
def dkwX2_within_1 : List UInt8 := [182, 0, 250, 42, 89, 180, 0, 36, 4, 96, 181, 0, 36, 42, 182, 0, 218, 77, 44, 78, 27, 158, 0, 32]
abbrev dktX2_within_1 : List UInt8 := dkwX2_within_1 ++ dktX2_within_2
def dkwX2_within_0 : List UInt8 := [42, 182, 0, 43, 16, 40, 159, 0, 13, 42, 4, 42, 180, 0, 36, 182, 0, 47, 191, 42, 42, 180, 0, 36]
abbrev dktX2_within_0 : List UInt8 := dkwX2_within_0 ++ dktX2_within_1
theorem dksX2_within_0 : cX2_within.data.toList.drop 0 = dktX2_within_0 := by decide +kernel
theorem dksX2_within_1 : cX2_within.data.toList.drop 24 = dktX2_within_1 := dk_seg dksX2_within_0 24 rfl rfl
theorem dksX2_within_2 : cX2_within.data.toList.drop 48 = dktX2_within_2 := dk_seg dksX2_within_1 24 rfl rfl
theorem dksX2_within_3 : cX2_within.data.toList.drop 70 = dktX2_within_3 := dk_seg dksX2_within_2 22 rfl rfl
theorem dksX2_within_4 : cX2_within.data.toList.drop 94 = dktX2_within_4 := dk_seg dksX2_within_3 24 rfl rfl
theorem dX2_within_0 : decode cX2_within 0 = .ok (.aload_n 0, 1) := dk_42 (dk_at dksX2_within_0 0 rfl rfl)
theorem dX2_within_1 : decode cX2_within 1 = .ok (.invokevirtual 43, 3) := dk_182 0 43 (dk_at dksX2_within_0 1 rfl rfl)
theorem dX2_within_4 : decode cX2_within 4 = .ok (.bipush 40, 2) := dk_16 40 (dk_at dksX2_within_0 4 rfl rfl)
theorem dX2_within_6 : decode cX2_within 6 = .ok (.if_icmp .eq 13, 3) := dk_159 0 13 (dk_at dksX2_within_0 6 rfl rfl)
theorem dX2_within_9 : decode cX2_within 9 = .ok (.aload_n 0, 1) := dk_42 (dk_at dksX2_within_0 9 rfl rfl)
theorem dX2_within_10 : decode cX2_within 10 = .ok (.iconst 1, 1) := dk_4 (dk_at dksX2_within_0 10 rfl rfl)
theorem dX2_within_11 : decode cX2_within 11 = .ok (.aload_n 0, 1) := dk_42 (dk_at dksX2_within_0 11 rfl rfl)
theorem dX2_within_12 : decode cX2_within 12 = .ok (.getfield 36, 3) := dk_180 0 36 (dk_at dksX2_within_0 12 rfl rfl)
theorem dX2_within_15 : decode cX2_within 15 = .ok (.invokevirtual 47, 3) := dk_182 0 47 (dk_at dksX2_within_0 15 rfl rfl)
theorem dX2_within_18 : decode cX2_within 18 = .ok (.athrow, 1) := dk_191 (dk_at dksX2_within_0 18 rfl rfl)
theorem dX2_within_19 : decode cX2_within 19 = .ok (.aload_n 0, 1) := dk_42 (dk_at dksX2_within_0 19 rfl rfl)
theorem dX2_within_20 : decode cX2_within 20 = .ok (.aload_n 0, 1) := dk_42 (dk_at dksX2_within_0 20 rfl rfl)
theorem dX2_within_21 : decode cX2_within 21 = .ok (.getfield 36, 3) := dk_180 0 36 (dk_at dksX2_within_0 21 rfl rfl)
theorem dX2_within_24 : decode cX2_within 24 = .ok (.invokevirtual 250, 3) := dk_182 0 250 (dk_at dksX2_within_1 0 rfl rfl)
theorem dX2_within_27 : decode cX2_within 27 = .ok (.aload_n 0, 1) := dk_42 (dk_at dksX2_within_1 3 rfl rfl)
theorem dX2_within_28 : decode cX2_within 28 = .ok (.dup, 1) := dk_89 (dk_at dksX2_within_1 4 rfl rfl)
theorem dX2_within_29 : decode cX2_within 29 = .ok (.getfield 36, 3) := dk_180 0 36 (dk_at dksX2_within_1 5 rfl rfl)
theorem dX2_within_32 : decode cX2_within 32 = .ok (.iconst 1, 1) := dk_4 (dk_at dksX2_within_1 8 rfl rfl)
theorem dX2_within_33 : decode cX2_within 33 = .ok (.iadd, 1) := dk_96 (dk_at dksX2_within_1 9 rfl rfl)
theorem dX2_within_34 : decode cX2_within 34 = .ok (.putfield 36, 3) := dk_181 0 36 (dk_at dksX2_within_1 10 rfl rfl)
theorem dX2_within_37 : decode cX2_within 37 = .ok (.aload_n 0, 1) := dk_42 (dk_at dksX2_within_1 13 rfl rfl)
theorem dX2_within_38 : decode cX2_within 38 = .ok (.invokevirtual 218, 3) := dk_182 0 218 (dk_at dksX2_within_1 14 rfl rfl)
theorem dX2_within_41 : decode cX2_within 41 = .ok (.astore_n 2, 1) := dk_77 (dk_at dksX2_within_1 17 rfl rfl)
theorem dX2_within_42 : decode cX2_within 42 = .ok (.aload_n 2, 1) := dk_44 (dk_at dksX2_within_1 18 rfl rfl)
theorem dX2_within_43 : decode cX2_within 43 = .ok (.astore_n 3, 1) := dk_78 (dk_at dksX2_within_1 19 rfl rfl)
theorem dX2_within_44 : decode cX2_within 44 = .ok (.iload_n 1, 1) := dk_27 (dk_at dksX2_within_1 20 rfl rfl)
theorem dX2_within_45 : decode cX2_within 45 = .ok (.ifCond .le 32, 3) := dk_158 0 32 (dk_at dksX2_within_1 21 rfl rfl)
theorem dX2_within_48 : decode cX2_within 48 = .ok (.aload_n 0, 1) := dk_42 (dk_at dksX2_within_2 0 rfl rfl)
theorem dX2_within_49 : decode cX2_within 49 = .ok (.bipush 44, 2) := dk_16 44 (dk_at dksX2_within_2 1 rfl rfl)
theorem dX2_within_51 : decode cX2_within 51 = .ok (.invokevirtual 125, 3) := dk_182 0 125 (dk_at dksX2_within_2 3 rfl rfl)
theorem dX2_within_54 : decode cX2_within 54 = .ok (.new 253, 3) := dk_187 0 253 (dk_at dksX2_within_2 6 rfl rfl)
theorem dX2_within_57 : decode cX2_within 57 = .ok (.dup, 1) := dk_89 (dk_at dksX2_within_2 9 rfl rfl)
theorem dX2_within_58 : decode cX2_within 58 = .ok (.iload_n 1, 1) := dk_27 (dk_at dksX2_within_2 10 rfl rfl)
theorem dX2_within_59 : decode cX2_within 59 = .ok (.iconst 2, 1) := dk_5 (dk_at dksX2_within_2 11 rfl rfl)
theorem dX2_within_60 : decode cX2_within 60 = .ok (.if_icmp .ne 7, 3) := dk_160 0 7 (dk_at dksX2_within_2 12 rfl rfl)
theorem dX2_within_63 : decode cX2_within 63 = .ok (.iconst 1, 1) := dk_4 (dk_at dksX2_within_2 15 rfl rfl)
theorem dX2_within_64 : decode cX2_within 64 = .ok (.goto 4, 3) := dk_167 0 4 (dk_at dksX2_within_2 16 rfl rfl)
theorem dX2_within_67 : decode cX2_within 67 = .ok (.iconst 0, 1) := dk_3 (dk_at dksX2_within_2 19 rfl rfl)
theorem dX2_within_68 : decode cX2_within 68 = .ok (.aload_n 2, 1) := dk_44 (dk_at dksX2_within_2 20 rfl rfl)
theorem dX2_within_69 : decode cX2_within 69 = .ok (.aload_n 0, 1) := dk_42 (dk_at dksX2_within_2 21 rfl rfl)
theorem dX2_within_70 : decode cX2_within 70 = .ok (.invokevirtual 218, 3) := dk_182 0 218 (dk_at dksX2_within_3 0 rfl rfl)
theorem dX2_within_73 : decode cX2_within 73 = .ok (.invokespecial 255, 3) := dk_183 0 255 (dk_at dksX2_within_3 3 rfl rfl)
theorem dX2_within_76 : decode cX2_within 76 = .ok (.astore_n 3, 1) := dk_78 (dk_at dksX2_within_3 6 rfl rfl)
theorem dX2_within_77 : decode cX2_within 77 = .ok (.aload_n 0, 1) := dk_42 (dk_at dksX2_within_3 7 rfl rfl)
theorem dX2_within_78 : decode cX2_within 78 = .ok (.bipush 41, 2) := dk_16 41 (dk_at dksX2_within_3 8 rfl rfl)
theorem dX2_within_80 : decode cX2_within 80 = .ok (.invokevirtual 125, 3) := dk_182 0 125 (dk_at dksX2_within_3 10 rfl rfl)
theorem dX2_within_83 : decode cX2_within 83 = .ok (.aload_n 0, 1) := dk_42 (dk_at dksX2_within_3 13 rfl rfl)
theorem dX2_within_84 : decode cX2_within 84 = .ok (.dup, 1) := dk_89 (dk_at dksX2_within_3 14 rfl rfl)
theorem dX2_within_85 : decode cX2_within 85 = .ok (.getfield 107, 3) := dk_180 0 107 (dk_at dksX2_within_3 15 rfl rfl)
theorem dX2_within_88 : decode cX2_within 88 = .ok (.iconst 1, 1) := dk_4 (dk_at dksX2_within_3 18 rfl rfl)
theorem dX2_within_89 : decode cX2_within 89 = .ok (.isub, 1) := dk_100 (dk_at dksX2_within_3 19 rfl rfl)
theorem dX2_within_90 : decode cX2_within 90 = .ok (.putfield 107, 3) := dk_181 0 107 (dk_at dksX2_within_3 20 rfl rfl)
theorem dX2_within_93 : decode cX2_within 93 = .ok (.aload_n 3, 1) := dk_45 (dk_at dksX2_within_3 23 rfl rfl)
theorem dX2_within_94 : decode cX2_within 94 = .ok (.areturn, 1) := dk_176 (dk_at dksX2_within_4 0 rfl rfl)
abbrev cX2_opens : ByteArray := prog_16_method_23_code
def yX2_opens : MethodName := ⟨RX2, "opens", "(I)V"⟩
def dkwX2_opens_1 : List UInt8 := [181, 0, 107, 177]
abbrev dktX2_opens_1 : List UInt8 := dkwX2_opens_1 ++ []
def dkwX2_opens_0 : List UInt8 := [42, 180, 0, 107, 16, 6, 160, 0, 10, 42, 7, 27, 182, 0, 47, 191, 42, 89, 180, 0, 107, 4, 96]
abbrev dktX2_opens_0 : List UInt8 := dkwX2_opens_0 ++ dktX2_opens_1
theorem dksX2_opens_0 : cX2_opens.data.toList.drop 0 = dktX2_opens_0 := by decide +kernel
theorem dksX2_opens_1 : cX2_opens.data.toList.drop 23 = dktX2_opens_1 := dk_seg dksX2_opens_0 23 rfl rfl
theorem dX2_opens_0 : decode cX2_opens 0 = .ok (.aload_n 0, 1) := dk_42 (dk_at dksX2_opens_0 0 rfl rfl)
theorem dX2_opens_1 : decode cX2_opens 1 = .ok (.getfield 107, 3) := dk_180 0 107 (dk_at dksX2_opens_0 1 rfl rfl)
theorem dX2_opens_4 : decode cX2_opens 4 = .ok (.bipush 6, 2) := dk_16 6 (dk_at dksX2_opens_0 4 rfl rfl)
theorem dX2_opens_6 : decode cX2_opens 6 = .ok (.if_icmp .ne 10, 3) := dk_160 0 10 (dk_at dksX2_opens_0 6 rfl rfl)
theorem dX2_opens_9 : decode cX2_opens 9 = .ok (.aload_n 0, 1) := dk_42 (dk_at dksX2_opens_0 9 rfl rfl)
theorem dX2_opens_10 : decode cX2_opens 10 = .ok (.iconst 4, 1) := dk_7 (dk_at dksX2_opens_0 10 rfl rfl)
theorem dX2_opens_11 : decode cX2_opens 11 = .ok (.iload_n 1, 1) := dk_27 (dk_at dksX2_opens_0 11 rfl rfl)
theorem dX2_opens_12 : decode cX2_opens 12 = .ok (.invokevirtual 47, 3) := dk_182 0 47 (dk_at dksX2_opens_0 12 rfl rfl)
theorem dX2_opens_15 : decode cX2_opens 15 = .ok (.athrow, 1) := dk_191 (dk_at dksX2_opens_0 15 rfl rfl)
theorem dX2_opens_16 : decode cX2_opens 16 = .ok (.aload_n 0, 1) := dk_42 (dk_at dksX2_opens_0 16 rfl rfl)
theorem dX2_opens_17 : decode cX2_opens 17 = .ok (.dup, 1) := dk_89 (dk_at dksX2_opens_0 17 rfl rfl)
theorem dX2_opens_18 : decode cX2_opens 18 = .ok (.getfield 107, 3) := dk_180 0 107 (dk_at dksX2_opens_0 18 rfl rfl)
theorem dX2_opens_21 : decode cX2_opens 21 = .ok (.iconst 1, 1) := dk_4 (dk_at dksX2_opens_0 21 rfl rfl)
theorem dX2_opens_22 : decode cX2_opens 22 = .ok (.iadd, 1) := dk_96 (dk_at dksX2_opens_0 22 rfl rfl)
theorem dX2_opens_23 : decode cX2_opens 23 = .ok (.putfield 107, 3) := dk_181 0 107 (dk_at dksX2_opens_1 0 rfl rfl)
theorem dX2_opens_26 : decode cX2_opens 26 = .ok (.return_, 1) := dk_177 (dk_at dksX2_opens_1 3 rfl rfl)
abbrev cX2_must : ByteArray := prog_16_method_5_code
def yX2_must : MethodName := ⟨RX2, "must", "(I)V"⟩
def dkwX2_must_1 : List UInt8 := [96, 181, 0, 36, 177]
abbrev dktX2_must_1 : List UInt8 := dkwX2_must_1 ++ []
def dkwX2_must_0 : List UInt8 := [42, 182, 0, 43, 27, 159, 0, 13, 42, 4, 42, 180, 0, 36, 182, 0, 47, 191, 42, 89, 180, 0, 36, 4]
abbrev dktX2_must_0 : List UInt8 := dkwX2_must_0 ++ dktX2_must_1
theorem dksX2_must_0 : cX2_must.data.toList.drop 0 = dktX2_must_0 := by decide +kernel
theorem dksX2_must_1 : cX2_must.data.toList.drop 24 = dktX2_must_1 := dk_seg dksX2_must_0 24 rfl rfl
theorem dX2_must_0 : decode cX2_must 0 = .ok (.aload_n 0, 1) := dk_42 (dk_at dksX2_must_0 0 rfl rfl)
theorem dX2_must_1 : decode cX2_must 1 = .ok (.invokevirtual 43, 3) := dk_182 0 43 (dk_at dksX2_must_0 1 rfl rfl)
theorem dX2_must_4 : decode cX2_must 4 = .ok (.iload_n 1, 1) := dk_27 (dk_at dksX2_must_0 4 rfl rfl)
theorem dX2_must_5 : decode cX2_must 5 = .ok (.if_icmp .eq 13, 3) := dk_159 0 13 (dk_at dksX2_must_0 5 rfl rfl)
theorem dX2_must_8 : decode cX2_must 8 = .ok (.aload_n 0, 1) := dk_42 (dk_at dksX2_must_0 8 rfl rfl)
theorem dX2_must_9 : decode cX2_must 9 = .ok (.iconst 1, 1) := dk_4 (dk_at dksX2_must_0 9 rfl rfl)
theorem dX2_must_10 : decode cX2_must 10 = .ok (.aload_n 0, 1) := dk_42 (dk_at dksX2_must_0 10 rfl rfl)
theorem dX2_must_11 : decode cX2_must 11 = .ok (.getfield 36, 3) := dk_180 0 36 (dk_at dksX2_must_0 11 rfl rfl)
theorem dX2_must_14 : decode cX2_must 14 = .ok (.invokevirtual 47, 3) := dk_182 0 47 (dk_at dksX2_must_0 14 rfl rfl)
theorem dX2_must_17 : decode cX2_must 17 = .ok (.athrow, 1) := dk_191 (dk_at dksX2_must_0 17 rfl rfl)
theorem dX2_must_18 : decode cX2_must 18 = .ok (.aload_n 0, 1) := dk_42 (dk_at dksX2_must_0 18 rfl rfl)
theorem dX2_must_19 : decode cX2_must 19 = .ok (.dup, 1) := dk_89 (dk_at dksX2_must_0 19 rfl rfl)
theorem dX2_must_20 : decode cX2_must 20 = .ok (.getfield 36, 3) := dk_180 0 36 (dk_at dksX2_must_0 20 rfl rfl)
theorem dX2_must_23 : decode cX2_must 23 = .ok (.iconst 1, 1) := dk_4 (dk_at dksX2_must_0 23 rfl rfl)
theorem dX2_must_24 : decode cX2_must 24 = .ok (.iadd, 1) := dk_96 (dk_at dksX2_must_1 0 rfl rfl)
theorem dX2_must_25 : decode cX2_must 25 = .ok (.putfield 36, 3) := dk_181 0 36 (dk_at dksX2_must_1 1 rfl rfl)
theorem dX2_must_28 : decode cX2_must 28 = .ok (.return_, 1) := dk_177 (dk_at dksX2_must_1 4 rfl rfl)
abbrev cX2_looked : ByteArray := prog_16_method_29_code
def yX2_looked : MethodName := ⟨RX2, "looked", "(I)LTurnedBoards$Value;"⟩
def dkwX2_looked_1 : List UInt8 := [77, 42, 89, 180, 0, 107, 4, 100, 181, 0, 107, 44, 176]
abbrev dktX2_looked_1 : List UInt8 := dkwX2_looked_1 ++ []
def dkwX2_looked_0 : List UInt8 := [42, 42, 180, 0, 61, 182, 0, 250, 187, 1, 71, 89, 42, 180, 0, 3, 27, 42, 182, 0, 247, 183, 1, 73]
abbrev dktX2_looked_0 : List UInt8 := dkwX2_looked_0 ++ dktX2_looked_1
theorem dksX2_looked_0 : cX2_looked.data.toList.drop 0 = dktX2_looked_0 := by decide +kernel
theorem dksX2_looked_1 : cX2_looked.data.toList.drop 24 = dktX2_looked_1 := dk_seg dksX2_looked_0 24 rfl rfl
theorem dX2_looked_0 : decode cX2_looked 0 = .ok (.aload_n 0, 1) := dk_42 (dk_at dksX2_looked_0 0 rfl rfl)
theorem dX2_looked_1 : decode cX2_looked 1 = .ok (.aload_n 0, 1) := dk_42 (dk_at dksX2_looked_0 1 rfl rfl)
theorem dX2_looked_2 : decode cX2_looked 2 = .ok (.getfield 61, 3) := dk_180 0 61 (dk_at dksX2_looked_0 2 rfl rfl)
theorem dX2_looked_5 : decode cX2_looked 5 = .ok (.invokevirtual 250, 3) := dk_182 0 250 (dk_at dksX2_looked_0 5 rfl rfl)
theorem dX2_looked_8 : decode cX2_looked 8 = .ok (.new 327, 3) := dk_187 1 71 (dk_at dksX2_looked_0 8 rfl rfl)
theorem dX2_looked_11 : decode cX2_looked 11 = .ok (.dup, 1) := dk_89 (dk_at dksX2_looked_0 11 rfl rfl)
theorem dX2_looked_12 : decode cX2_looked 12 = .ok (.aload_n 0, 1) := dk_42 (dk_at dksX2_looked_0 12 rfl rfl)
theorem dX2_looked_13 : decode cX2_looked 13 = .ok (.getfield 3, 3) := dk_180 0 3 (dk_at dksX2_looked_0 13 rfl rfl)
theorem dX2_looked_16 : decode cX2_looked 16 = .ok (.iload_n 1, 1) := dk_27 (dk_at dksX2_looked_0 16 rfl rfl)
theorem dX2_looked_17 : decode cX2_looked 17 = .ok (.aload_n 0, 1) := dk_42 (dk_at dksX2_looked_0 17 rfl rfl)
theorem dX2_looked_18 : decode cX2_looked 18 = .ok (.invokevirtual 247, 3) := dk_182 0 247 (dk_at dksX2_looked_0 18 rfl rfl)
theorem dX2_looked_21 : decode cX2_looked 21 = .ok (.invokespecial 329, 3) := dk_183 1 73 (dk_at dksX2_looked_0 21 rfl rfl)
theorem dX2_looked_24 : decode cX2_looked 24 = .ok (.astore_n 2, 1) := dk_77 (dk_at dksX2_looked_1 0 rfl rfl)
theorem dX2_looked_25 : decode cX2_looked 25 = .ok (.aload_n 0, 1) := dk_42 (dk_at dksX2_looked_1 1 rfl rfl)
theorem dX2_looked_26 : decode cX2_looked 26 = .ok (.dup, 1) := dk_89 (dk_at dksX2_looked_1 2 rfl rfl)
theorem dX2_looked_27 : decode cX2_looked 27 = .ok (.getfield 107, 3) := dk_180 0 107 (dk_at dksX2_looked_1 3 rfl rfl)
theorem dX2_looked_30 : decode cX2_looked 30 = .ok (.iconst 1, 1) := dk_4 (dk_at dksX2_looked_1 6 rfl rfl)
theorem dX2_looked_31 : decode cX2_looked 31 = .ok (.isub, 1) := dk_100 (dk_at dksX2_looked_1 7 rfl rfl)
theorem dX2_looked_32 : decode cX2_looked 32 = .ok (.putfield 107, 3) := dk_181 0 107 (dk_at dksX2_looked_1 8 rfl rfl)
theorem dX2_looked_35 : decode cX2_looked 35 = .ok (.aload_n 2, 1) := dk_44 (dk_at dksX2_looked_1 11 rfl rfl)
theorem dX2_looked_36 : decode cX2_looked 36 = .ok (.areturn, 1) := dk_176 (dk_at dksX2_looked_1 12 rfl rfl)
abbrev cX2_takes : ByteArray := prog_16_method_20_code
def yX2_takes : MethodName := ⟨RX2, "takes", "(I)Z"⟩
def dkwX2_takes_1 : List UInt8 := [167, 0, 4, 3, 96, 181, 0, 36, 28, 172]
abbrev dktX2_takes_1 : List UInt8 := dkwX2_takes_1 ++ []
def dkwX2_takes_0 : List UInt8 := [42, 182, 0, 43, 27, 160, 0, 7, 4, 167, 0, 4, 3, 61, 42, 89, 180, 0, 36, 28, 153, 0, 7, 4]
abbrev dktX2_takes_0 : List UInt8 := dkwX2_takes_0 ++ dktX2_takes_1
theorem dksX2_takes_0 : cX2_takes.data.toList.drop 0 = dktX2_takes_0 := by decide +kernel
theorem dksX2_takes_1 : cX2_takes.data.toList.drop 24 = dktX2_takes_1 := dk_seg dksX2_takes_0 24 rfl rfl
theorem dX2_takes_0 : decode cX2_takes 0 = .ok (.aload_n 0, 1) := dk_42 (dk_at dksX2_takes_0 0 rfl rfl)
theorem dX2_takes_1 : decode cX2_takes 1 = .ok (.invokevirtual 43, 3) := dk_182 0 43 (dk_at dksX2_takes_0 1 rfl rfl)
theorem dX2_takes_4 : decode cX2_takes 4 = .ok (.iload_n 1, 1) := dk_27 (dk_at dksX2_takes_0 4 rfl rfl)
theorem dX2_takes_5 : decode cX2_takes 5 = .ok (.if_icmp .ne 7, 3) := dk_160 0 7 (dk_at dksX2_takes_0 5 rfl rfl)
theorem dX2_takes_8 : decode cX2_takes 8 = .ok (.iconst 1, 1) := dk_4 (dk_at dksX2_takes_0 8 rfl rfl)
theorem dX2_takes_9 : decode cX2_takes 9 = .ok (.goto 4, 3) := dk_167 0 4 (dk_at dksX2_takes_0 9 rfl rfl)
theorem dX2_takes_12 : decode cX2_takes 12 = .ok (.iconst 0, 1) := dk_3 (dk_at dksX2_takes_0 12 rfl rfl)
theorem dX2_takes_13 : decode cX2_takes 13 = .ok (.istore_n 2, 1) := dk_61 (dk_at dksX2_takes_0 13 rfl rfl)
theorem dX2_takes_14 : decode cX2_takes 14 = .ok (.aload_n 0, 1) := dk_42 (dk_at dksX2_takes_0 14 rfl rfl)
theorem dX2_takes_15 : decode cX2_takes 15 = .ok (.dup, 1) := dk_89 (dk_at dksX2_takes_0 15 rfl rfl)
theorem dX2_takes_16 : decode cX2_takes 16 = .ok (.getfield 36, 3) := dk_180 0 36 (dk_at dksX2_takes_0 16 rfl rfl)
theorem dX2_takes_19 : decode cX2_takes 19 = .ok (.iload_n 2, 1) := dk_28 (dk_at dksX2_takes_0 19 rfl rfl)
theorem dX2_takes_20 : decode cX2_takes 20 = .ok (.ifCond .eq 7, 3) := dk_153 0 7 (dk_at dksX2_takes_0 20 rfl rfl)
theorem dX2_takes_23 : decode cX2_takes 23 = .ok (.iconst 1, 1) := dk_4 (dk_at dksX2_takes_0 23 rfl rfl)
theorem dX2_takes_24 : decode cX2_takes 24 = .ok (.goto 4, 3) := dk_167 0 4 (dk_at dksX2_takes_1 0 rfl rfl)
theorem dX2_takes_27 : decode cX2_takes 27 = .ok (.iconst 0, 1) := dk_3 (dk_at dksX2_takes_1 3 rfl rfl)
theorem dX2_takes_28 : decode cX2_takes 28 = .ok (.iadd, 1) := dk_96 (dk_at dksX2_takes_1 4 rfl rfl)
theorem dX2_takes_29 : decode cX2_takes 29 = .ok (.putfield 36, 3) := dk_181 0 36 (dk_at dksX2_takes_1 5 rfl rfl)
theorem dX2_takes_32 : decode cX2_takes 32 = .ok (.iload_n 2, 1) := dk_28 (dk_at dksX2_takes_1 8 rfl rfl)
theorem dX2_takes_33 : decode cX2_takes 33 = .ok (.ireturn, 1) := dk_172 (dk_at dksX2_takes_1 9 rfl rfl)
abbrev cX2_test : ByteArray := prog_16_method_26_code
def yX2_test : MethodName := ⟨RX2, "test", "()LTurnedBoards$Test;"⟩
def dkwX2_test_2 : List UInt8 := [167, 255, 232, 43, 176]
abbrev dktX2_test_2 : List UInt8 := dkwX2_test_2 ++ []
def dkwX2_test_1 : List UInt8 := [19, 1, 43, 182, 1, 45, 153, 0, 20, 43, 180, 1, 37, 42, 182, 1, 40, 185, 0, 159, 2, 0, 87]
abbrev dktX2_test_1 : List UInt8 := dkwX2_test_1 ++ dktX2_test_2
def dkwX2_test_0 : List UInt8 := [187, 1, 32, 89, 3, 183, 1, 34, 76, 43, 180, 1, 37, 42, 182, 1, 40, 185, 0, 159, 2, 0, 87, 42]
abbrev dktX2_test_0 : List UInt8 := dkwX2_test_0 ++ dktX2_test_1
theorem dksX2_test_0 : cX2_test.data.toList.drop 0 = dktX2_test_0 := by decide +kernel
theorem dksX2_test_1 : cX2_test.data.toList.drop 24 = dktX2_test_1 := dk_seg dksX2_test_0 24 rfl rfl
theorem dksX2_test_2 : cX2_test.data.toList.drop 47 = dktX2_test_2 := dk_seg dksX2_test_1 23 rfl rfl
theorem dX2_test_0 : decode cX2_test 0 = .ok (.new 288, 3) := dk_187 1 32 (dk_at dksX2_test_0 0 rfl rfl)
theorem dX2_test_3 : decode cX2_test 3 = .ok (.dup, 1) := dk_89 (dk_at dksX2_test_0 3 rfl rfl)
theorem dX2_test_4 : decode cX2_test 4 = .ok (.iconst 0, 1) := dk_3 (dk_at dksX2_test_0 4 rfl rfl)
theorem dX2_test_5 : decode cX2_test 5 = .ok (.invokespecial 290, 3) := dk_183 1 34 (dk_at dksX2_test_0 5 rfl rfl)
theorem dX2_test_8 : decode cX2_test 8 = .ok (.astore_n 1, 1) := dk_76 (dk_at dksX2_test_0 8 rfl rfl)
theorem dX2_test_9 : decode cX2_test 9 = .ok (.aload_n 1, 1) := dk_43 (dk_at dksX2_test_0 9 rfl rfl)
theorem dX2_test_10 : decode cX2_test 10 = .ok (.getfield 293, 3) := dk_180 1 37 (dk_at dksX2_test_0 10 rfl rfl)
theorem dX2_test_13 : decode cX2_test 13 = .ok (.aload_n 0, 1) := dk_42 (dk_at dksX2_test_0 13 rfl rfl)
theorem dX2_test_14 : decode cX2_test 14 = .ok (.invokevirtual 296, 3) := dk_182 1 40 (dk_at dksX2_test_0 14 rfl rfl)
theorem dX2_test_17 : decode cX2_test 17 = .ok (.invokeinterface 159 2, 5) := by decide +kernel
theorem dX2_test_22 : decode cX2_test 22 = .ok (.pop, 1) := dk_87 (dk_at dksX2_test_0 22 rfl rfl)
theorem dX2_test_23 : decode cX2_test 23 = .ok (.aload_n 0, 1) := dk_42 (dk_at dksX2_test_0 23 rfl rfl)
theorem dX2_test_24 : decode cX2_test 24 = .ok (.ldc_w 299, 3) := dk_19 1 43 (dk_at dksX2_test_1 0 rfl rfl)
theorem dX2_test_27 : decode cX2_test 27 = .ok (.invokevirtual 301, 3) := dk_182 1 45 (dk_at dksX2_test_1 3 rfl rfl)
theorem dX2_test_30 : decode cX2_test 30 = .ok (.ifCond .eq 20, 3) := dk_153 0 20 (dk_at dksX2_test_1 6 rfl rfl)
theorem dX2_test_33 : decode cX2_test 33 = .ok (.aload_n 1, 1) := dk_43 (dk_at dksX2_test_1 9 rfl rfl)
theorem dX2_test_34 : decode cX2_test 34 = .ok (.getfield 293, 3) := dk_180 1 37 (dk_at dksX2_test_1 10 rfl rfl)
theorem dX2_test_37 : decode cX2_test 37 = .ok (.aload_n 0, 1) := dk_42 (dk_at dksX2_test_1 13 rfl rfl)
theorem dX2_test_38 : decode cX2_test 38 = .ok (.invokevirtual 296, 3) := dk_182 1 40 (dk_at dksX2_test_1 14 rfl rfl)
theorem dX2_test_41 : decode cX2_test 41 = .ok (.invokeinterface 159 2, 5) := by decide +kernel
theorem dX2_test_46 : decode cX2_test 46 = .ok (.pop, 1) := dk_87 (dk_at dksX2_test_1 22 rfl rfl)
theorem dX2_test_47 : decode cX2_test 47 = .ok (.goto (-24), 3) := dk_167 255 232 (dk_at dksX2_test_2 0 rfl rfl)
theorem dX2_test_50 : decode cX2_test 50 = .ok (.aload_n 1, 1) := dk_43 (dk_at dksX2_test_2 3 rfl rfl)
theorem dX2_test_51 : decode cX2_test 51 = .ok (.areturn, 1) := dk_176 (dk_at dksX2_test_2 4 rfl rfl)
abbrev cX2_both : ByteArray := prog_16_method_27_code
def yX2_both : MethodName := ⟨RX2, "both", "()LTurnedBoards$Test;"⟩
def dkwX2_both_2 : List UInt8 := [167, 255, 232, 43, 176]
abbrev dktX2_both_2 : List UInt8 := dkwX2_both_2 ++ []
def dkwX2_both_1 : List UInt8 := [19, 1, 52, 182, 1, 45, 153, 0, 20, 43, 180, 1, 37, 42, 182, 1, 49, 185, 0, 159, 2, 0, 87]
abbrev dktX2_both_1 : List UInt8 := dkwX2_both_1 ++ dktX2_both_2
def dkwX2_both_0 : List UInt8 := [187, 1, 32, 89, 4, 183, 1, 34, 76, 43, 180, 1, 37, 42, 182, 1, 49, 185, 0, 159, 2, 0, 87, 42]
abbrev dktX2_both_0 : List UInt8 := dkwX2_both_0 ++ dktX2_both_1
theorem dksX2_both_0 : cX2_both.data.toList.drop 0 = dktX2_both_0 := by decide +kernel
theorem dksX2_both_1 : cX2_both.data.toList.drop 24 = dktX2_both_1 := dk_seg dksX2_both_0 24 rfl rfl
theorem dksX2_both_2 : cX2_both.data.toList.drop 47 = dktX2_both_2 := dk_seg dksX2_both_1 23 rfl rfl
theorem dX2_both_0 : decode cX2_both 0 = .ok (.new 288, 3) := dk_187 1 32 (dk_at dksX2_both_0 0 rfl rfl)
theorem dX2_both_3 : decode cX2_both 3 = .ok (.dup, 1) := dk_89 (dk_at dksX2_both_0 3 rfl rfl)
theorem dX2_both_4 : decode cX2_both 4 = .ok (.iconst 1, 1) := dk_4 (dk_at dksX2_both_0 4 rfl rfl)
theorem dX2_both_5 : decode cX2_both 5 = .ok (.invokespecial 290, 3) := dk_183 1 34 (dk_at dksX2_both_0 5 rfl rfl)
theorem dX2_both_8 : decode cX2_both 8 = .ok (.astore_n 1, 1) := dk_76 (dk_at dksX2_both_0 8 rfl rfl)
theorem dX2_both_9 : decode cX2_both 9 = .ok (.aload_n 1, 1) := dk_43 (dk_at dksX2_both_0 9 rfl rfl)
theorem dX2_both_10 : decode cX2_both 10 = .ok (.getfield 293, 3) := dk_180 1 37 (dk_at dksX2_both_0 10 rfl rfl)
theorem dX2_both_13 : decode cX2_both 13 = .ok (.aload_n 0, 1) := dk_42 (dk_at dksX2_both_0 13 rfl rfl)
theorem dX2_both_14 : decode cX2_both 14 = .ok (.invokevirtual 305, 3) := dk_182 1 49 (dk_at dksX2_both_0 14 rfl rfl)
theorem dX2_both_17 : decode cX2_both 17 = .ok (.invokeinterface 159 2, 5) := by decide +kernel
theorem dX2_both_22 : decode cX2_both 22 = .ok (.pop, 1) := dk_87 (dk_at dksX2_both_0 22 rfl rfl)
theorem dX2_both_23 : decode cX2_both 23 = .ok (.aload_n 0, 1) := dk_42 (dk_at dksX2_both_0 23 rfl rfl)
theorem dX2_both_24 : decode cX2_both 24 = .ok (.ldc_w 308, 3) := dk_19 1 52 (dk_at dksX2_both_1 0 rfl rfl)
theorem dX2_both_27 : decode cX2_both 27 = .ok (.invokevirtual 301, 3) := dk_182 1 45 (dk_at dksX2_both_1 3 rfl rfl)
theorem dX2_both_30 : decode cX2_both 30 = .ok (.ifCond .eq 20, 3) := dk_153 0 20 (dk_at dksX2_both_1 6 rfl rfl)
theorem dX2_both_33 : decode cX2_both 33 = .ok (.aload_n 1, 1) := dk_43 (dk_at dksX2_both_1 9 rfl rfl)
theorem dX2_both_34 : decode cX2_both 34 = .ok (.getfield 293, 3) := dk_180 1 37 (dk_at dksX2_both_1 10 rfl rfl)
theorem dX2_both_37 : decode cX2_both 37 = .ok (.aload_n 0, 1) := dk_42 (dk_at dksX2_both_1 13 rfl rfl)
theorem dX2_both_38 : decode cX2_both 38 = .ok (.invokevirtual 305, 3) := dk_182 1 49 (dk_at dksX2_both_1 14 rfl rfl)
theorem dX2_both_41 : decode cX2_both 41 = .ok (.invokeinterface 159 2, 5) := by decide +kernel
theorem dX2_both_46 : decode cX2_both 46 = .ok (.pop, 1) := dk_87 (dk_at dksX2_both_1 22 rfl rfl)
theorem dX2_both_47 : decode cX2_both 47 = .ok (.goto (-24), 3) := dk_167 255 232 (dk_at dksX2_both_2 0 rfl rfl)
theorem dX2_both_50 : decode cX2_both 50 = .ok (.aload_n 1, 1) := dk_43 (dk_at dksX2_both_2 3 rfl rfl)
theorem dX2_both_51 : decode cX2_both 51 = .ok (.areturn, 1) := dk_176 (dk_at dksX2_both_2 4 rfl rfl)
abbrev cX2_fact : ByteArray := prog_16_method_28_code
def yX2_fact : MethodName := ⟨RX2, "fact", "()LTurnedBoards$Test;"⟩
def dkwX2_fact_7 : List UInt8 := [183, 1, 68, 176]
abbrev dktX2_fact_7 : List UInt8 := dkwX2_fact_7 ++ []
def dkwX2_fact_6 : List UInt8 := [182, 0, 47, 191, 42, 89, 180, 0, 36, 4, 96, 181, 0, 36, 187, 1, 66, 89, 43, 28, 42, 182, 0, 218]
abbrev dktX2_fact_6 : List UInt8 := dkwX2_fact_6 ++ dktX2_fact_7
def dkwX2_fact_5 : List UInt8 := [28, 16, 60, 159, 0, 25, 28, 16, 62, 159, 0, 19, 28, 16, 61, 159, 0, 13, 42, 4, 42, 180, 0, 36]
abbrev dktX2_fact_5 : List UInt8 := dkwX2_fact_5 ++ dktX2_fact_6
def dkwX2_fact_4 : List UInt8 := [182, 1, 45, 153, 0, 11, 187, 1, 63, 89, 183, 1, 65, 176, 42, 182, 0, 218, 76, 42, 182, 0, 43, 61]
abbrev dktX2_fact_4 : List UInt8 := dkwX2_fact_4 ++ dktX2_fact_5
def dkwX2_fact_3 : List UInt8 := [42, 182, 1, 49, 183, 1, 58, 76, 42, 89, 180, 0, 107, 4, 100, 181, 0, 107, 43, 176, 42, 19, 1, 61]
abbrev dktX2_fact_3 : List UInt8 := dkwX2_fact_3 ++ dktX2_fact_4
def dkwX2_fact_2 : List UInt8 := [43, 176, 42, 19, 1, 54, 182, 1, 45, 153, 0, 35, 42, 42, 180, 0, 61, 182, 0, 250, 187, 1, 56, 89]
abbrev dktX2_fact_2 : List UInt8 := dkwX2_fact_2 ++ dktX2_fact_3
def dkwX2_fact_1 : List UInt8 := [181, 0, 36, 42, 182, 0, 225, 76, 42, 16, 93, 182, 0, 125, 42, 89, 180, 0, 107, 4, 100, 181, 0, 107]
abbrev dktX2_fact_1 : List UInt8 := dkwX2_fact_1 ++ dktX2_fact_2
def dkwX2_fact_0 : List UInt8 := [42, 182, 0, 43, 16, 91, 160, 0, 44, 42, 42, 180, 0, 36, 182, 0, 250, 42, 89, 180, 0, 36, 4, 96]
abbrev dktX2_fact_0 : List UInt8 := dkwX2_fact_0 ++ dktX2_fact_1
theorem dksX2_fact_0 : cX2_fact.data.toList.drop 0 = dktX2_fact_0 := by decide +kernel
theorem dksX2_fact_1 : cX2_fact.data.toList.drop 24 = dktX2_fact_1 := dk_seg dksX2_fact_0 24 rfl rfl
theorem dksX2_fact_2 : cX2_fact.data.toList.drop 48 = dktX2_fact_2 := dk_seg dksX2_fact_1 24 rfl rfl
theorem dksX2_fact_3 : cX2_fact.data.toList.drop 72 = dktX2_fact_3 := dk_seg dksX2_fact_2 24 rfl rfl
theorem dksX2_fact_4 : cX2_fact.data.toList.drop 96 = dktX2_fact_4 := dk_seg dksX2_fact_3 24 rfl rfl
theorem dksX2_fact_5 : cX2_fact.data.toList.drop 120 = dktX2_fact_5 := dk_seg dksX2_fact_4 24 rfl rfl
theorem dksX2_fact_6 : cX2_fact.data.toList.drop 144 = dktX2_fact_6 := dk_seg dksX2_fact_5 24 rfl rfl
theorem dksX2_fact_7 : cX2_fact.data.toList.drop 168 = dktX2_fact_7 := dk_seg dksX2_fact_6 24 rfl rfl
theorem dX2_fact_0 : decode cX2_fact 0 = .ok (.aload_n 0, 1) := dk_42 (dk_at dksX2_fact_0 0 rfl rfl)
theorem dX2_fact_1 : decode cX2_fact 1 = .ok (.invokevirtual 43, 3) := dk_182 0 43 (dk_at dksX2_fact_0 1 rfl rfl)
theorem dX2_fact_4 : decode cX2_fact 4 = .ok (.bipush 91, 2) := dk_16 91 (dk_at dksX2_fact_0 4 rfl rfl)
theorem dX2_fact_6 : decode cX2_fact 6 = .ok (.if_icmp .ne 44, 3) := dk_160 0 44 (dk_at dksX2_fact_0 6 rfl rfl)
theorem dX2_fact_9 : decode cX2_fact 9 = .ok (.aload_n 0, 1) := dk_42 (dk_at dksX2_fact_0 9 rfl rfl)
theorem dX2_fact_10 : decode cX2_fact 10 = .ok (.aload_n 0, 1) := dk_42 (dk_at dksX2_fact_0 10 rfl rfl)
theorem dX2_fact_11 : decode cX2_fact 11 = .ok (.getfield 36, 3) := dk_180 0 36 (dk_at dksX2_fact_0 11 rfl rfl)
theorem dX2_fact_14 : decode cX2_fact 14 = .ok (.invokevirtual 250, 3) := dk_182 0 250 (dk_at dksX2_fact_0 14 rfl rfl)
theorem dX2_fact_17 : decode cX2_fact 17 = .ok (.aload_n 0, 1) := dk_42 (dk_at dksX2_fact_0 17 rfl rfl)
theorem dX2_fact_18 : decode cX2_fact 18 = .ok (.dup, 1) := dk_89 (dk_at dksX2_fact_0 18 rfl rfl)
theorem dX2_fact_19 : decode cX2_fact 19 = .ok (.getfield 36, 3) := dk_180 0 36 (dk_at dksX2_fact_0 19 rfl rfl)
theorem dX2_fact_22 : decode cX2_fact 22 = .ok (.iconst 1, 1) := dk_4 (dk_at dksX2_fact_0 22 rfl rfl)
theorem dX2_fact_23 : decode cX2_fact 23 = .ok (.iadd, 1) := dk_96 (dk_at dksX2_fact_0 23 rfl rfl)
theorem dX2_fact_24 : decode cX2_fact 24 = .ok (.putfield 36, 3) := dk_181 0 36 (dk_at dksX2_fact_1 0 rfl rfl)
theorem dX2_fact_27 : decode cX2_fact 27 = .ok (.aload_n 0, 1) := dk_42 (dk_at dksX2_fact_1 3 rfl rfl)
theorem dX2_fact_28 : decode cX2_fact 28 = .ok (.invokevirtual 225, 3) := dk_182 0 225 (dk_at dksX2_fact_1 4 rfl rfl)
theorem dX2_fact_31 : decode cX2_fact 31 = .ok (.astore_n 1, 1) := dk_76 (dk_at dksX2_fact_1 7 rfl rfl)
theorem dX2_fact_32 : decode cX2_fact 32 = .ok (.aload_n 0, 1) := dk_42 (dk_at dksX2_fact_1 8 rfl rfl)
theorem dX2_fact_33 : decode cX2_fact 33 = .ok (.bipush 93, 2) := dk_16 93 (dk_at dksX2_fact_1 9 rfl rfl)
theorem dX2_fact_35 : decode cX2_fact 35 = .ok (.invokevirtual 125, 3) := dk_182 0 125 (dk_at dksX2_fact_1 11 rfl rfl)
theorem dX2_fact_38 : decode cX2_fact 38 = .ok (.aload_n 0, 1) := dk_42 (dk_at dksX2_fact_1 14 rfl rfl)
theorem dX2_fact_39 : decode cX2_fact 39 = .ok (.dup, 1) := dk_89 (dk_at dksX2_fact_1 15 rfl rfl)
theorem dX2_fact_40 : decode cX2_fact 40 = .ok (.getfield 107, 3) := dk_180 0 107 (dk_at dksX2_fact_1 16 rfl rfl)
theorem dX2_fact_43 : decode cX2_fact 43 = .ok (.iconst 1, 1) := dk_4 (dk_at dksX2_fact_1 19 rfl rfl)
theorem dX2_fact_44 : decode cX2_fact 44 = .ok (.isub, 1) := dk_100 (dk_at dksX2_fact_1 20 rfl rfl)
theorem dX2_fact_45 : decode cX2_fact 45 = .ok (.putfield 107, 3) := dk_181 0 107 (dk_at dksX2_fact_1 21 rfl rfl)
theorem dX2_fact_48 : decode cX2_fact 48 = .ok (.aload_n 1, 1) := dk_43 (dk_at dksX2_fact_2 0 rfl rfl)
theorem dX2_fact_49 : decode cX2_fact 49 = .ok (.areturn, 1) := dk_176 (dk_at dksX2_fact_2 1 rfl rfl)
theorem dX2_fact_50 : decode cX2_fact 50 = .ok (.aload_n 0, 1) := dk_42 (dk_at dksX2_fact_2 2 rfl rfl)
theorem dX2_fact_51 : decode cX2_fact 51 = .ok (.ldc_w 310, 3) := dk_19 1 54 (dk_at dksX2_fact_2 3 rfl rfl)
theorem dX2_fact_54 : decode cX2_fact 54 = .ok (.invokevirtual 301, 3) := dk_182 1 45 (dk_at dksX2_fact_2 6 rfl rfl)
theorem dX2_fact_57 : decode cX2_fact 57 = .ok (.ifCond .eq 35, 3) := dk_153 0 35 (dk_at dksX2_fact_2 9 rfl rfl)
theorem dX2_fact_60 : decode cX2_fact 60 = .ok (.aload_n 0, 1) := dk_42 (dk_at dksX2_fact_2 12 rfl rfl)
theorem dX2_fact_61 : decode cX2_fact 61 = .ok (.aload_n 0, 1) := dk_42 (dk_at dksX2_fact_2 13 rfl rfl)
theorem dX2_fact_62 : decode cX2_fact 62 = .ok (.getfield 61, 3) := dk_180 0 61 (dk_at dksX2_fact_2 14 rfl rfl)
theorem dX2_fact_65 : decode cX2_fact 65 = .ok (.invokevirtual 250, 3) := dk_182 0 250 (dk_at dksX2_fact_2 17 rfl rfl)
theorem dX2_fact_68 : decode cX2_fact 68 = .ok (.new 312, 3) := dk_187 1 56 (dk_at dksX2_fact_2 20 rfl rfl)
theorem dX2_fact_71 : decode cX2_fact 71 = .ok (.dup, 1) := dk_89 (dk_at dksX2_fact_2 23 rfl rfl)
theorem dX2_fact_72 : decode cX2_fact 72 = .ok (.aload_n 0, 1) := dk_42 (dk_at dksX2_fact_3 0 rfl rfl)
theorem dX2_fact_73 : decode cX2_fact 73 = .ok (.invokevirtual 305, 3) := dk_182 1 49 (dk_at dksX2_fact_3 1 rfl rfl)
theorem dX2_fact_76 : decode cX2_fact 76 = .ok (.invokespecial 314, 3) := dk_183 1 58 (dk_at dksX2_fact_3 4 rfl rfl)
theorem dX2_fact_79 : decode cX2_fact 79 = .ok (.astore_n 1, 1) := dk_76 (dk_at dksX2_fact_3 7 rfl rfl)
theorem dX2_fact_80 : decode cX2_fact 80 = .ok (.aload_n 0, 1) := dk_42 (dk_at dksX2_fact_3 8 rfl rfl)
theorem dX2_fact_81 : decode cX2_fact 81 = .ok (.dup, 1) := dk_89 (dk_at dksX2_fact_3 9 rfl rfl)
theorem dX2_fact_82 : decode cX2_fact 82 = .ok (.getfield 107, 3) := dk_180 0 107 (dk_at dksX2_fact_3 10 rfl rfl)
theorem dX2_fact_85 : decode cX2_fact 85 = .ok (.iconst 1, 1) := dk_4 (dk_at dksX2_fact_3 13 rfl rfl)
theorem dX2_fact_86 : decode cX2_fact 86 = .ok (.isub, 1) := dk_100 (dk_at dksX2_fact_3 14 rfl rfl)
theorem dX2_fact_87 : decode cX2_fact 87 = .ok (.putfield 107, 3) := dk_181 0 107 (dk_at dksX2_fact_3 15 rfl rfl)
theorem dX2_fact_90 : decode cX2_fact 90 = .ok (.aload_n 1, 1) := dk_43 (dk_at dksX2_fact_3 18 rfl rfl)
theorem dX2_fact_91 : decode cX2_fact 91 = .ok (.areturn, 1) := dk_176 (dk_at dksX2_fact_3 19 rfl rfl)
theorem dX2_fact_92 : decode cX2_fact 92 = .ok (.aload_n 0, 1) := dk_42 (dk_at dksX2_fact_3 20 rfl rfl)
theorem dX2_fact_93 : decode cX2_fact 93 = .ok (.ldc_w 317, 3) := dk_19 1 61 (dk_at dksX2_fact_3 21 rfl rfl)
theorem dX2_fact_96 : decode cX2_fact 96 = .ok (.invokevirtual 301, 3) := dk_182 1 45 (dk_at dksX2_fact_4 0 rfl rfl)
theorem dX2_fact_99 : decode cX2_fact 99 = .ok (.ifCond .eq 11, 3) := dk_153 0 11 (dk_at dksX2_fact_4 3 rfl rfl)
theorem dX2_fact_102 : decode cX2_fact 102 = .ok (.new 319, 3) := dk_187 1 63 (dk_at dksX2_fact_4 6 rfl rfl)
theorem dX2_fact_105 : decode cX2_fact 105 = .ok (.dup, 1) := dk_89 (dk_at dksX2_fact_4 9 rfl rfl)
theorem dX2_fact_106 : decode cX2_fact 106 = .ok (.invokespecial 321, 3) := dk_183 1 65 (dk_at dksX2_fact_4 10 rfl rfl)
theorem dX2_fact_109 : decode cX2_fact 109 = .ok (.areturn, 1) := dk_176 (dk_at dksX2_fact_4 13 rfl rfl)
theorem dX2_fact_110 : decode cX2_fact 110 = .ok (.aload_n 0, 1) := dk_42 (dk_at dksX2_fact_4 14 rfl rfl)
theorem dX2_fact_111 : decode cX2_fact 111 = .ok (.invokevirtual 218, 3) := dk_182 0 218 (dk_at dksX2_fact_4 15 rfl rfl)
theorem dX2_fact_114 : decode cX2_fact 114 = .ok (.astore_n 1, 1) := dk_76 (dk_at dksX2_fact_4 18 rfl rfl)
theorem dX2_fact_115 : decode cX2_fact 115 = .ok (.aload_n 0, 1) := dk_42 (dk_at dksX2_fact_4 19 rfl rfl)
theorem dX2_fact_116 : decode cX2_fact 116 = .ok (.invokevirtual 43, 3) := dk_182 0 43 (dk_at dksX2_fact_4 20 rfl rfl)
theorem dX2_fact_119 : decode cX2_fact 119 = .ok (.istore_n 2, 1) := dk_61 (dk_at dksX2_fact_4 23 rfl rfl)
theorem dX2_fact_120 : decode cX2_fact 120 = .ok (.iload_n 2, 1) := dk_28 (dk_at dksX2_fact_5 0 rfl rfl)
theorem dX2_fact_121 : decode cX2_fact 121 = .ok (.bipush 60, 2) := dk_16 60 (dk_at dksX2_fact_5 1 rfl rfl)
theorem dX2_fact_123 : decode cX2_fact 123 = .ok (.if_icmp .eq 25, 3) := dk_159 0 25 (dk_at dksX2_fact_5 3 rfl rfl)
theorem dX2_fact_126 : decode cX2_fact 126 = .ok (.iload_n 2, 1) := dk_28 (dk_at dksX2_fact_5 6 rfl rfl)
theorem dX2_fact_127 : decode cX2_fact 127 = .ok (.bipush 62, 2) := dk_16 62 (dk_at dksX2_fact_5 7 rfl rfl)
theorem dX2_fact_129 : decode cX2_fact 129 = .ok (.if_icmp .eq 19, 3) := dk_159 0 19 (dk_at dksX2_fact_5 9 rfl rfl)
theorem dX2_fact_132 : decode cX2_fact 132 = .ok (.iload_n 2, 1) := dk_28 (dk_at dksX2_fact_5 12 rfl rfl)
theorem dX2_fact_133 : decode cX2_fact 133 = .ok (.bipush 61, 2) := dk_16 61 (dk_at dksX2_fact_5 13 rfl rfl)
theorem dX2_fact_135 : decode cX2_fact 135 = .ok (.if_icmp .eq 13, 3) := dk_159 0 13 (dk_at dksX2_fact_5 15 rfl rfl)
theorem dX2_fact_138 : decode cX2_fact 138 = .ok (.aload_n 0, 1) := dk_42 (dk_at dksX2_fact_5 18 rfl rfl)
theorem dX2_fact_139 : decode cX2_fact 139 = .ok (.iconst 1, 1) := dk_4 (dk_at dksX2_fact_5 19 rfl rfl)
theorem dX2_fact_140 : decode cX2_fact 140 = .ok (.aload_n 0, 1) := dk_42 (dk_at dksX2_fact_5 20 rfl rfl)
theorem dX2_fact_141 : decode cX2_fact 141 = .ok (.getfield 36, 3) := dk_180 0 36 (dk_at dksX2_fact_5 21 rfl rfl)
theorem dX2_fact_144 : decode cX2_fact 144 = .ok (.invokevirtual 47, 3) := dk_182 0 47 (dk_at dksX2_fact_6 0 rfl rfl)
theorem dX2_fact_147 : decode cX2_fact 147 = .ok (.athrow, 1) := dk_191 (dk_at dksX2_fact_6 3 rfl rfl)
theorem dX2_fact_148 : decode cX2_fact 148 = .ok (.aload_n 0, 1) := dk_42 (dk_at dksX2_fact_6 4 rfl rfl)
theorem dX2_fact_149 : decode cX2_fact 149 = .ok (.dup, 1) := dk_89 (dk_at dksX2_fact_6 5 rfl rfl)
theorem dX2_fact_150 : decode cX2_fact 150 = .ok (.getfield 36, 3) := dk_180 0 36 (dk_at dksX2_fact_6 6 rfl rfl)
theorem dX2_fact_153 : decode cX2_fact 153 = .ok (.iconst 1, 1) := dk_4 (dk_at dksX2_fact_6 9 rfl rfl)
theorem dX2_fact_154 : decode cX2_fact 154 = .ok (.iadd, 1) := dk_96 (dk_at dksX2_fact_6 10 rfl rfl)
theorem dX2_fact_155 : decode cX2_fact 155 = .ok (.putfield 36, 3) := dk_181 0 36 (dk_at dksX2_fact_6 11 rfl rfl)
theorem dX2_fact_158 : decode cX2_fact 158 = .ok (.new 322, 3) := dk_187 1 66 (dk_at dksX2_fact_6 14 rfl rfl)
theorem dX2_fact_161 : decode cX2_fact 161 = .ok (.dup, 1) := dk_89 (dk_at dksX2_fact_6 17 rfl rfl)
theorem dX2_fact_162 : decode cX2_fact 162 = .ok (.aload_n 1, 1) := dk_43 (dk_at dksX2_fact_6 18 rfl rfl)
theorem dX2_fact_163 : decode cX2_fact 163 = .ok (.iload_n 2, 1) := dk_28 (dk_at dksX2_fact_6 19 rfl rfl)
theorem dX2_fact_164 : decode cX2_fact 164 = .ok (.aload_n 0, 1) := dk_42 (dk_at dksX2_fact_6 20 rfl rfl)
theorem dX2_fact_165 : decode cX2_fact 165 = .ok (.invokevirtual 218, 3) := dk_182 0 218 (dk_at dksX2_fact_6 21 rfl rfl)
theorem dX2_fact_168 : decode cX2_fact 168 = .ok (.invokespecial 324, 3) := dk_183 1 68 (dk_at dksX2_fact_7 0 rfl rfl)
theorem dX2_fact_171 : decode cX2_fact 171 = .ok (.areturn, 1) := dk_176 (dk_at dksX2_fact_7 3 rfl rfl)
abbrev cX2_passes : ByteArray := prog_16_method_9_code
def yX2_passes : MethodName := ⟨RX2, "passes", "(Ljava/lang/String;)Z"⟩
def dkwX2_passes_1 : List UInt8 := [182, 0, 74, 153, 0, 5, 4, 172, 42, 28, 181, 0, 36, 3, 172]
abbrev dktX2_passes_1 : List UInt8 := dkwX2_passes_1 ++ []
def dkwX2_passes_0 : List UInt8 := [42, 180, 0, 36, 61, 42, 182, 0, 43, 184, 0, 51, 154, 0, 5, 3, 172, 42, 182, 0, 70, 43]
abbrev dktX2_passes_0 : List UInt8 := dkwX2_passes_0 ++ dktX2_passes_1
theorem dksX2_passes_0 : cX2_passes.data.toList.drop 0 = dktX2_passes_0 := by decide +kernel
theorem dksX2_passes_1 : cX2_passes.data.toList.drop 22 = dktX2_passes_1 := dk_seg dksX2_passes_0 22 rfl rfl
theorem dX2_passes_0 : decode cX2_passes 0 = .ok (.aload_n 0, 1) := dk_42 (dk_at dksX2_passes_0 0 rfl rfl)
theorem dX2_passes_1 : decode cX2_passes 1 = .ok (.getfield 36, 3) := dk_180 0 36 (dk_at dksX2_passes_0 1 rfl rfl)
theorem dX2_passes_4 : decode cX2_passes 4 = .ok (.istore_n 2, 1) := dk_61 (dk_at dksX2_passes_0 4 rfl rfl)
theorem dX2_passes_5 : decode cX2_passes 5 = .ok (.aload_n 0, 1) := dk_42 (dk_at dksX2_passes_0 5 rfl rfl)
theorem dX2_passes_6 : decode cX2_passes 6 = .ok (.invokevirtual 43, 3) := dk_182 0 43 (dk_at dksX2_passes_0 6 rfl rfl)
theorem dX2_passes_9 : decode cX2_passes 9 = .ok (.invokestatic 51, 3) := dk_184 0 51 (dk_at dksX2_passes_0 9 rfl rfl)
theorem dX2_passes_12 : decode cX2_passes 12 = .ok (.ifCond .ne 5, 3) := dk_154 0 5 (dk_at dksX2_passes_0 12 rfl rfl)
theorem dX2_passes_15 : decode cX2_passes 15 = .ok (.iconst 0, 1) := dk_3 (dk_at dksX2_passes_0 15 rfl rfl)
theorem dX2_passes_16 : decode cX2_passes 16 = .ok (.ireturn, 1) := dk_172 (dk_at dksX2_passes_0 16 rfl rfl)
theorem dX2_passes_17 : decode cX2_passes 17 = .ok (.aload_n 0, 1) := dk_42 (dk_at dksX2_passes_0 17 rfl rfl)
theorem dX2_passes_18 : decode cX2_passes 18 = .ok (.invokevirtual 70, 3) := dk_182 0 70 (dk_at dksX2_passes_0 18 rfl rfl)
theorem dX2_passes_21 : decode cX2_passes 21 = .ok (.aload_n 1, 1) := dk_43 (dk_at dksX2_passes_0 21 rfl rfl)
theorem dX2_passes_22 : decode cX2_passes 22 = .ok (.invokevirtual 74, 3) := dk_182 0 74 (dk_at dksX2_passes_1 0 rfl rfl)
theorem dX2_passes_25 : decode cX2_passes 25 = .ok (.ifCond .eq 5, 3) := dk_153 0 5 (dk_at dksX2_passes_1 3 rfl rfl)
theorem dX2_passes_28 : decode cX2_passes 28 = .ok (.iconst 1, 1) := dk_4 (dk_at dksX2_passes_1 6 rfl rfl)
theorem dX2_passes_29 : decode cX2_passes 29 = .ok (.ireturn, 1) := dk_172 (dk_at dksX2_passes_1 7 rfl rfl)
theorem dX2_passes_30 : decode cX2_passes 30 = .ok (.aload_n 0, 1) := dk_42 (dk_at dksX2_passes_1 8 rfl rfl)
theorem dX2_passes_31 : decode cX2_passes 31 = .ok (.iload_n 2, 1) := dk_28 (dk_at dksX2_passes_1 9 rfl rfl)
theorem dX2_passes_32 : decode cX2_passes 32 = .ok (.putfield 36, 3) := dk_181 0 36 (dk_at dksX2_passes_1 10 rfl rfl)
theorem dX2_passes_35 : decode cX2_passes 35 = .ok (.iconst 0, 1) := dk_3 (dk_at dksX2_passes_1 13 rfl rfl)
theorem dX2_passes_36 : decode cX2_passes 36 = .ok (.ireturn, 1) := dk_172 (dk_at dksX2_passes_1 14 rfl rfl)
abbrev cX2_question : ByteArray := prog_16_method_30_code
def yX2_question : MethodName := ⟨RX2, "question", "(I)LTurnedBoards$Question;"⟩
def dkwX2_question_4 : List UInt8 := [42, 180, 0, 36, 182, 0, 47, 191, 45, 176]
abbrev dktX2_question_4 : List UInt8 := dkwX2_question_4 ++ []
def dkwX2_question_3 : List UInt8 := [187, 1, 79, 89, 28, 1, 42, 182, 0, 218, 183, 1, 81, 78, 42, 182, 0, 43, 2, 159, 0, 13, 42, 4]
abbrev dktX2_question_3 : List UInt8 := dkwX2_question_3 ++ dktX2_question_4
def dkwX2_question_2 : List UInt8 := [191, 28, 6, 162, 0, 19, 187, 1, 79, 89, 28, 42, 182, 0, 225, 1, 183, 1, 81, 167, 0, 16]
abbrev dktX2_question_2 : List UInt8 := dkwX2_question_2 ++ dktX2_question_3
def dkwX2_question_1 : List UInt8 := [182, 0, 70, 178, 1, 76, 184, 0, 82, 61, 28, 2, 160, 0, 13, 42, 4, 42, 180, 0, 61, 182, 0, 47]
abbrev dktX2_question_1 : List UInt8 := dkwX2_question_1 ++ dktX2_question_2
def dkwX2_question_0 : List UInt8 := [42, 27, 181, 0, 29, 42, 3, 181, 0, 36, 42, 3, 181, 0, 107, 42, 17, 3, 132, 181, 0, 215, 42]
abbrev dktX2_question_0 : List UInt8 := dkwX2_question_0 ++ dktX2_question_1
theorem dksX2_question_0 : cX2_question.data.toList.drop 0 = dktX2_question_0 := by decide +kernel
theorem dksX2_question_1 : cX2_question.data.toList.drop 23 = dktX2_question_1 := dk_seg dksX2_question_0 23 rfl rfl
theorem dksX2_question_2 : cX2_question.data.toList.drop 47 = dktX2_question_2 := dk_seg dksX2_question_1 24 rfl rfl
theorem dksX2_question_3 : cX2_question.data.toList.drop 69 = dktX2_question_3 := dk_seg dksX2_question_2 22 rfl rfl
theorem dksX2_question_4 : cX2_question.data.toList.drop 93 = dktX2_question_4 := dk_seg dksX2_question_3 24 rfl rfl
theorem dX2_question_0 : decode cX2_question 0 = .ok (.aload_n 0, 1) := dk_42 (dk_at dksX2_question_0 0 rfl rfl)
theorem dX2_question_1 : decode cX2_question 1 = .ok (.iload_n 1, 1) := dk_27 (dk_at dksX2_question_0 1 rfl rfl)
theorem dX2_question_2 : decode cX2_question 2 = .ok (.putfield 29, 3) := dk_181 0 29 (dk_at dksX2_question_0 2 rfl rfl)
theorem dX2_question_5 : decode cX2_question 5 = .ok (.aload_n 0, 1) := dk_42 (dk_at dksX2_question_0 5 rfl rfl)
theorem dX2_question_6 : decode cX2_question 6 = .ok (.iconst 0, 1) := dk_3 (dk_at dksX2_question_0 6 rfl rfl)
theorem dX2_question_7 : decode cX2_question 7 = .ok (.putfield 36, 3) := dk_181 0 36 (dk_at dksX2_question_0 7 rfl rfl)
theorem dX2_question_10 : decode cX2_question 10 = .ok (.aload_n 0, 1) := dk_42 (dk_at dksX2_question_0 10 rfl rfl)
theorem dX2_question_11 : decode cX2_question 11 = .ok (.iconst 0, 1) := dk_3 (dk_at dksX2_question_0 11 rfl rfl)
theorem dX2_question_12 : decode cX2_question 12 = .ok (.putfield 107, 3) := dk_181 0 107 (dk_at dksX2_question_0 12 rfl rfl)
theorem dX2_question_15 : decode cX2_question 15 = .ok (.aload_n 0, 1) := dk_42 (dk_at dksX2_question_0 15 rfl rfl)
theorem dX2_question_16 : decode cX2_question 16 = .ok (.sipush 900, 3) := dk_17 3 132 (dk_at dksX2_question_0 16 rfl rfl)
theorem dX2_question_19 : decode cX2_question 19 = .ok (.putfield 215, 3) := dk_181 0 215 (dk_at dksX2_question_0 19 rfl rfl)
theorem dX2_question_22 : decode cX2_question 22 = .ok (.aload_n 0, 1) := dk_42 (dk_at dksX2_question_0 22 rfl rfl)
theorem dX2_question_23 : decode cX2_question 23 = .ok (.invokevirtual 70, 3) := dk_182 0 70 (dk_at dksX2_question_1 0 rfl rfl)
theorem dX2_question_26 : decode cX2_question 26 = .ok (.getstatic 332, 3) := dk_178 1 76 (dk_at dksX2_question_1 3 rfl rfl)
theorem dX2_question_29 : decode cX2_question 29 = .ok (.invokestatic 82, 3) := dk_184 0 82 (dk_at dksX2_question_1 6 rfl rfl)
theorem dX2_question_32 : decode cX2_question 32 = .ok (.istore_n 2, 1) := dk_61 (dk_at dksX2_question_1 9 rfl rfl)
theorem dX2_question_33 : decode cX2_question 33 = .ok (.iload_n 2, 1) := dk_28 (dk_at dksX2_question_1 10 rfl rfl)
theorem dX2_question_34 : decode cX2_question 34 = .ok (.iconst (-1), 1) := dk_2 (dk_at dksX2_question_1 11 rfl rfl)
theorem dX2_question_35 : decode cX2_question 35 = .ok (.if_icmp .ne 13, 3) := dk_160 0 13 (dk_at dksX2_question_1 12 rfl rfl)
theorem dX2_question_38 : decode cX2_question 38 = .ok (.aload_n 0, 1) := dk_42 (dk_at dksX2_question_1 15 rfl rfl)
theorem dX2_question_39 : decode cX2_question 39 = .ok (.iconst 1, 1) := dk_4 (dk_at dksX2_question_1 16 rfl rfl)
theorem dX2_question_40 : decode cX2_question 40 = .ok (.aload_n 0, 1) := dk_42 (dk_at dksX2_question_1 17 rfl rfl)
theorem dX2_question_41 : decode cX2_question 41 = .ok (.getfield 61, 3) := dk_180 0 61 (dk_at dksX2_question_1 18 rfl rfl)
theorem dX2_question_44 : decode cX2_question 44 = .ok (.invokevirtual 47, 3) := dk_182 0 47 (dk_at dksX2_question_1 21 rfl rfl)
theorem dX2_question_47 : decode cX2_question 47 = .ok (.athrow, 1) := dk_191 (dk_at dksX2_question_2 0 rfl rfl)
theorem dX2_question_48 : decode cX2_question 48 = .ok (.iload_n 2, 1) := dk_28 (dk_at dksX2_question_2 1 rfl rfl)
theorem dX2_question_49 : decode cX2_question 49 = .ok (.iconst 3, 1) := dk_6 (dk_at dksX2_question_2 2 rfl rfl)
theorem dX2_question_50 : decode cX2_question 50 = .ok (.if_icmp .ge 19, 3) := dk_162 0 19 (dk_at dksX2_question_2 3 rfl rfl)
theorem dX2_question_53 : decode cX2_question 53 = .ok (.new 335, 3) := dk_187 1 79 (dk_at dksX2_question_2 6 rfl rfl)
theorem dX2_question_56 : decode cX2_question 56 = .ok (.dup, 1) := dk_89 (dk_at dksX2_question_2 9 rfl rfl)
theorem dX2_question_57 : decode cX2_question 57 = .ok (.iload_n 2, 1) := dk_28 (dk_at dksX2_question_2 10 rfl rfl)
theorem dX2_question_58 : decode cX2_question 58 = .ok (.aload_n 0, 1) := dk_42 (dk_at dksX2_question_2 11 rfl rfl)
theorem dX2_question_59 : decode cX2_question 59 = .ok (.invokevirtual 225, 3) := dk_182 0 225 (dk_at dksX2_question_2 12 rfl rfl)
theorem dX2_question_62 : decode cX2_question 62 = .ok (.aconst_null, 1) := dk_1 (dk_at dksX2_question_2 15 rfl rfl)
theorem dX2_question_63 : decode cX2_question 63 = .ok (.invokespecial 337, 3) := dk_183 1 81 (dk_at dksX2_question_2 16 rfl rfl)
theorem dX2_question_66 : decode cX2_question 66 = .ok (.goto 16, 3) := dk_167 0 16 (dk_at dksX2_question_2 19 rfl rfl)
theorem dX2_question_69 : decode cX2_question 69 = .ok (.new 335, 3) := dk_187 1 79 (dk_at dksX2_question_3 0 rfl rfl)
theorem dX2_question_72 : decode cX2_question 72 = .ok (.dup, 1) := dk_89 (dk_at dksX2_question_3 3 rfl rfl)
theorem dX2_question_73 : decode cX2_question 73 = .ok (.iload_n 2, 1) := dk_28 (dk_at dksX2_question_3 4 rfl rfl)
theorem dX2_question_74 : decode cX2_question 74 = .ok (.aconst_null, 1) := dk_1 (dk_at dksX2_question_3 5 rfl rfl)
theorem dX2_question_75 : decode cX2_question 75 = .ok (.aload_n 0, 1) := dk_42 (dk_at dksX2_question_3 6 rfl rfl)
theorem dX2_question_76 : decode cX2_question 76 = .ok (.invokevirtual 218, 3) := dk_182 0 218 (dk_at dksX2_question_3 7 rfl rfl)
theorem dX2_question_79 : decode cX2_question 79 = .ok (.invokespecial 337, 3) := dk_183 1 81 (dk_at dksX2_question_3 10 rfl rfl)
theorem dX2_question_82 : decode cX2_question 82 = .ok (.astore_n 3, 1) := dk_78 (dk_at dksX2_question_3 13 rfl rfl)
theorem dX2_question_83 : decode cX2_question 83 = .ok (.aload_n 0, 1) := dk_42 (dk_at dksX2_question_3 14 rfl rfl)
theorem dX2_question_84 : decode cX2_question 84 = .ok (.invokevirtual 43, 3) := dk_182 0 43 (dk_at dksX2_question_3 15 rfl rfl)
theorem dX2_question_87 : decode cX2_question 87 = .ok (.iconst (-1), 1) := dk_2 (dk_at dksX2_question_3 18 rfl rfl)
theorem dX2_question_88 : decode cX2_question 88 = .ok (.if_icmp .eq 13, 3) := dk_159 0 13 (dk_at dksX2_question_3 19 rfl rfl)
theorem dX2_question_91 : decode cX2_question 91 = .ok (.aload_n 0, 1) := dk_42 (dk_at dksX2_question_3 22 rfl rfl)
theorem dX2_question_92 : decode cX2_question 92 = .ok (.iconst 1, 1) := dk_4 (dk_at dksX2_question_3 23 rfl rfl)
theorem dX2_question_93 : decode cX2_question 93 = .ok (.aload_n 0, 1) := dk_42 (dk_at dksX2_question_4 0 rfl rfl)
theorem dX2_question_94 : decode cX2_question 94 = .ok (.getfield 36, 3) := dk_180 0 36 (dk_at dksX2_question_4 1 rfl rfl)
theorem dX2_question_97 : decode cX2_question 97 = .ok (.invokevirtual 47, 3) := dk_182 0 47 (dk_at dksX2_question_4 4 rfl rfl)
theorem dX2_question_100 : decode cX2_question 100 = .ok (.athrow, 1) := dk_191 (dk_at dksX2_question_4 7 rfl rfl)
theorem dX2_question_101 : decode cX2_question 101 = .ok (.aload_n 3, 1) := dk_45 (dk_at dksX2_question_4 8 rfl rfl)
theorem dX2_question_102 : decode cX2_question 102 = .ok (.areturn, 1) := dk_176 (dk_at dksX2_question_4 9 rfl rfl)
theorem q177 : (Jvm.Cond.initialized "TurnedBoards$Reader") ∈ lw_all := lw_g (lw_at lw_m1 10 rfl) rfl
theorem q306 : (Jvm.Cond.selects "TurnedBoards$Reader" ({ cls := "java/lang/Object", name := "getClass", desc := "()Ljava/lang/Class;" } : Jvm.MethodName) ({ cls := "java/lang/Object", name := "getClass", desc := "()Ljava/lang/Class;" } : Jvm.MethodName)) ∈ lw_all := lw_g (lw_at lw_m1 139 rfl) rfl
theorem q330 : (Jvm.Cond.fieldLinkNest "TurnedBoards$Reader" (110 : Nat) "TurnedBoards$Shop" "statements" "I" "TurnedBoards") ∈ lw_tbl := lw_at lw_m1 163 rfl
theorem q332 : (Jvm.Cond.fieldLinkNest "TurnedBoards$Reader" (229 : Nat) "TurnedBoards$Shop" "forgive" "I" "TurnedBoards") ∈ lw_tbl := lw_at lw_m1 165 rfl
theorem q336 : (Jvm.Cond.fieldLinkNest "TurnedBoards$Reader" (231 : Nat) "TurnedBoards$Shop" "blank" "I" "TurnedBoards") ∈ lw_tbl := lw_at lw_m1 169 rfl
theorem q337 : (Jvm.Cond.fieldLinkNest "TurnedBoards$Reader" (233 : Nat) "TurnedBoards$Shop" "hail" "I" "TurnedBoards") ∈ lw_tbl := lw_at lw_m1 170 rfl
theorem q340 : (Jvm.Cond.fieldLinkNest "TurnedBoards$Reader" (138 : Nat) "TurnedBoards$Shop" "letters" "Ljava/util/List;" "TurnedBoards") ∈ lw_tbl := lw_at lw_m1 173 rfl
theorem q346 : (Jvm.Cond.fieldLinkNest "TurnedBoards$Reader" (162 : Nat) "TurnedBoards$Shop" "words" "Ljava/util/List;" "TurnedBoards") ∈ lw_tbl := lw_at lw_m1 179 rfl
theorem q350 : (Jvm.Cond.fieldLinkNest "TurnedBoards$Reader" (182 : Nat) "TurnedBoards$Shop" "boards" "Ljava/util/List;" "TurnedBoards") ∈ lw_tbl := lw_at lw_m1 183 rfl
theorem q351 : (Jvm.Cond.fieldLinkNest "TurnedBoards$Reader" (212 : Nat) "TurnedBoards$Shop" "doubt" "LTurnedBoards$Value;" "TurnedBoards") ∈ lw_tbl := lw_at lw_m1 184 rfl
theorem q354 : (Jvm.Cond.fieldLinkNest "TurnedBoards$Reader" (222 : Nat) "TurnedBoards$Shop" "rain" "LTurnedBoards$Test;" "TurnedBoards") ∈ lw_tbl := lw_at lw_m1 187 rfl
theorem q375 : (Jvm.Cond.instantiable "TurnedBoards$Reader" (8 : Nat)) ∈ lw_all := lw_g (lw_at lw_m1 208 rfl) rfl
theorem q377 : (Jvm.Cond.instanceMethod ({ cls := "TurnedBoards$Reader", name := "<init>", desc := "(LTurnedBoards;)V" } : Jvm.MethodName)) ∈ lw_all := lw_g (lw_at lw_m1 210 rfl) rfl
theorem q378 : (Jvm.Cond.code ({ cls := "TurnedBoards$Reader", name := "<init>", desc := "(LTurnedBoards;)V" } : Jvm.MethodName) prog_16_method_1_code (2 : Nat) (Option.none : Option Jvm.ClassFile.FieldType)) ∈ lw_all := lw_g (lw_at lw_m1 211 rfl) rfl
theorem q379 : (Jvm.Cond.methodLink "TurnedBoards$Reader" (9 : Nat) ({ cls := "java/lang/Object", name := "<init>", desc := "()V" } : Jvm.MethodName)) ∈ lw_all := lw_g (lw_at lw_m1 212 rfl) rfl
theorem q380 : (Jvm.Cond.classLink "TurnedBoards$Reader" (15 : Nat) "TurnedBoards$Fault") ∈ lw_all := lw_g (lw_at lw_m1 213 rfl) rfl
theorem q419 : (Jvm.Cond.methodLink "TurnedBoards$Reader" (17 : Nat) ({ cls := "TurnedBoards$Fault", name := "<init>", desc := "()V" } : Jvm.MethodName)) ∈ lw_all := lw_g (lw_at lw_m2 12 rfl) rfl
theorem q431 : (Jvm.Cond.fieldLinkNest "TurnedBoards$Reader" (22 : Nat) "TurnedBoards$Fault" "kind" "I" "TurnedBoards") ∈ lw_tbl := lw_at lw_m2 24 rfl
theorem q433 : (Jvm.Cond.fieldLinkNest "TurnedBoards$Reader" (26 : Nat) "TurnedBoards$Fault" "place" "I" "TurnedBoards") ∈ lw_tbl := lw_at lw_m2 26 rfl
theorem q453 : (Jvm.Cond.fieldLink "TurnedBoards$Reader" (18 : Nat) "TurnedBoards$Reader" "fault" "LTurnedBoards$Fault;") ∈ lw_all := lw_g (lw_at lw_m2 46 rfl) rfl
theorem q454 : (Jvm.Cond.fieldLink "TurnedBoards$Reader" (29 : Nat) "TurnedBoards$Reader" "size" "I") ∈ lw_all := lw_g (lw_at lw_m2 47 rfl) rfl
theorem q455 : (Jvm.Cond.fieldLink "TurnedBoards$Reader" (36 : Nat) "TurnedBoards$Reader" "at" "I") ∈ lw_all := lw_g (lw_at lw_m2 48 rfl) rfl
theorem q456 : (Jvm.Cond.fieldLink "TurnedBoards$Reader" (61 : Nat) "TurnedBoards$Reader" "from" "I") ∈ lw_all := lw_g (lw_at lw_m2 49 rfl) rfl
theorem q457 : (Jvm.Cond.fieldLink "TurnedBoards$Reader" (107 : Nat) "TurnedBoards$Reader" "open" "I") ∈ lw_all := lw_g (lw_at lw_m2 50 rfl) rfl
theorem q458 : (Jvm.Cond.fieldLink "TurnedBoards$Reader" (215 : Nat) "TurnedBoards$Reader" "context" "I") ∈ lw_all := lw_g (lw_at lw_m2 51 rfl) rfl
theorem q459 : (Jvm.Cond.fieldLink "TurnedBoards$Reader" (103 : Nat) "TurnedBoards$Reader" "to" "LTurnedBoards$Shop;") ∈ lw_all := lw_g (lw_at lw_m2 52 rfl) rfl
theorem q460 : (Jvm.Cond.fieldLink "TurnedBoards$Reader" (3 : Nat) "TurnedBoards$Reader" "this$0" "LTurnedBoards;") ∈ lw_all := lw_g (lw_at lw_m2 53 rfl) rfl
theorem q461 : (Jvm.Cond.laysFinal "TurnedBoards$Reader" "TurnedBoards$Reader" "fault" "LTurnedBoards$Fault;") ∈ lw_all := lw_g (lw_at lw_m2 54 rfl) rfl
theorem q462 : (Jvm.Cond.soleField "TurnedBoards$Reader" "fault") ∈ lw_all := lw_g (lw_at lw_m2 55 rfl) rfl
theorem q463 : (Jvm.Cond.lays "TurnedBoards$Reader" "TurnedBoards$Reader" "size" "I") ∈ lw_all := lw_g (lw_at lw_m2 56 rfl) rfl
theorem q464 : (Jvm.Cond.soleField "TurnedBoards$Reader" "size") ∈ lw_all := lw_g (lw_at lw_m2 57 rfl) rfl
theorem q465 : (Jvm.Cond.lays "TurnedBoards$Reader" "TurnedBoards$Reader" "at" "I") ∈ lw_all := lw_g (lw_at lw_m2 58 rfl) rfl
theorem q466 : (Jvm.Cond.soleField "TurnedBoards$Reader" "at") ∈ lw_all := lw_g (lw_at lw_m2 59 rfl) rfl
theorem q467 : (Jvm.Cond.lays "TurnedBoards$Reader" "TurnedBoards$Reader" "from" "I") ∈ lw_all := lw_g (lw_at lw_m2 60 rfl) rfl
theorem q468 : (Jvm.Cond.soleField "TurnedBoards$Reader" "from") ∈ lw_all := lw_g (lw_at lw_m2 61 rfl) rfl
theorem q469 : (Jvm.Cond.lays "TurnedBoards$Reader" "TurnedBoards$Reader" "open" "I") ∈ lw_all := lw_g (lw_at lw_m2 62 rfl) rfl
theorem q470 : (Jvm.Cond.soleField "TurnedBoards$Reader" "open") ∈ lw_all := lw_g (lw_at lw_m2 63 rfl) rfl
theorem q471 : (Jvm.Cond.lays "TurnedBoards$Reader" "TurnedBoards$Reader" "context" "I") ∈ lw_all := lw_g (lw_at lw_m2 64 rfl) rfl
theorem q472 : (Jvm.Cond.soleField "TurnedBoards$Reader" "context") ∈ lw_all := lw_g (lw_at lw_m2 65 rfl) rfl
theorem q473 : (Jvm.Cond.lays "TurnedBoards$Reader" "TurnedBoards$Reader" "to" "LTurnedBoards$Shop;") ∈ lw_all := lw_g (lw_at lw_m2 66 rfl) rfl
theorem q474 : (Jvm.Cond.soleField "TurnedBoards$Reader" "to") ∈ lw_all := lw_g (lw_at lw_m2 67 rfl) rfl
theorem q475 : (Jvm.Cond.laysFinal "TurnedBoards$Reader" "TurnedBoards$Reader" "this$0" "LTurnedBoards;") ∈ lw_all := lw_g (lw_at lw_m2 68 rfl) rfl
theorem q476 : (Jvm.Cond.soleField "TurnedBoards$Reader" "this$0") ∈ lw_all := lw_g (lw_at lw_m2 69 rfl) rfl
theorem q477 : (Jvm.Cond.superclass "TurnedBoards$Reader" "java/lang/Object") ∈ lw_all := lw_g (lw_at lw_m2 70 rfl) rfl
theorem q585 : (Jvm.Cond.fieldLinkNest "TurnedBoards$Reader" (32 : Nat) "TurnedBoards" "tape" "[B" "TurnedBoards") ∈ lw_tbl := lw_at lw_m2 178 rfl
theorem q667 : (Jvm.Cond.instanceMethod ({ cls := "TurnedBoards$Reader", name := "all", desc := "(I)LTurnedBoards$Shop;" } : Jvm.MethodName)) ∈ lw_all := lw_g (lw_at lw_m3 20 rfl) rfl
theorem q668 : (Jvm.Cond.selects "TurnedBoards$Reader" ({ cls := "TurnedBoards$Reader", name := "all", desc := "(I)LTurnedBoards$Shop;" } : Jvm.MethodName) ({ cls := "TurnedBoards$Reader", name := "all", desc := "(I)LTurnedBoards$Shop;" } : Jvm.MethodName)) ∈ lw_all := lw_g (lw_at lw_m3 21 rfl) rfl
theorem q669 : (Jvm.Cond.code ({ cls := "TurnedBoards$Reader", name := "all", desc := "(I)LTurnedBoards$Shop;" } : Jvm.MethodName) prog_16_method_14_code (3 : Nat) (Option.some (Jvm.ClassFile.FieldType.object "TurnedBoards$Shop"))) ∈ lw_all := lw_g (lw_at lw_m3 22 rfl) rfl
theorem q670 : (Jvm.Cond.classLink "TurnedBoards$Reader" (100 : Nat) "TurnedBoards$Shop") ∈ lw_all := lw_g (lw_at lw_m3 23 rfl) rfl
theorem q671 : (Jvm.Cond.methodLink "TurnedBoards$Reader" (102 : Nat) ({ cls := "TurnedBoards$Shop", name := "<init>", desc := "()V" } : Jvm.MethodName)) ∈ lw_all := lw_g (lw_at lw_m3 24 rfl) rfl
theorem q672 : (Jvm.Cond.methodLink "TurnedBoards$Reader" (43 : Nat) ({ cls := "TurnedBoards$Reader", name := "here", desc := "()I" } : Jvm.MethodName)) ∈ lw_all := lw_g (lw_at lw_m3 25 rfl) rfl
theorem q673 : (Jvm.Cond.privateMethod ({ cls := "TurnedBoards$Reader", name := "here", desc := "()I" } : Jvm.MethodName)) ∈ lw_tbl := lw_at lw_m3 26 rfl
theorem q674 : (Jvm.Cond.instanceMethod ({ cls := "TurnedBoards$Reader", name := "here", desc := "()I" } : Jvm.MethodName)) ∈ lw_all := lw_g (lw_at lw_m3 27 rfl) rfl
theorem q675 : (Jvm.Cond.code ({ cls := "TurnedBoards$Reader", name := "here", desc := "()I" } : Jvm.MethodName) prog_16_method_4_code (1 : Nat) (Option.some Jvm.ClassFile.FieldType.int)) ∈ lw_all := lw_g (lw_at lw_m3 28 rfl) rfl
theorem q676 : (Jvm.Cond.methodLink "TurnedBoards$Reader" (39 : Nat) ({ cls := "TurnedBoards$Reader", name := "byteAt", desc := "(I)I" } : Jvm.MethodName)) ∈ lw_all := lw_g (lw_at lw_m3 29 rfl) rfl
theorem q677 : (Jvm.Cond.privateMethod ({ cls := "TurnedBoards$Reader", name := "byteAt", desc := "(I)I" } : Jvm.MethodName)) ∈ lw_tbl := lw_at lw_m3 30 rfl
theorem q678 : (Jvm.Cond.instanceMethod ({ cls := "TurnedBoards$Reader", name := "byteAt", desc := "(I)I" } : Jvm.MethodName)) ∈ lw_all := lw_g (lw_at lw_m3 31 rfl) rfl
theorem q679 : (Jvm.Cond.code ({ cls := "TurnedBoards$Reader", name := "byteAt", desc := "(I)I" } : Jvm.MethodName) prog_16_method_3_code (2 : Nat) (Option.some Jvm.ClassFile.FieldType.int)) ∈ lw_all := lw_g (lw_at lw_m3 32 rfl) rfl
theorem q680 : (Jvm.Cond.methodLink "TurnedBoards$Reader" (113 : Nat) ({ cls := "TurnedBoards$Reader", name := "most", desc := "(ZI)V" } : Jvm.MethodName)) ∈ lw_all := lw_g (lw_at lw_m3 33 rfl) rfl
theorem q681 : (Jvm.Cond.privateMethod ({ cls := "TurnedBoards$Reader", name := "most", desc := "(ZI)V" } : Jvm.MethodName)) ∈ lw_tbl := lw_at lw_m3 34 rfl
theorem q682 : (Jvm.Cond.instanceMethod ({ cls := "TurnedBoards$Reader", name := "most", desc := "(ZI)V" } : Jvm.MethodName)) ∈ lw_all := lw_g (lw_at lw_m3 35 rfl) rfl
theorem q683 : (Jvm.Cond.code ({ cls := "TurnedBoards$Reader", name := "most", desc := "(ZI)V" } : Jvm.MethodName) prog_16_method_13_code (3 : Nat) (Option.none : Option Jvm.ClassFile.FieldType)) ∈ lw_all := lw_g (lw_at lw_m3 36 rfl) rfl
theorem q684 : (Jvm.Cond.methodLink "TurnedBoards$Reader" (47 : Nat) ({ cls := "TurnedBoards$Reader", name := "wrong", desc := "(II)LTurnedBoards$Fault;" } : Jvm.MethodName)) ∈ lw_all := lw_g (lw_at lw_m3 37 rfl) rfl
theorem q685 : (Jvm.Cond.privateMethod ({ cls := "TurnedBoards$Reader", name := "wrong", desc := "(II)LTurnedBoards$Fault;" } : Jvm.MethodName)) ∈ lw_tbl := lw_at lw_m3 38 rfl
theorem q686 : (Jvm.Cond.instanceMethod ({ cls := "TurnedBoards$Reader", name := "wrong", desc := "(II)LTurnedBoards$Fault;" } : Jvm.MethodName)) ∈ lw_all := lw_g (lw_at lw_m3 39 rfl) rfl
theorem q687 : (Jvm.Cond.code ({ cls := "TurnedBoards$Reader", name := "wrong", desc := "(II)LTurnedBoards$Fault;" } : Jvm.MethodName) prog_16_method_2_code (3 : Nat) (Option.some (Jvm.ClassFile.FieldType.object "TurnedBoards$Fault"))) ∈ lw_all := lw_g (lw_at lw_m3 40 rfl) rfl
theorem q688 : (Jvm.Cond.methodLink "TurnedBoards$Reader" (70 : Nat) ({ cls := "TurnedBoards$Reader", name := "word", desc := "()Ljava/lang/String;" } : Jvm.MethodName)) ∈ lw_all := lw_g (lw_at lw_m3 41 rfl) rfl
theorem q689 : (Jvm.Cond.privateMethod ({ cls := "TurnedBoards$Reader", name := "word", desc := "()Ljava/lang/String;" } : Jvm.MethodName)) ∈ lw_tbl := lw_at lw_m3 42 rfl
theorem q690 : (Jvm.Cond.instanceMethod ({ cls := "TurnedBoards$Reader", name := "word", desc := "()Ljava/lang/String;" } : Jvm.MethodName)) ∈ lw_all := lw_g (lw_at lw_m3 43 rfl) rfl
theorem q691 : (Jvm.Cond.code ({ cls := "TurnedBoards$Reader", name := "word", desc := "()Ljava/lang/String;" } : Jvm.MethodName) prog_16_method_7_code (3 : Nat) (Option.some (Jvm.ClassFile.FieldType.object "java/lang/String"))) ∈ lw_all := lw_g (lw_at lw_m3 44 rfl) rfl
theorem q692 : (Jvm.Cond.methodLinkNest "TurnedBoards$Reader" (51 : Nat) ({ cls := "TurnedBoards", name := "isLetter", desc := "(I)Z" } : Jvm.MethodName) "TurnedBoards") ∈ lw_tbl := lw_at lw_m3 45 rfl
theorem q695 : (Jvm.Cond.methodLink "TurnedBoards$Reader" (58 : Nat) ({ cls := "TurnedBoards$Reader", name := "parted", desc := "()V" } : Jvm.MethodName)) ∈ lw_all := lw_g (lw_at lw_m3 48 rfl) rfl
theorem q696 : (Jvm.Cond.privateMethod ({ cls := "TurnedBoards$Reader", name := "parted", desc := "()V" } : Jvm.MethodName)) ∈ lw_tbl := lw_at lw_m3 49 rfl
theorem q697 : (Jvm.Cond.instanceMethod ({ cls := "TurnedBoards$Reader", name := "parted", desc := "()V" } : Jvm.MethodName)) ∈ lw_all := lw_g (lw_at lw_m3 50 rfl) rfl
theorem q698 : (Jvm.Cond.code ({ cls := "TurnedBoards$Reader", name := "parted", desc := "()V" } : Jvm.MethodName) prog_16_method_6_code (1 : Nat) (Option.none : Option Jvm.ClassFile.FieldType)) ∈ lw_all := lw_g (lw_at lw_m3 51 rfl) rfl
theorem q699 : (Jvm.Cond.methodLinkNest "TurnedBoards$Reader" (55 : Nat) ({ cls := "TurnedBoards", name := "isDigit", desc := "(I)Z" } : Jvm.MethodName) "TurnedBoards") ∈ lw_tbl := lw_at lw_m3 52 rfl
theorem q702 : (Jvm.Cond.methodLink "TurnedBoards$Reader" (64 : Nat) ({ cls := "java/lang/String", name := "valueOf", desc := "([C)Ljava/lang/String;" } : Jvm.MethodName)) ∈ lw_all := lw_g (lw_at lw_m3 55 rfl) rfl
theorem q780 : (Jvm.Cond.methodLink "TurnedBoards$Reader" (117 : Nat) ({ cls := "TurnedBoards$Reader", name := "laid", desc := "(Ljava/lang/String;I)Z" } : Jvm.MethodName)) ∈ lw_all := lw_g (lw_at lw_m3 133 rfl) rfl
theorem q781 : (Jvm.Cond.privateMethod ({ cls := "TurnedBoards$Reader", name := "laid", desc := "(Ljava/lang/String;I)Z" } : Jvm.MethodName)) ∈ lw_tbl := lw_at lw_m3 134 rfl
theorem q782 : (Jvm.Cond.instanceMethod ({ cls := "TurnedBoards$Reader", name := "laid", desc := "(Ljava/lang/String;I)Z" } : Jvm.MethodName)) ∈ lw_all := lw_g (lw_at lw_m3 135 rfl) rfl
theorem q783 : (Jvm.Cond.code ({ cls := "TurnedBoards$Reader", name := "laid", desc := "(Ljava/lang/String;I)Z" } : Jvm.MethodName) prog_16_method_18_code (5 : Nat) (Option.some Jvm.ClassFile.FieldType.boolean)) ∈ lw_all := lw_g (lw_at lw_m3 136 rfl) rfl
theorem q784 : (Jvm.Cond.methodLink "TurnedBoards$Reader" (188 : Nat) ({ cls := "java/lang/String", name := "hashCode", desc := "()I" } : Jvm.MethodName)) ∈ lw_all := lw_g (lw_at lw_m3 137 rfl) rfl
theorem q837 : (Jvm.Cond.stringRef "TurnedBoards$Reader" (191 : Nat) "letter") ∈ lw_tbl := lw_at lw_m3 190 rfl
theorem q838 : (Jvm.Cond.methodLink "TurnedBoards$Reader" (74 : Nat) ({ cls := "java/lang/String", name := "equals", desc := "(Ljava/lang/Object;)Z" } : Jvm.MethodName)) ∈ lw_all := lw_g (lw_at lw_m3 191 rfl) rfl
theorem q845 : (Jvm.Cond.stringRef "TurnedBoards$Reader" (192 : Nat) "word") ∈ lw_tbl := lw_at lw_m3 198 rfl
theorem q846 : (Jvm.Cond.stringRef "TurnedBoards$Reader" (193 : Nat) "board") ∈ lw_tbl := lw_at lw_m3 199 rfl
theorem q847 : (Jvm.Cond.methodLink "TurnedBoards$Reader" (195 : Nat) ({ cls := "TurnedBoards$Reader", name := "letter", desc := "()V" } : Jvm.MethodName)) ∈ lw_all := lw_g (lw_at lw_m3 200 rfl) rfl
theorem q848 : (Jvm.Cond.privateMethod ({ cls := "TurnedBoards$Reader", name := "letter", desc := "()V" } : Jvm.MethodName)) ∈ lw_tbl := lw_at lw_m3 201 rfl
theorem q849 : (Jvm.Cond.instanceMethod ({ cls := "TurnedBoards$Reader", name := "letter", desc := "()V" } : Jvm.MethodName)) ∈ lw_all := lw_g (lw_at lw_m3 202 rfl) rfl
theorem q850 : (Jvm.Cond.code ({ cls := "TurnedBoards$Reader", name := "letter", desc := "()V" } : Jvm.MethodName) prog_16_method_15_code (8 : Nat) (Option.none : Option Jvm.ClassFile.FieldType)) ∈ lw_all := lw_g (lw_at lw_m3 203 rfl) rfl
theorem q851 : (Jvm.Cond.fieldLinkNest "TurnedBoards$Reader" (78 : Nat) "TurnedBoards" "OWN" "[Ljava/lang/String;" "TurnedBoards") ∈ lw_tbl := lw_at lw_m3 204 rfl
theorem q853 : (Jvm.Cond.methodLinkNest "TurnedBoards$Reader" (82 : Nat) ({ cls := "TurnedBoards", name := "find", desc := "(Ljava/lang/String;[Ljava/lang/String;)I" } : Jvm.MethodName) "TurnedBoards") ∈ lw_tbl := lw_at lw_m3 206 rfl
theorem q857 : (Jvm.Cond.methodLink "TurnedBoards$Reader" (86 : Nat) ({ cls := "java/lang/String", name := "length", desc := "()I" } : Jvm.MethodName)) ∈ lw_all := lw_g (lw_at lw_m3 210 rfl) rfl
theorem q865 : (Jvm.Cond.methodLink "TurnedBoards$Reader" (129 : Nat) ({ cls := "java/lang/String", name := "charAt", desc := "(I)C" } : Jvm.MethodName)) ∈ lw_all := lw_g (lw_at lw_m3 218 rfl) rfl
theorem q885 : (Jvm.Cond.stringRef "TurnedBoards$Reader" (133 : Nat) "hand") ∈ lw_tbl := lw_at lw_m3 238 rfl
theorem q886 : (Jvm.Cond.methodLink "TurnedBoards$Reader" (135 : Nat) ({ cls := "TurnedBoards$Reader", name := "number", desc := "(Ljava/lang/String;II)I" } : Jvm.MethodName)) ∈ lw_all := lw_g (lw_at lw_m3 239 rfl) rfl
theorem q887 : (Jvm.Cond.privateMethod ({ cls := "TurnedBoards$Reader", name := "number", desc := "(Ljava/lang/String;II)I" } : Jvm.MethodName)) ∈ lw_tbl := lw_at lw_m4 0 rfl
theorem q888 : (Jvm.Cond.instanceMethod ({ cls := "TurnedBoards$Reader", name := "number", desc := "(Ljava/lang/String;II)I" } : Jvm.MethodName)) ∈ lw_all := lw_g (lw_at lw_m4 1 rfl) rfl
theorem q889 : (Jvm.Cond.code ({ cls := "TurnedBoards$Reader", name := "number", desc := "(Ljava/lang/String;II)I" } : Jvm.MethodName) prog_16_method_12_code (4 : Nat) (Option.some Jvm.ClassFile.FieldType.int)) ∈ lw_all := lw_g (lw_at lw_m4 2 rfl) rfl
theorem q890 : (Jvm.Cond.methodLink "TurnedBoards$Reader" (93 : Nat) ({ cls := "TurnedBoards$Reader", name := "word", desc := "(Ljava/lang/String;)V" } : Jvm.MethodName)) ∈ lw_all := lw_g (lw_at lw_m4 3 rfl) rfl
theorem q891 : (Jvm.Cond.privateMethod ({ cls := "TurnedBoards$Reader", name := "word", desc := "(Ljava/lang/String;)V" } : Jvm.MethodName)) ∈ lw_tbl := lw_at lw_m4 4 rfl
theorem q892 : (Jvm.Cond.instanceMethod ({ cls := "TurnedBoards$Reader", name := "word", desc := "(Ljava/lang/String;)V" } : Jvm.MethodName)) ∈ lw_all := lw_g (lw_at lw_m4 5 rfl) rfl
theorem q893 : (Jvm.Cond.code ({ cls := "TurnedBoards$Reader", name := "word", desc := "(Ljava/lang/String;)V" } : Jvm.MethodName) prog_16_method_8_code (2 : Nat) (Option.none : Option Jvm.ClassFile.FieldType)) ∈ lw_all := lw_g (lw_at lw_m4 6 rfl) rfl
theorem q894 : (Jvm.Cond.methodLink "TurnedBoards$Reader" (96 : Nat) ({ cls := "TurnedBoards$Reader", name := "number", desc := "(II)I" } : Jvm.MethodName)) ∈ lw_all := lw_g (lw_at lw_m4 7 rfl) rfl
theorem q895 : (Jvm.Cond.privateMethod ({ cls := "TurnedBoards$Reader", name := "number", desc := "(II)I" } : Jvm.MethodName)) ∈ lw_tbl := lw_at lw_m4 8 rfl
theorem q896 : (Jvm.Cond.instanceMethod ({ cls := "TurnedBoards$Reader", name := "number", desc := "(II)I" } : Jvm.MethodName)) ∈ lw_all := lw_g (lw_at lw_m4 9 rfl) rfl
theorem q897 : (Jvm.Cond.code ({ cls := "TurnedBoards$Reader", name := "number", desc := "(II)I" } : Jvm.MethodName) prog_16_method_11_code (4 : Nat) (Option.some Jvm.ClassFile.FieldType.int)) ∈ lw_all := lw_g (lw_at lw_m4 10 rfl) rfl
theorem q898 : (Jvm.Cond.methodLinkNest "TurnedBoards$Reader" (89 : Nat) ({ cls := "TurnedBoards", name := "is", desc := "(III)Z" } : Jvm.MethodName) "TurnedBoards") ∈ lw_tbl := lw_at lw_m4 11 rfl
theorem q901 : (Jvm.Cond.interfaceEntry "TurnedBoards$Reader" (142 : Nat)) ∈ lw_tbl := lw_at lw_m4 14 rfl
theorem q902 : (Jvm.Cond.methodLink "TurnedBoards$Reader" (142 : Nat) ({ cls := "java/util/List", name := "get", desc := "(I)Ljava/lang/Object;" } : Jvm.MethodName)) ∈ lw_all := lw_g (lw_at lw_m4 15 rfl) rfl
theorem q918 : (Jvm.Cond.classLink "TurnedBoards$Reader" (143 : Nat) "java/util/List") ∈ lw_all := lw_g (lw_at lw_m4 31 rfl) rfl
theorem q919 : (Jvm.Cond.interfaceEntry "TurnedBoards$Reader" (148 : Nat)) ∈ lw_tbl := lw_at lw_m4 32 rfl
theorem q920 : (Jvm.Cond.methodLink "TurnedBoards$Reader" (148 : Nat) ({ cls := "java/util/List", name := "size", desc := "()I" } : Jvm.MethodName)) ∈ lw_all := lw_g (lw_at lw_m4 33 rfl) rfl
theorem q928 : (Jvm.Cond.methodLink "TurnedBoards$Reader" (150 : Nat) ({ cls := "TurnedBoards$Shop", name := "letter", desc := "(II)I" } : Jvm.MethodName)) ∈ lw_all := lw_g (lw_at lw_m4 41 rfl) rfl
theorem q938 : (Jvm.Cond.stringRef "TurnedBoards$Reader" (153 : Nat) "is") ∈ lw_tbl := lw_at lw_m4 51 rfl
theorem q939 : (Jvm.Cond.classLink "TurnedBoards$Reader" (154 : Nat) "TurnedBoards$Letter") ∈ lw_all := lw_g (lw_at lw_m4 52 rfl) rfl
theorem q941 : (Jvm.Cond.methodLink "TurnedBoards$Reader" (156 : Nat) ({ cls := "TurnedBoards$Letter", name := "<init>", desc := "(II)V" } : Jvm.MethodName)) ∈ lw_all := lw_g (lw_at lw_m4 54 rfl) rfl
theorem q956 : (Jvm.Cond.interfaceEntry "TurnedBoards$Reader" (159 : Nat)) ∈ lw_tbl := lw_at lw_m4 69 rfl
theorem q957 : (Jvm.Cond.methodLink "TurnedBoards$Reader" (159 : Nat) ({ cls := "java/util/List", name := "add", desc := "(Ljava/lang/Object;)Z" } : Jvm.MethodName)) ∈ lw_all := lw_g (lw_at lw_m4 70 rfl) rfl
theorem q958 : (Jvm.Cond.methodLink "TurnedBoards$Reader" (197 : Nat) ({ cls := "TurnedBoards$Reader", name := "aWord", desc := "(I)V" } : Jvm.MethodName)) ∈ lw_all := lw_g (lw_at lw_m4 71 rfl) rfl
theorem q959 : (Jvm.Cond.privateMethod ({ cls := "TurnedBoards$Reader", name := "aWord", desc := "(I)V" } : Jvm.MethodName)) ∈ lw_tbl := lw_at lw_m4 72 rfl
theorem q960 : (Jvm.Cond.instanceMethod ({ cls := "TurnedBoards$Reader", name := "aWord", desc := "(I)V" } : Jvm.MethodName)) ∈ lw_all := lw_g (lw_at lw_m4 73 rfl) rfl
theorem q961 : (Jvm.Cond.code ({ cls := "TurnedBoards$Reader", name := "aWord", desc := "(I)V" } : Jvm.MethodName) prog_16_method_16_code (3 : Nat) (Option.none : Option Jvm.ClassFile.FieldType)) ∈ lw_all := lw_g (lw_at lw_m4 74 rfl) rfl
theorem q962 : (Jvm.Cond.classLink "TurnedBoards$Reader" (165 : Nat) "TurnedBoards$Word") ∈ lw_all := lw_g (lw_at lw_m4 75 rfl) rfl
theorem q964 : (Jvm.Cond.methodLink "TurnedBoards$Reader" (167 : Nat) ({ cls := "TurnedBoards$Reader", name := "name", desc := "()Ljava/lang/String;" } : Jvm.MethodName)) ∈ lw_all := lw_g (lw_at lw_m4 77 rfl) rfl
theorem q965 : (Jvm.Cond.privateMethod ({ cls := "TurnedBoards$Reader", name := "name", desc := "()Ljava/lang/String;" } : Jvm.MethodName)) ∈ lw_tbl := lw_at lw_m4 78 rfl
theorem q966 : (Jvm.Cond.instanceMethod ({ cls := "TurnedBoards$Reader", name := "name", desc := "()Ljava/lang/String;" } : Jvm.MethodName)) ∈ lw_all := lw_g (lw_at lw_m4 79 rfl) rfl
theorem q967 : (Jvm.Cond.code ({ cls := "TurnedBoards$Reader", name := "name", desc := "()Ljava/lang/String;" } : Jvm.MethodName) prog_16_method_10_code (2 : Nat) (Option.some (Jvm.ClassFile.FieldType.object "java/lang/String"))) ∈ lw_all := lw_g (lw_at lw_m4 80 rfl) rfl
theorem q968 : (Jvm.Cond.methodLink "TurnedBoards$Reader" (170 : Nat) ({ cls := "TurnedBoards$Word", name := "<init>", desc := "(Ljava/lang/String;)V" } : Jvm.MethodName)) ∈ lw_all := lw_g (lw_at lw_m4 81 rfl) rfl
theorem q974 : (Jvm.Cond.fieldLinkNest "TurnedBoards$Reader" (172 : Nat) "TurnedBoards$Word" "name" "Ljava/lang/String;" "TurnedBoards") ∈ lw_tbl := lw_at lw_m4 87 rfl
theorem q978 : (Jvm.Cond.methodLink "TurnedBoards$Reader" (175 : Nat) ({ cls := "TurnedBoards$Shop", name := "word", desc := "(Ljava/lang/String;)I" } : Jvm.MethodName)) ∈ lw_all := lw_g (lw_at lw_m4 91 rfl) rfl
theorem q984 : (Jvm.Cond.methodLink "TurnedBoards$Reader" (178 : Nat) ({ cls := "TurnedBoards$Shop", name := "isIn", desc := "(ILTurnedBoards$Word;)Z" } : Jvm.MethodName)) ∈ lw_all := lw_g (lw_at lw_m4 97 rfl) rfl
theorem q999 : (Jvm.Cond.methodLink "TurnedBoards$Reader" (200 : Nat) ({ cls := "TurnedBoards$Reader", name := "board", desc := "(I)V" } : Jvm.MethodName)) ∈ lw_all := lw_g (lw_at lw_m4 112 rfl) rfl
theorem q1000 : (Jvm.Cond.privateMethod ({ cls := "TurnedBoards$Reader", name := "board", desc := "(I)V" } : Jvm.MethodName)) ∈ lw_tbl := lw_at lw_m4 113 rfl
theorem q1001 : (Jvm.Cond.instanceMethod ({ cls := "TurnedBoards$Reader", name := "board", desc := "(I)V" } : Jvm.MethodName)) ∈ lw_all := lw_g (lw_at lw_m4 114 rfl) rfl
theorem q1002 : (Jvm.Cond.code ({ cls := "TurnedBoards$Reader", name := "board", desc := "(I)V" } : Jvm.MethodName) prog_16_method_17_code (4 : Nat) (Option.none : Option Jvm.ClassFile.FieldType)) ∈ lw_all := lw_g (lw_at lw_m4 115 rfl) rfl
theorem q1003 : (Jvm.Cond.classLink "TurnedBoards$Reader" (185 : Nat) "TurnedBoards$Board") ∈ lw_all := lw_g (lw_at lw_m4 116 rfl) rfl
theorem q1005 : (Jvm.Cond.methodLink "TurnedBoards$Reader" (187 : Nat) ({ cls := "TurnedBoards$Board", name := "<init>", desc := "(II)V" } : Jvm.MethodName)) ∈ lw_all := lw_g (lw_at lw_m4 118 rfl) rfl
theorem q1018 : (Jvm.Cond.methodLink "TurnedBoards$Reader" (121 : Nat) ({ cls := "TurnedBoards$Reader", name := "more", desc := "(Ljava/lang/String;I)V" } : Jvm.MethodName)) ∈ lw_all := lw_g (lw_at lw_m4 131 rfl) rfl
theorem q1019 : (Jvm.Cond.privateMethod ({ cls := "TurnedBoards$Reader", name := "more", desc := "(Ljava/lang/String;I)V" } : Jvm.MethodName)) ∈ lw_tbl := lw_at lw_m4 132 rfl
theorem q1020 : (Jvm.Cond.instanceMethod ({ cls := "TurnedBoards$Reader", name := "more", desc := "(Ljava/lang/String;I)V" } : Jvm.MethodName)) ∈ lw_all := lw_g (lw_at lw_m4 133 rfl) rfl
theorem q1021 : (Jvm.Cond.code ({ cls := "TurnedBoards$Reader", name := "more", desc := "(Ljava/lang/String;I)V" } : Jvm.MethodName) prog_16_method_19_code (5 : Nat) (Option.none : Option Jvm.ClassFile.FieldType)) ∈ lw_all := lw_g (lw_at lw_m4 134 rfl) rfl
theorem q1022 : (Jvm.Cond.stringRef "TurnedBoards$Reader" (202 : Nat) "doubt") ∈ lw_tbl := lw_at lw_m4 135 rfl
theorem q1023 : (Jvm.Cond.stringRef "TurnedBoards$Reader" (204 : Nat) "rain") ∈ lw_tbl := lw_at lw_m4 136 rfl
theorem q1024 : (Jvm.Cond.stringRef "TurnedBoards$Reader" (206 : Nat) "forgive") ∈ lw_tbl := lw_at lw_m4 137 rfl
theorem q1025 : (Jvm.Cond.stringRef "TurnedBoards$Reader" (208 : Nat) "blank") ∈ lw_tbl := lw_at lw_m4 138 rfl
theorem q1026 : (Jvm.Cond.stringRef "TurnedBoards$Reader" (210 : Nat) "hail") ∈ lw_tbl := lw_at lw_m4 139 rfl
theorem q1027 : (Jvm.Cond.methodLink "TurnedBoards$Reader" (218 : Nat) ({ cls := "TurnedBoards$Reader", name := "sum", desc := "()LTurnedBoards$Value;" } : Jvm.MethodName)) ∈ lw_all := lw_g (lw_at lw_m4 140 rfl) rfl
theorem q1028 : (Jvm.Cond.privateMethod ({ cls := "TurnedBoards$Reader", name := "sum", desc := "()LTurnedBoards$Value;" } : Jvm.MethodName)) ∈ lw_tbl := lw_at lw_m4 141 rfl
theorem q1029 : (Jvm.Cond.instanceMethod ({ cls := "TurnedBoards$Reader", name := "sum", desc := "()LTurnedBoards$Value;" } : Jvm.MethodName)) ∈ lw_all := lw_g (lw_at lw_m4 142 rfl) rfl
theorem q1030 : (Jvm.Cond.code ({ cls := "TurnedBoards$Reader", name := "sum", desc := "()LTurnedBoards$Value;" } : Jvm.MethodName) prog_16_method_21_code (3 : Nat) (Option.some (Jvm.ClassFile.FieldType.object "TurnedBoards$Value"))) ∈ lw_all := lw_g (lw_at lw_m4 143 rfl) rfl
theorem q1031 : (Jvm.Cond.classLink "TurnedBoards$Reader" (235 : Nat) "TurnedBoards$Chain") ∈ lw_all := lw_g (lw_at lw_m4 144 rfl) rfl
theorem q1033 : (Jvm.Cond.methodLinkNest "TurnedBoards$Reader" (237 : Nat) ({ cls := "TurnedBoards$Chain", name := "<init>", desc := "()V" } : Jvm.MethodName) "TurnedBoards") ∈ lw_tbl := lw_at lw_m4 146 rfl
theorem q1072 : (Jvm.Cond.methodLink "TurnedBoards$Reader" (238 : Nat) ({ cls := "TurnedBoards$Reader", name := "product", desc := "()LTurnedBoards$Value;" } : Jvm.MethodName)) ∈ lw_all := lw_g (lw_at lw_m4 185 rfl) rfl
theorem q1073 : (Jvm.Cond.privateMethod ({ cls := "TurnedBoards$Reader", name := "product", desc := "()LTurnedBoards$Value;" } : Jvm.MethodName)) ∈ lw_tbl := lw_at lw_m4 186 rfl
theorem q1074 : (Jvm.Cond.instanceMethod ({ cls := "TurnedBoards$Reader", name := "product", desc := "()LTurnedBoards$Value;" } : Jvm.MethodName)) ∈ lw_all := lw_g (lw_at lw_m4 187 rfl) rfl
theorem q1075 : (Jvm.Cond.code ({ cls := "TurnedBoards$Reader", name := "product", desc := "()LTurnedBoards$Value;" } : Jvm.MethodName) prog_16_method_22_code (3 : Nat) (Option.some (Jvm.ClassFile.FieldType.object "TurnedBoards$Value"))) ∈ lw_all := lw_g (lw_at lw_m4 188 rfl) rfl
theorem q1076 : (Jvm.Cond.methodLink "TurnedBoards$Reader" (247 : Nat) ({ cls := "TurnedBoards$Reader", name := "atom", desc := "()LTurnedBoards$Value;" } : Jvm.MethodName)) ∈ lw_all := lw_g (lw_at lw_m4 189 rfl) rfl
theorem q1077 : (Jvm.Cond.privateMethod ({ cls := "TurnedBoards$Reader", name := "atom", desc := "()LTurnedBoards$Value;" } : Jvm.MethodName)) ∈ lw_tbl := lw_at lw_m4 190 rfl
theorem q1078 : (Jvm.Cond.instanceMethod ({ cls := "TurnedBoards$Reader", name := "atom", desc := "()LTurnedBoards$Value;" } : Jvm.MethodName)) ∈ lw_all := lw_g (lw_at lw_m4 191 rfl) rfl
theorem q1079 : (Jvm.Cond.code ({ cls := "TurnedBoards$Reader", name := "atom", desc := "()LTurnedBoards$Value;" } : Jvm.MethodName) prog_16_method_25_code (3 : Nat) (Option.some (Jvm.ClassFile.FieldType.object "TurnedBoards$Value"))) ∈ lw_all := lw_g (lw_at lw_m4 192 rfl) rfl
theorem q1080 : (Jvm.Cond.methodLink "TurnedBoards$Reader" (258 : Nat) ({ cls := "TurnedBoards$Reader", name := "within", desc := "(I)LTurnedBoards$Value;" } : Jvm.MethodName)) ∈ lw_all := lw_g (lw_at lw_m4 193 rfl) rfl
theorem q1081 : (Jvm.Cond.privateMethod ({ cls := "TurnedBoards$Reader", name := "within", desc := "(I)LTurnedBoards$Value;" } : Jvm.MethodName)) ∈ lw_tbl := lw_at lw_m4 194 rfl
theorem q1082 : (Jvm.Cond.instanceMethod ({ cls := "TurnedBoards$Reader", name := "within", desc := "(I)LTurnedBoards$Value;" } : Jvm.MethodName)) ∈ lw_all := lw_g (lw_at lw_m4 195 rfl) rfl
theorem q1083 : (Jvm.Cond.code ({ cls := "TurnedBoards$Reader", name := "within", desc := "(I)LTurnedBoards$Value;" } : Jvm.MethodName) prog_16_method_24_code (4 : Nat) (Option.some (Jvm.ClassFile.FieldType.object "TurnedBoards$Value"))) ∈ lw_all := lw_g (lw_at lw_m4 196 rfl) rfl
theorem q1084 : (Jvm.Cond.methodLink "TurnedBoards$Reader" (250 : Nat) ({ cls := "TurnedBoards$Reader", name := "opens", desc := "(I)V" } : Jvm.MethodName)) ∈ lw_all := lw_g (lw_at lw_m4 197 rfl) rfl
theorem q1085 : (Jvm.Cond.privateMethod ({ cls := "TurnedBoards$Reader", name := "opens", desc := "(I)V" } : Jvm.MethodName)) ∈ lw_tbl := lw_at lw_m4 198 rfl
theorem q1086 : (Jvm.Cond.instanceMethod ({ cls := "TurnedBoards$Reader", name := "opens", desc := "(I)V" } : Jvm.MethodName)) ∈ lw_all := lw_g (lw_at lw_m4 199 rfl) rfl
theorem q1087 : (Jvm.Cond.code ({ cls := "TurnedBoards$Reader", name := "opens", desc := "(I)V" } : Jvm.MethodName) prog_16_method_23_code (2 : Nat) (Option.none : Option Jvm.ClassFile.FieldType)) ∈ lw_all := lw_g (lw_at lw_m4 200 rfl) rfl
theorem q1088 : (Jvm.Cond.methodLink "TurnedBoards$Reader" (125 : Nat) ({ cls := "TurnedBoards$Reader", name := "must", desc := "(I)V" } : Jvm.MethodName)) ∈ lw_all := lw_g (lw_at lw_m4 201 rfl) rfl
theorem q1089 : (Jvm.Cond.privateMethod ({ cls := "TurnedBoards$Reader", name := "must", desc := "(I)V" } : Jvm.MethodName)) ∈ lw_tbl := lw_at lw_m4 202 rfl
theorem q1090 : (Jvm.Cond.instanceMethod ({ cls := "TurnedBoards$Reader", name := "must", desc := "(I)V" } : Jvm.MethodName)) ∈ lw_all := lw_g (lw_at lw_m4 203 rfl) rfl
theorem q1091 : (Jvm.Cond.code ({ cls := "TurnedBoards$Reader", name := "must", desc := "(I)V" } : Jvm.MethodName) prog_16_method_5_code (2 : Nat) (Option.none : Option Jvm.ClassFile.FieldType)) ∈ lw_all := lw_g (lw_at lw_m4 204 rfl) rfl
theorem q1092 : (Jvm.Cond.classLink "TurnedBoards$Reader" (253 : Nat) "TurnedBoards$Pair") ∈ lw_all := lw_g (lw_at lw_m4 205 rfl) rfl
theorem q1094 : (Jvm.Cond.methodLink "TurnedBoards$Reader" (255 : Nat) ({ cls := "TurnedBoards$Pair", name := "<init>", desc := "(ZLTurnedBoards$Value;LTurnedBoards$Value;)V" } : Jvm.MethodName)) ∈ lw_all := lw_g (lw_at lw_m4 207 rfl) rfl
theorem q1108 : (Jvm.Cond.classLink "TurnedBoards$Reader" (262 : Nat) "TurnedBoards$Fixed") ∈ lw_all := lw_g (lw_at lw_m4 221 rfl) rfl
theorem q1110 : (Jvm.Cond.methodLink "TurnedBoards$Reader" (264 : Nat) ({ cls := "TurnedBoards$Fixed", name := "<init>", desc := "(J)V" } : Jvm.MethodName)) ∈ lw_all := lw_g (lw_at lw_m4 223 rfl) rfl
theorem q1118 : (Jvm.Cond.fieldLinkNest "TurnedBoards$Reader" (267 : Nat) "TurnedBoards" "ASKED" "[Ljava/lang/String;" "TurnedBoards") ∈ lw_tbl := lw_at lw_m4 231 rfl
theorem q1120 : (Jvm.Cond.methodLinkNest "TurnedBoards$Reader" (270 : Nat) ({ cls := "TurnedBoards", name := "has", desc := "(II)Z" } : Jvm.MethodName) "TurnedBoards") ∈ lw_tbl := lw_at lw_m4 233 rfl
theorem q1123 : (Jvm.Cond.classLink "TurnedBoards$Reader" (274 : Nat) "TurnedBoards$Asked") ∈ lw_all := lw_g (lw_at lw_m4 236 rfl) rfl
theorem q1125 : (Jvm.Cond.methodLink "TurnedBoards$Reader" (276 : Nat) ({ cls := "TurnedBoards$Asked", name := "<init>", desc := "(I)V" } : Jvm.MethodName)) ∈ lw_all := lw_g (lw_at lw_m4 238 rfl) rfl
theorem q1133 : (Jvm.Cond.fieldLinkNest "TurnedBoards$Reader" (278 : Nat) "TurnedBoards" "LOOKED" "[Ljava/lang/String;" "TurnedBoards") ∈ lw_tbl := lw_at lw_m5 6 rfl
theorem q1135 : (Jvm.Cond.methodLink "TurnedBoards$Reader" (281 : Nat) ({ cls := "TurnedBoards$Reader", name := "looked", desc := "(I)LTurnedBoards$Value;" } : Jvm.MethodName)) ∈ lw_all := lw_g (lw_at lw_m5 8 rfl) rfl
theorem q1136 : (Jvm.Cond.privateMethod ({ cls := "TurnedBoards$Reader", name := "looked", desc := "(I)LTurnedBoards$Value;" } : Jvm.MethodName)) ∈ lw_tbl := lw_at lw_m5 9 rfl
theorem q1137 : (Jvm.Cond.instanceMethod ({ cls := "TurnedBoards$Reader", name := "looked", desc := "(I)LTurnedBoards$Value;" } : Jvm.MethodName)) ∈ lw_all := lw_g (lw_at lw_m5 10 rfl) rfl
theorem q1138 : (Jvm.Cond.code ({ cls := "TurnedBoards$Reader", name := "looked", desc := "(I)LTurnedBoards$Value;" } : Jvm.MethodName) prog_16_method_29_code (3 : Nat) (Option.some (Jvm.ClassFile.FieldType.object "TurnedBoards$Value"))) ∈ lw_all := lw_g (lw_at lw_m5 11 rfl) rfl
theorem q1139 : (Jvm.Cond.classLink "TurnedBoards$Reader" (327 : Nat) "TurnedBoards$Looked") ∈ lw_all := lw_g (lw_at lw_m5 12 rfl) rfl
theorem q1141 : (Jvm.Cond.methodLink "TurnedBoards$Reader" (329 : Nat) ({ cls := "TurnedBoards$Looked", name := "<init>", desc := "(LTurnedBoards;ILTurnedBoards$Value;)V" } : Jvm.MethodName)) ∈ lw_all := lw_g (lw_at lw_m5 14 rfl) rfl
theorem q1155 : (Jvm.Cond.stringRef "TurnedBoards$Reader" (284 : Nat) "min") ∈ lw_tbl := lw_at lw_m5 28 rfl
theorem q1156 : (Jvm.Cond.stringRef "TurnedBoards$Reader" (286 : Nat) "max") ∈ lw_tbl := lw_at lw_m5 29 rfl
theorem q1157 : (Jvm.Cond.methodLink "TurnedBoards$Reader" (241 : Nat) ({ cls := "TurnedBoards$Chain", name := "add", desc := "(CLTurnedBoards$Value;)V" } : Jvm.MethodName)) ∈ lw_all := lw_g (lw_at lw_m5 30 rfl) rfl
theorem q1211 : (Jvm.Cond.methodLink "TurnedBoards$Reader" (244 : Nat) ({ cls := "TurnedBoards$Reader", name := "takes", desc := "(I)Z" } : Jvm.MethodName)) ∈ lw_all := lw_g (lw_at lw_m5 84 rfl) rfl
theorem q1212 : (Jvm.Cond.privateMethod ({ cls := "TurnedBoards$Reader", name := "takes", desc := "(I)Z" } : Jvm.MethodName)) ∈ lw_tbl := lw_at lw_m5 85 rfl
theorem q1213 : (Jvm.Cond.instanceMethod ({ cls := "TurnedBoards$Reader", name := "takes", desc := "(I)Z" } : Jvm.MethodName)) ∈ lw_all := lw_g (lw_at lw_m5 86 rfl) rfl
theorem q1214 : (Jvm.Cond.code ({ cls := "TurnedBoards$Reader", name := "takes", desc := "(I)Z" } : Jvm.MethodName) prog_16_method_20_code (3 : Nat) (Option.some Jvm.ClassFile.FieldType.boolean)) ∈ lw_all := lw_g (lw_at lw_m5 87 rfl) rfl
theorem q1215 : (Jvm.Cond.methodLink "TurnedBoards$Reader" (225 : Nat) ({ cls := "TurnedBoards$Reader", name := "test", desc := "()LTurnedBoards$Test;" } : Jvm.MethodName)) ∈ lw_all := lw_g (lw_at lw_m5 88 rfl) rfl
theorem q1216 : (Jvm.Cond.privateMethod ({ cls := "TurnedBoards$Reader", name := "test", desc := "()LTurnedBoards$Test;" } : Jvm.MethodName)) ∈ lw_tbl := lw_at lw_m5 89 rfl
theorem q1217 : (Jvm.Cond.instanceMethod ({ cls := "TurnedBoards$Reader", name := "test", desc := "()LTurnedBoards$Test;" } : Jvm.MethodName)) ∈ lw_all := lw_g (lw_at lw_m5 90 rfl) rfl
theorem q1218 : (Jvm.Cond.code ({ cls := "TurnedBoards$Reader", name := "test", desc := "()LTurnedBoards$Test;" } : Jvm.MethodName) prog_16_method_26_code (2 : Nat) (Option.some (Jvm.ClassFile.FieldType.object "TurnedBoards$Test"))) ∈ lw_all := lw_g (lw_at lw_m5 91 rfl) rfl
theorem q1219 : (Jvm.Cond.classLink "TurnedBoards$Reader" (288 : Nat) "TurnedBoards$Facts") ∈ lw_all := lw_g (lw_at lw_m5 92 rfl) rfl
theorem q1221 : (Jvm.Cond.methodLink "TurnedBoards$Reader" (290 : Nat) ({ cls := "TurnedBoards$Facts", name := "<init>", desc := "(Z)V" } : Jvm.MethodName)) ∈ lw_all := lw_g (lw_at lw_m5 94 rfl) rfl
theorem q1231 : (Jvm.Cond.fieldLinkNest "TurnedBoards$Reader" (293 : Nat) "TurnedBoards$Facts" "tests" "Ljava/util/List;" "TurnedBoards") ∈ lw_tbl := lw_at lw_m5 104 rfl
theorem q1238 : (Jvm.Cond.methodLink "TurnedBoards$Reader" (296 : Nat) ({ cls := "TurnedBoards$Reader", name := "both", desc := "()LTurnedBoards$Test;" } : Jvm.MethodName)) ∈ lw_all := lw_g (lw_at lw_m5 111 rfl) rfl
theorem q1239 : (Jvm.Cond.privateMethod ({ cls := "TurnedBoards$Reader", name := "both", desc := "()LTurnedBoards$Test;" } : Jvm.MethodName)) ∈ lw_tbl := lw_at lw_m5 112 rfl
theorem q1240 : (Jvm.Cond.instanceMethod ({ cls := "TurnedBoards$Reader", name := "both", desc := "()LTurnedBoards$Test;" } : Jvm.MethodName)) ∈ lw_all := lw_g (lw_at lw_m5 113 rfl) rfl
theorem q1241 : (Jvm.Cond.code ({ cls := "TurnedBoards$Reader", name := "both", desc := "()LTurnedBoards$Test;" } : Jvm.MethodName) prog_16_method_27_code (2 : Nat) (Option.some (Jvm.ClassFile.FieldType.object "TurnedBoards$Test"))) ∈ lw_all := lw_g (lw_at lw_m5 114 rfl) rfl
theorem q1242 : (Jvm.Cond.methodLink "TurnedBoards$Reader" (305 : Nat) ({ cls := "TurnedBoards$Reader", name := "fact", desc := "()LTurnedBoards$Test;" } : Jvm.MethodName)) ∈ lw_all := lw_g (lw_at lw_m5 115 rfl) rfl
theorem q1243 : (Jvm.Cond.privateMethod ({ cls := "TurnedBoards$Reader", name := "fact", desc := "()LTurnedBoards$Test;" } : Jvm.MethodName)) ∈ lw_tbl := lw_at lw_m5 116 rfl
theorem q1244 : (Jvm.Cond.instanceMethod ({ cls := "TurnedBoards$Reader", name := "fact", desc := "()LTurnedBoards$Test;" } : Jvm.MethodName)) ∈ lw_all := lw_g (lw_at lw_m5 117 rfl) rfl
theorem q1245 : (Jvm.Cond.code ({ cls := "TurnedBoards$Reader", name := "fact", desc := "()LTurnedBoards$Test;" } : Jvm.MethodName) prog_16_method_28_code (3 : Nat) (Option.some (Jvm.ClassFile.FieldType.object "TurnedBoards$Test"))) ∈ lw_all := lw_g (lw_at lw_m5 118 rfl) rfl
theorem q1246 : (Jvm.Cond.stringRef "TurnedBoards$Reader" (310 : Nat) "not") ∈ lw_tbl := lw_at lw_m5 119 rfl
theorem q1247 : (Jvm.Cond.methodLink "TurnedBoards$Reader" (301 : Nat) ({ cls := "TurnedBoards$Reader", name := "passes", desc := "(Ljava/lang/String;)Z" } : Jvm.MethodName)) ∈ lw_all := lw_g (lw_at lw_m5 120 rfl) rfl
theorem q1248 : (Jvm.Cond.privateMethod ({ cls := "TurnedBoards$Reader", name := "passes", desc := "(Ljava/lang/String;)Z" } : Jvm.MethodName)) ∈ lw_tbl := lw_at lw_m5 121 rfl
theorem q1249 : (Jvm.Cond.instanceMethod ({ cls := "TurnedBoards$Reader", name := "passes", desc := "(Ljava/lang/String;)Z" } : Jvm.MethodName)) ∈ lw_all := lw_g (lw_at lw_m5 122 rfl) rfl
theorem q1250 : (Jvm.Cond.code ({ cls := "TurnedBoards$Reader", name := "passes", desc := "(Ljava/lang/String;)Z" } : Jvm.MethodName) prog_16_method_9_code (3 : Nat) (Option.some Jvm.ClassFile.FieldType.boolean)) ∈ lw_all := lw_g (lw_at lw_m5 123 rfl) rfl
theorem q1251 : (Jvm.Cond.classLink "TurnedBoards$Reader" (312 : Nat) "TurnedBoards$Not") ∈ lw_all := lw_g (lw_at lw_m5 124 rfl) rfl
theorem q1253 : (Jvm.Cond.methodLink "TurnedBoards$Reader" (314 : Nat) ({ cls := "TurnedBoards$Not", name := "<init>", desc := "(LTurnedBoards$Test;)V" } : Jvm.MethodName)) ∈ lw_all := lw_g (lw_at lw_m5 126 rfl) rfl
theorem q1261 : (Jvm.Cond.stringRef "TurnedBoards$Reader" (317 : Nat) "all") ∈ lw_tbl := lw_at lw_m5 134 rfl
theorem q1262 : (Jvm.Cond.classLink "TurnedBoards$Reader" (319 : Nat) "TurnedBoards$All") ∈ lw_all := lw_g (lw_at lw_m5 135 rfl) rfl
theorem q1264 : (Jvm.Cond.methodLinkNest "TurnedBoards$Reader" (321 : Nat) ({ cls := "TurnedBoards$All", name := "<init>", desc := "()V" } : Jvm.MethodName) "TurnedBoards") ∈ lw_tbl := lw_at lw_m5 137 rfl
theorem q1269 : (Jvm.Cond.classLink "TurnedBoards$Reader" (322 : Nat) "TurnedBoards$Than") ∈ lw_all := lw_g (lw_at lw_m5 142 rfl) rfl
theorem q1271 : (Jvm.Cond.methodLink "TurnedBoards$Reader" (324 : Nat) ({ cls := "TurnedBoards$Than", name := "<init>", desc := "(LTurnedBoards$Value;ILTurnedBoards$Value;)V" } : Jvm.MethodName)) ∈ lw_all := lw_g (lw_at lw_m5 144 rfl) rfl
theorem q1285 : (Jvm.Cond.stringRef "TurnedBoards$Reader" (308 : Nat) "and") ∈ lw_tbl := lw_at lw_m5 158 rfl
theorem q1286 : (Jvm.Cond.stringRef "TurnedBoards$Reader" (299 : Nat) "or") ∈ lw_tbl := lw_at lw_m5 159 rfl
theorem q1716 : (Jvm.Cond.instanceMethod ({ cls := "TurnedBoards$Reader", name := "question", desc := "(I)LTurnedBoards$Question;" } : Jvm.MethodName)) ∈ lw_all := lw_g (lw_at lw_m7 109 rfl) rfl
theorem q1717 : (Jvm.Cond.selects "TurnedBoards$Reader" ({ cls := "TurnedBoards$Reader", name := "question", desc := "(I)LTurnedBoards$Question;" } : Jvm.MethodName) ({ cls := "TurnedBoards$Reader", name := "question", desc := "(I)LTurnedBoards$Question;" } : Jvm.MethodName)) ∈ lw_all := lw_g (lw_at lw_m7 110 rfl) rfl
theorem q1718 : (Jvm.Cond.code ({ cls := "TurnedBoards$Reader", name := "question", desc := "(I)LTurnedBoards$Question;" } : Jvm.MethodName) prog_16_method_30_code (4 : Nat) (Option.some (Jvm.ClassFile.FieldType.object "TurnedBoards$Question"))) ∈ lw_all := lw_g (lw_at lw_m7 111 rfl) rfl
theorem q1719 : (Jvm.Cond.fieldLinkNest "TurnedBoards$Reader" (332 : Nat) "TurnedBoards" "TOLD_OF" "[Ljava/lang/String;" "TurnedBoards") ∈ lw_tbl := lw_at lw_m7 112 rfl
theorem q1721 : (Jvm.Cond.classLink "TurnedBoards$Reader" (335 : Nat) "TurnedBoards$Question") ∈ lw_all := lw_g (lw_at lw_m7 114 rfl) rfl
theorem q1723 : (Jvm.Cond.methodLink "TurnedBoards$Reader" (337 : Nat) ({ cls := "TurnedBoards$Question", name := "<init>", desc := "(ILTurnedBoards$Test;LTurnedBoards$Value;)V" } : Jvm.MethodName)) ∈ lw_all := lw_g (lw_at lw_m7 116 rfl) rfl
theorem q2741 : (Jvm.Cond.castable "TurnedBoards$Reader" "java/lang/Object") ∈ lw_tbl := lw_at lw_m11 174 rfl
theorem in_X2 : ∀ w ∈ wsX20, w ∈ lw_all := lw_in wsX20 [461, 463, 465, 467, 469, 471, 473, 475] (by decide +kernel) (by decide +kernel)
/-! TurnedBoards$Fault -/
set_option maxRecDepth 100000
def RX3 : String := "TurnedBoards$Fault"
def TX3 : u_T := fun k => match k with
  | 0 => ("java/lang/Throwable", "cause", "Ljava/lang/Throwable;", false)
  | 1 => ("java/lang/Throwable", "stackTrace", "[Ljava/lang/StackTraceElement;", false)
  | 2 => ("java/lang/Throwable", "suppressedExceptions", "Ljava/util/List;", false)
  | 3 => ("java/lang/Throwable", "detailMessage", "Ljava/lang/String;", false)
  | 4 => ("java/lang/Throwable", "backtrace", "Ljava/lang/Object;", false)
  | 5 => ("java/lang/Throwable", "depth", "I", false)
  | 6 => ("TurnedBoards$Fault", "kind", "I", false)
  | _ => ("TurnedBoards$Fault", "place", "I", false)
def tyX3 : Nat → FieldType := fun k => match k with
  | 0 => .object "java/lang/Throwable"
  | 1 => .array (.object "java/lang/StackTraceElement")
  | 2 => .object "java/util/List"
  | 3 => .object "java/lang/String"
  | 4 => .object "java/lang/Object"
  | 5 => .int
  | 6 => .int
  | _ => .int
abbrev wsX30 : List Cond := u_ws RX3 TX3 8
theorem nmX3 : ∀ a, a < 8 → ∀ b, b < 8 → a ≠ b → (TX3 a).2.1 ≠ (TX3 b).2.1 := by decide +kernel
theorem tyX3_ok : ∀ k, k < 8 → parseFieldDescriptor (TX3 k).2.2.1 = some (tyX3 k) := by decide +kernel
abbrev cX3_init : ByteArray := prog_7_method_1_code
def yX3_init : MethodName := ⟨RX3, "<init>", "()V"⟩
def dkwX3_init_0 : List UInt8 := [42, 1, 1, 3, 3, 183, 0, 1, 177]
abbrev dktX3_init_0 : List UInt8 := dkwX3_init_0 ++ []
theorem dksX3_init_0 : cX3_init.data.toList.drop 0 = dktX3_init_0 := by decide +kernel
theorem dX3_init_0 : decode cX3_init 0 = .ok (.aload_n 0, 1) := dk_42 (dk_at dksX3_init_0 0 rfl rfl)
theorem dX3_init_1 : decode cX3_init 1 = .ok (.aconst_null, 1) := dk_1 (dk_at dksX3_init_0 1 rfl rfl)
theorem dX3_init_2 : decode cX3_init 2 = .ok (.aconst_null, 1) := dk_1 (dk_at dksX3_init_0 2 rfl rfl)
theorem dX3_init_3 : decode cX3_init 3 = .ok (.iconst 0, 1) := dk_3 (dk_at dksX3_init_0 3 rfl rfl)
theorem dX3_init_4 : decode cX3_init 4 = .ok (.iconst 0, 1) := dk_3 (dk_at dksX3_init_0 4 rfl rfl)
theorem dX3_init_5 : decode cX3_init 5 = .ok (.invokespecial 1, 3) := dk_183 0 1 (dk_at dksX3_init_0 5 rfl rfl)
theorem dX3_init_8 : decode cX3_init 8 = .ok (.return_, 1) := dk_177 (dk_at dksX3_init_0 8 rfl rfl)
theorem q181 : (Jvm.Cond.initialized "TurnedBoards$Fault") ∈ lw_all := lw_g (lw_at lw_m1 14 rfl) rfl
theorem q297 : (Jvm.Cond.selects "TurnedBoards$Fault" ({ cls := "java/lang/Object", name := "getClass", desc := "()Ljava/lang/Class;" } : Jvm.MethodName) ({ cls := "java/lang/Object", name := "getClass", desc := "()Ljava/lang/Class;" } : Jvm.MethodName)) ∈ lw_all := lw_g (lw_at lw_m1 130 rfl) rfl
theorem q381 : (Jvm.Cond.instantiable "TurnedBoards$Fault" (8 : Nat)) ∈ lw_all := lw_g (lw_at lw_m1 214 rfl) rfl
theorem q382 : (Jvm.Cond.castable "TurnedBoards$Fault" "TurnedBoards$Fault") ∈ lw_tbl := lw_at lw_m1 215 rfl
theorem q389 : (Jvm.Cond.selects "TurnedBoards$Fault" ({ cls := "java/lang/Throwable", name := "fillInStackTrace", desc := "(I)Ljava/lang/Throwable;" } : Jvm.MethodName) ({ cls := "java/lang/Throwable", name := "fillInStackTrace", desc := "(I)Ljava/lang/Throwable;" } : Jvm.MethodName)) ∈ lw_all := lw_g (lw_at lw_m1 222 rfl) rfl
theorem q390 : (Jvm.Cond.selects "TurnedBoards$Fault" ({ cls := "java/lang/Throwable", name := "fillInStackTrace", desc := "()Ljava/lang/Throwable;" } : Jvm.MethodName) ({ cls := "java/lang/Throwable", name := "fillInStackTrace", desc := "()Ljava/lang/Throwable;" } : Jvm.MethodName)) ∈ lw_all := lw_g (lw_at lw_m1 223 rfl) rfl
theorem q391 : (Jvm.Cond.lays "TurnedBoards$Fault" "java/lang/Throwable" "cause" "Ljava/lang/Throwable;") ∈ lw_all := lw_g (lw_at lw_m1 224 rfl) rfl
theorem q393 : (Jvm.Cond.lays "TurnedBoards$Fault" "java/lang/Throwable" "stackTrace" "[Ljava/lang/StackTraceElement;") ∈ lw_all := lw_g (lw_at lw_m1 226 rfl) rfl
theorem q395 : (Jvm.Cond.lays "TurnedBoards$Fault" "java/lang/Throwable" "suppressedExceptions" "Ljava/util/List;") ∈ lw_all := lw_g (lw_at lw_m1 228 rfl) rfl
theorem q397 : (Jvm.Cond.lays "TurnedBoards$Fault" "java/lang/Throwable" "detailMessage" "Ljava/lang/String;") ∈ lw_all := lw_g (lw_at lw_m1 230 rfl) rfl
theorem q399 : (Jvm.Cond.lays "TurnedBoards$Fault" "java/lang/Throwable" "backtrace" "Ljava/lang/Object;") ∈ lw_all := lw_g (lw_at lw_m1 232 rfl) rfl
theorem q420 : (Jvm.Cond.instanceMethod ({ cls := "TurnedBoards$Fault", name := "<init>", desc := "()V" } : Jvm.MethodName)) ∈ lw_all := lw_g (lw_at lw_m2 13 rfl) rfl
theorem q421 : (Jvm.Cond.code ({ cls := "TurnedBoards$Fault", name := "<init>", desc := "()V" } : Jvm.MethodName) prog_7_method_1_code (1 : Nat) (Option.none : Option Jvm.ClassFile.FieldType)) ∈ lw_all := lw_g (lw_at lw_m2 14 rfl) rfl
theorem q422 : (Jvm.Cond.methodLink "TurnedBoards$Fault" (1 : Nat) ({ cls := "java/lang/RuntimeException", name := "<init>", desc := "(Ljava/lang/String;Ljava/lang/Throwable;ZZ)V" } : Jvm.MethodName)) ∈ lw_all := lw_g (lw_at lw_m2 15 rfl) rfl
theorem q440 : (Jvm.Cond.lays "TurnedBoards$Fault" "TurnedBoards$Fault" "kind" "I") ∈ lw_all := lw_g (lw_at lw_m2 33 rfl) rfl
theorem q441 : (Jvm.Cond.soleField "TurnedBoards$Fault" "kind") ∈ lw_all := lw_g (lw_at lw_m2 34 rfl) rfl
theorem q442 : (Jvm.Cond.lays "TurnedBoards$Fault" "TurnedBoards$Fault" "place" "I") ∈ lw_all := lw_g (lw_at lw_m2 35 rfl) rfl
theorem q443 : (Jvm.Cond.soleField "TurnedBoards$Fault" "place") ∈ lw_all := lw_g (lw_at lw_m2 36 rfl) rfl
theorem q448 : (Jvm.Cond.lays "TurnedBoards$Fault" "java/lang/Throwable" "depth" "I") ∈ lw_all := lw_g (lw_at lw_m2 41 rfl) rfl
theorem q451 : (Jvm.Cond.superclass "TurnedBoards$Fault" "java/lang/RuntimeException") ∈ lw_all := lw_g (lw_at lw_m2 44 rfl) rfl
theorem q2742 : (Jvm.Cond.castable "TurnedBoards$Fault" "java/lang/Object") ∈ lw_tbl := lw_at lw_m11 175 rfl
theorem in_X3 : ∀ w ∈ wsX30, w ∈ lw_all := lw_in wsX30 [391, 393, 395, 397, 399, 448, 440, 442] (by decide +kernel) (by decide +kernel)
/-! TurnedBoards$Moment -/
set_option maxRecDepth 100000
def RX4 : String := "TurnedBoards$Moment"
def TX4 : u_T := fun k => match k with
  | _ => ("TurnedBoards$Moment", "of", "[J", true)
def tyX4 : Nat → FieldType := fun k => match k with
  | _ => .array .long
abbrev wsX40 : List Cond := u_ws RX4 TX4 1
theorem nmX4 : ∀ a, a < 1 → ∀ b, b < 1 → a ≠ b → (TX4 a).2.1 ≠ (TX4 b).2.1 := by decide +kernel
theorem tyX4_ok : ∀ k, k < 1 → parseFieldDescriptor (TX4 k).2.2.1 = some (tyX4 k) := by decide +kernel
abbrev cX4_init : ByteArray := prog_12_method_1_code
def yX4_init : MethodName := ⟨RX4, "<init>", "()V"⟩
def dkwX4_init_0 : List UInt8 := [42, 183, 0, 1, 42, 16, 10, 188, 11, 181, 0, 7, 177]
abbrev dktX4_init_0 : List UInt8 := dkwX4_init_0 ++ []
theorem dksX4_init_0 : cX4_init.data.toList.drop 0 = dktX4_init_0 := by decide +kernel
theorem dX4_init_0 : decode cX4_init 0 = .ok (.aload_n 0, 1) := dk_42 (dk_at dksX4_init_0 0 rfl rfl)
theorem dX4_init_1 : decode cX4_init 1 = .ok (.invokespecial 1, 3) := dk_183 0 1 (dk_at dksX4_init_0 1 rfl rfl)
theorem dX4_init_4 : decode cX4_init 4 = .ok (.aload_n 0, 1) := dk_42 (dk_at dksX4_init_0 4 rfl rfl)
theorem dX4_init_5 : decode cX4_init 5 = .ok (.bipush 10, 2) := dk_16 10 (dk_at dksX4_init_0 5 rfl rfl)
theorem dX4_init_7 : decode cX4_init 7 = .ok (.newarray .long, 2) := dk_188_11 (dk_at dksX4_init_0 7 rfl rfl)
theorem dX4_init_9 : decode cX4_init 9 = .ok (.putfield 7, 3) := dk_181 0 7 (dk_at dksX4_init_0 9 rfl rfl)
theorem dX4_init_12 : decode cX4_init 12 = .ok (.return_, 1) := dk_177 (dk_at dksX4_init_0 12 rfl rfl)
theorem q182 : (Jvm.Cond.initialized "TurnedBoards$Moment") ∈ lw_all := lw_g (lw_at lw_m1 15 rfl) rfl
theorem q302 : (Jvm.Cond.selects "TurnedBoards$Moment" ({ cls := "java/lang/Object", name := "getClass", desc := "()Ljava/lang/Class;" } : Jvm.MethodName) ({ cls := "java/lang/Object", name := "getClass", desc := "()Ljava/lang/Class;" } : Jvm.MethodName)) ∈ lw_all := lw_g (lw_at lw_m1 135 rfl) rfl
theorem q479 : (Jvm.Cond.instantiable "TurnedBoards$Moment" (1 : Nat)) ∈ lw_all := lw_g (lw_at lw_m2 72 rfl) rfl
theorem q481 : (Jvm.Cond.instanceMethod ({ cls := "TurnedBoards$Moment", name := "<init>", desc := "()V" } : Jvm.MethodName)) ∈ lw_all := lw_g (lw_at lw_m2 74 rfl) rfl
theorem q482 : (Jvm.Cond.code ({ cls := "TurnedBoards$Moment", name := "<init>", desc := "()V" } : Jvm.MethodName) prog_12_method_1_code (1 : Nat) (Option.none : Option Jvm.ClassFile.FieldType)) ∈ lw_all := lw_g (lw_at lw_m2 75 rfl) rfl
theorem q483 : (Jvm.Cond.methodLink "TurnedBoards$Moment" (1 : Nat) ({ cls := "java/lang/Object", name := "<init>", desc := "()V" } : Jvm.MethodName)) ∈ lw_all := lw_g (lw_at lw_m2 76 rfl) rfl
theorem q484 : (Jvm.Cond.fieldLink "TurnedBoards$Moment" (7 : Nat) "TurnedBoards$Moment" "of" "[J") ∈ lw_all := lw_g (lw_at lw_m2 77 rfl) rfl
theorem q488 : (Jvm.Cond.laysFinal "TurnedBoards$Moment" "TurnedBoards$Moment" "of" "[J") ∈ lw_all := lw_g (lw_at lw_m2 81 rfl) rfl
theorem q489 : (Jvm.Cond.soleField "TurnedBoards$Moment" "of") ∈ lw_all := lw_g (lw_at lw_m2 82 rfl) rfl
theorem q490 : (Jvm.Cond.superclass "TurnedBoards$Moment" "java/lang/Object") ∈ lw_all := lw_g (lw_at lw_m2 83 rfl) rfl
theorem q2743 : (Jvm.Cond.castable "TurnedBoards$Moment" "java/lang/Object") ∈ lw_tbl := lw_at lw_m11 176 rfl
theorem in_X4 : ∀ w ∈ wsX40, w ∈ lw_all := lw_in wsX40 [488] (by decide +kernel) (by decide +kernel)
/-! TurnedBoards$State -/
set_option maxRecDepth 100000
def RX5 : String := "TurnedBoards$State"
def TX5 : u_T := fun k => match k with
  | 0 => ("TurnedBoards$State", "year", "I", false)
  | 1 => ("TurnedBoards$State", "keeps", "I", false)
  | 2 => ("TurnedBoards$State", "rained", "I", false)
  | 3 => ("TurnedBoards$State", "hailed", "I", false)
  | 4 => ("TurnedBoards$State", "word", "[I", true)
  | 5 => ("TurnedBoards$State", "hand", "[I", true)
  | 6 => ("TurnedBoards$State", "glyph", "[[I", true)
  | 7 => ("TurnedBoards$State", "rows", "[[I", true)
  | 8 => ("TurnedBoards$State", "ahead", "[[I", true)
  | _ => ("TurnedBoards$State", "this$0", "LTurnedBoards;", true)
def tyX5 : Nat → FieldType := fun k => match k with
  | 0 => .int
  | 1 => .int
  | 2 => .int
  | 3 => .int
  | 4 => .array .int
  | 5 => .array .int
  | 6 => .array (.array .int)
  | 7 => .array (.array .int)
  | 8 => .array (.array .int)
  | _ => .object "TurnedBoards"
abbrev wsX50 : List Cond := u_ws RX5 TX5 10
theorem nmX5 : ∀ a, a < 10 → ∀ b, b < 10 → a ≠ b → (TX5 a).2.1 ≠ (TX5 b).2.1 := by decide +kernel
theorem tyX5_ok : ∀ k, k < 10 → parseFieldDescriptor (TX5 k).2.2.1 = some (tyX5 k) := by decide +kernel
abbrev cX5_init : ByteArray := prog_18_method_1_code
def yX5_init : MethodName := ⟨RX5, "<init>", "(LTurnedBoards;)V"⟩
def dkwX5_init_2 : List UInt8 := [16, 6, 197, 0, 22, 2, 181, 0, 30, 177]
abbrev dktX5_init_2 : List UInt8 := dkwX5_init_2 ++ []
def dkwX5_init_1 : List UInt8 := [7, 16, 6, 197, 0, 22, 2, 181, 0, 24, 42, 16, 40, 6, 197, 0, 22, 2, 181, 0, 27, 42, 7]
abbrev dktX5_init_1 : List UInt8 := dkwX5_init_1 ++ dktX5_init_2
def dkwX5_init_0 : List UInt8 := [42, 43, 181, 0, 3, 42, 183, 0, 9, 42, 7, 188, 10, 181, 0, 15, 42, 7, 188, 10, 181, 0, 19, 42]
abbrev dktX5_init_0 : List UInt8 := dkwX5_init_0 ++ dktX5_init_1
theorem dksX5_init_0 : cX5_init.data.toList.drop 0 = dktX5_init_0 := by decide +kernel
theorem dksX5_init_1 : cX5_init.data.toList.drop 24 = dktX5_init_1 := dk_seg dksX5_init_0 24 rfl rfl
theorem dksX5_init_2 : cX5_init.data.toList.drop 47 = dktX5_init_2 := dk_seg dksX5_init_1 23 rfl rfl
theorem dX5_init_0 : decode cX5_init 0 = .ok (.aload_n 0, 1) := dk_42 (dk_at dksX5_init_0 0 rfl rfl)
theorem dX5_init_1 : decode cX5_init 1 = .ok (.aload_n 1, 1) := dk_43 (dk_at dksX5_init_0 1 rfl rfl)
theorem dX5_init_2 : decode cX5_init 2 = .ok (.putfield 3, 3) := dk_181 0 3 (dk_at dksX5_init_0 2 rfl rfl)
theorem dX5_init_5 : decode cX5_init 5 = .ok (.aload_n 0, 1) := dk_42 (dk_at dksX5_init_0 5 rfl rfl)
theorem dX5_init_6 : decode cX5_init 6 = .ok (.invokespecial 9, 3) := dk_183 0 9 (dk_at dksX5_init_0 6 rfl rfl)
theorem dX5_init_9 : decode cX5_init 9 = .ok (.aload_n 0, 1) := dk_42 (dk_at dksX5_init_0 9 rfl rfl)
theorem dX5_init_10 : decode cX5_init 10 = .ok (.iconst 4, 1) := dk_7 (dk_at dksX5_init_0 10 rfl rfl)
theorem dX5_init_11 : decode cX5_init 11 = .ok (.newarray .int, 2) := dk_188_10 (dk_at dksX5_init_0 11 rfl rfl)
theorem dX5_init_13 : decode cX5_init 13 = .ok (.putfield 15, 3) := dk_181 0 15 (dk_at dksX5_init_0 13 rfl rfl)
theorem dX5_init_16 : decode cX5_init 16 = .ok (.aload_n 0, 1) := dk_42 (dk_at dksX5_init_0 16 rfl rfl)
theorem dX5_init_17 : decode cX5_init 17 = .ok (.iconst 4, 1) := dk_7 (dk_at dksX5_init_0 17 rfl rfl)
theorem dX5_init_18 : decode cX5_init 18 = .ok (.newarray .int, 2) := dk_188_10 (dk_at dksX5_init_0 18 rfl rfl)
theorem dX5_init_20 : decode cX5_init 20 = .ok (.putfield 19, 3) := dk_181 0 19 (dk_at dksX5_init_0 20 rfl rfl)
theorem dX5_init_23 : decode cX5_init 23 = .ok (.aload_n 0, 1) := dk_42 (dk_at dksX5_init_0 23 rfl rfl)
theorem dX5_init_24 : decode cX5_init 24 = .ok (.iconst 4, 1) := dk_7 (dk_at dksX5_init_1 0 rfl rfl)
theorem dX5_init_25 : decode cX5_init 25 = .ok (.bipush 6, 2) := dk_16 6 (dk_at dksX5_init_1 1 rfl rfl)
theorem dX5_init_27 : decode cX5_init 27 = .ok (.multianewarray 22 2, 4) := by decide +kernel
theorem dX5_init_31 : decode cX5_init 31 = .ok (.putfield 24, 3) := dk_181 0 24 (dk_at dksX5_init_1 7 rfl rfl)
theorem dX5_init_34 : decode cX5_init 34 = .ok (.aload_n 0, 1) := dk_42 (dk_at dksX5_init_1 10 rfl rfl)
theorem dX5_init_35 : decode cX5_init 35 = .ok (.bipush 40, 2) := dk_16 40 (dk_at dksX5_init_1 11 rfl rfl)
theorem dX5_init_37 : decode cX5_init 37 = .ok (.iconst 3, 1) := dk_6 (dk_at dksX5_init_1 13 rfl rfl)
theorem dX5_init_38 : decode cX5_init 38 = .ok (.multianewarray 22 2, 4) := by decide +kernel
theorem dX5_init_42 : decode cX5_init 42 = .ok (.putfield 27, 3) := dk_181 0 27 (dk_at dksX5_init_1 18 rfl rfl)
theorem dX5_init_45 : decode cX5_init 45 = .ok (.aload_n 0, 1) := dk_42 (dk_at dksX5_init_1 21 rfl rfl)
theorem dX5_init_46 : decode cX5_init 46 = .ok (.iconst 4, 1) := dk_7 (dk_at dksX5_init_1 22 rfl rfl)
theorem dX5_init_47 : decode cX5_init 47 = .ok (.bipush 6, 2) := dk_16 6 (dk_at dksX5_init_2 0 rfl rfl)
theorem dX5_init_49 : decode cX5_init 49 = .ok (.multianewarray 22 2, 4) := by decide +kernel
theorem dX5_init_53 : decode cX5_init 53 = .ok (.putfield 30, 3) := dk_181 0 30 (dk_at dksX5_init_2 6 rfl rfl)
theorem dX5_init_56 : decode cX5_init 56 = .ok (.return_, 1) := dk_177 (dk_at dksX5_init_2 9 rfl rfl)
abbrev cX5_begins : ByteArray := prog_18_method_2_code
def yX5_begins : MethodName := ⟨RX5, "begins", "()V"⟩
def dkwX5_begins_3 : List UInt8 := [132, 1, 1, 167, 255, 193, 177]
abbrev dktX5_begins_3 : List UInt8 := dkwX5_begins_3 ++ []
def dkwX5_begins_2 : List UInt8 := [180, 0, 3, 180, 0, 44, 180, 0, 48, 27, 185, 0, 53, 2, 0, 192, 0, 59, 180, 0, 63, 182, 0, 65]
abbrev dktX5_begins_2 : List UInt8 := dkwX5_begins_2 ++ dktX5_begins_3
def dkwX5_begins_1 : List UInt8 := [27, 42, 180, 0, 3, 180, 0, 44, 180, 0, 48, 27, 185, 0, 53, 2, 0, 192, 0, 59, 180, 0, 61, 42]
abbrev dktX5_begins_1 : List UInt8 := dkwX5_begins_1 ++ dktX5_begins_2
def dkwX5_begins_0 : List UInt8 := [42, 3, 181, 0, 33, 42, 3, 181, 0, 37, 3, 60, 27, 42, 180, 0, 3, 182, 0, 40, 162, 0, 58, 42]
abbrev dktX5_begins_0 : List UInt8 := dkwX5_begins_0 ++ dktX5_begins_1
theorem dksX5_begins_0 : cX5_begins.data.toList.drop 0 = dktX5_begins_0 := by decide +kernel
theorem dksX5_begins_1 : cX5_begins.data.toList.drop 24 = dktX5_begins_1 := dk_seg dksX5_begins_0 24 rfl rfl
theorem dksX5_begins_2 : cX5_begins.data.toList.drop 48 = dktX5_begins_2 := dk_seg dksX5_begins_1 24 rfl rfl
theorem dksX5_begins_3 : cX5_begins.data.toList.drop 72 = dktX5_begins_3 := dk_seg dksX5_begins_2 24 rfl rfl
theorem dX5_begins_0 : decode cX5_begins 0 = .ok (.aload_n 0, 1) := dk_42 (dk_at dksX5_begins_0 0 rfl rfl)
theorem dX5_begins_1 : decode cX5_begins 1 = .ok (.iconst 0, 1) := dk_3 (dk_at dksX5_begins_0 1 rfl rfl)
theorem dX5_begins_2 : decode cX5_begins 2 = .ok (.putfield 33, 3) := dk_181 0 33 (dk_at dksX5_begins_0 2 rfl rfl)
theorem dX5_begins_5 : decode cX5_begins 5 = .ok (.aload_n 0, 1) := dk_42 (dk_at dksX5_begins_0 5 rfl rfl)
theorem dX5_begins_6 : decode cX5_begins 6 = .ok (.iconst 0, 1) := dk_3 (dk_at dksX5_begins_0 6 rfl rfl)
theorem dX5_begins_7 : decode cX5_begins 7 = .ok (.putfield 37, 3) := dk_181 0 37 (dk_at dksX5_begins_0 7 rfl rfl)
theorem dX5_begins_10 : decode cX5_begins 10 = .ok (.iconst 0, 1) := dk_3 (dk_at dksX5_begins_0 10 rfl rfl)
theorem dX5_begins_11 : decode cX5_begins 11 = .ok (.istore_n 1, 1) := dk_60 (dk_at dksX5_begins_0 11 rfl rfl)
theorem dX5_begins_12 : decode cX5_begins 12 = .ok (.iload_n 1, 1) := dk_27 (dk_at dksX5_begins_0 12 rfl rfl)
theorem dX5_begins_13 : decode cX5_begins 13 = .ok (.aload_n 0, 1) := dk_42 (dk_at dksX5_begins_0 13 rfl rfl)
theorem dX5_begins_14 : decode cX5_begins 14 = .ok (.getfield 3, 3) := dk_180 0 3 (dk_at dksX5_begins_0 14 rfl rfl)
theorem dX5_begins_17 : decode cX5_begins 17 = .ok (.invokevirtual 40, 3) := dk_182 0 40 (dk_at dksX5_begins_0 17 rfl rfl)
theorem dX5_begins_20 : decode cX5_begins 20 = .ok (.if_icmp .ge 58, 3) := dk_162 0 58 (dk_at dksX5_begins_0 20 rfl rfl)
theorem dX5_begins_23 : decode cX5_begins 23 = .ok (.aload_n 0, 1) := dk_42 (dk_at dksX5_begins_0 23 rfl rfl)
theorem dX5_begins_24 : decode cX5_begins 24 = .ok (.iload_n 1, 1) := dk_27 (dk_at dksX5_begins_1 0 rfl rfl)
theorem dX5_begins_25 : decode cX5_begins 25 = .ok (.aload_n 0, 1) := dk_42 (dk_at dksX5_begins_1 1 rfl rfl)
theorem dX5_begins_26 : decode cX5_begins 26 = .ok (.getfield 3, 3) := dk_180 0 3 (dk_at dksX5_begins_1 2 rfl rfl)
theorem dX5_begins_29 : decode cX5_begins 29 = .ok (.getfield 44, 3) := dk_180 0 44 (dk_at dksX5_begins_1 5 rfl rfl)
theorem dX5_begins_32 : decode cX5_begins 32 = .ok (.getfield 48, 3) := dk_180 0 48 (dk_at dksX5_begins_1 8 rfl rfl)
theorem dX5_begins_35 : decode cX5_begins 35 = .ok (.iload_n 1, 1) := dk_27 (dk_at dksX5_begins_1 11 rfl rfl)
theorem dX5_begins_36 : decode cX5_begins 36 = .ok (.invokeinterface 53 2, 5) := by decide +kernel
theorem dX5_begins_41 : decode cX5_begins 41 = .ok (.checkcast 59, 3) := dk_192 0 59 (dk_at dksX5_begins_1 17 rfl rfl)
theorem dX5_begins_44 : decode cX5_begins 44 = .ok (.getfield 61, 3) := dk_180 0 61 (dk_at dksX5_begins_1 20 rfl rfl)
theorem dX5_begins_47 : decode cX5_begins 47 = .ok (.aload_n 0, 1) := dk_42 (dk_at dksX5_begins_1 23 rfl rfl)
theorem dX5_begins_48 : decode cX5_begins 48 = .ok (.getfield 3, 3) := dk_180 0 3 (dk_at dksX5_begins_2 0 rfl rfl)
theorem dX5_begins_51 : decode cX5_begins 51 = .ok (.getfield 44, 3) := dk_180 0 44 (dk_at dksX5_begins_2 3 rfl rfl)
theorem dX5_begins_54 : decode cX5_begins 54 = .ok (.getfield 48, 3) := dk_180 0 48 (dk_at dksX5_begins_2 6 rfl rfl)
theorem dX5_begins_57 : decode cX5_begins 57 = .ok (.iload_n 1, 1) := dk_27 (dk_at dksX5_begins_2 9 rfl rfl)
theorem dX5_begins_58 : decode cX5_begins 58 = .ok (.invokeinterface 53 2, 5) := by decide +kernel
theorem dX5_begins_63 : decode cX5_begins 63 = .ok (.checkcast 59, 3) := dk_192 0 59 (dk_at dksX5_begins_2 15 rfl rfl)
theorem dX5_begins_66 : decode cX5_begins 66 = .ok (.getfield 63, 3) := dk_180 0 63 (dk_at dksX5_begins_2 18 rfl rfl)
theorem dX5_begins_69 : decode cX5_begins 69 = .ok (.invokevirtual 65, 3) := dk_182 0 65 (dk_at dksX5_begins_2 21 rfl rfl)
theorem dX5_begins_72 : decode cX5_begins 72 = .ok (.iinc 1 1, 3) := dk_132 1 1 (dk_at dksX5_begins_3 0 rfl rfl)
theorem dX5_begins_75 : decode cX5_begins 75 = .ok (.goto (-63), 3) := dk_167 255 193 (dk_at dksX5_begins_3 3 rfl rfl)
theorem dX5_begins_78 : decode cX5_begins 78 = .ok (.return_, 1) := dk_177 (dk_at dksX5_begins_3 6 rfl rfl)
abbrev cX5_paints : ByteArray := prog_18_method_3_code
def yX5_paints : MethodName := ⟨RX5, "paints", "(III)V"⟩
def dkwX5_paints_2 : List UInt8 := [180, 0, 44, 29, 28, 21, 4, 182, 0, 73, 167, 0, 4, 3, 79, 132, 4, 1, 167, 255, 209, 177]
abbrev dktX5_paints_2 : List UInt8 := dkwX5_paints_2 ++ []
def dkwX5_paints_1 : List UInt8 := [42, 180, 0, 24, 27, 50, 21, 4, 21, 4, 42, 27, 182, 0, 69, 162, 0, 20, 42, 180, 0, 3]
abbrev dktX5_paints_1 : List UInt8 := dkwX5_paints_1 ++ dktX5_paints_2
def dkwX5_paints_0 : List UInt8 := [42, 180, 0, 15, 27, 28, 79, 42, 180, 0, 19, 27, 29, 79, 3, 54, 4, 21, 4, 16, 6, 162, 0, 46]
abbrev dktX5_paints_0 : List UInt8 := dkwX5_paints_0 ++ dktX5_paints_1
theorem dksX5_paints_0 : cX5_paints.data.toList.drop 0 = dktX5_paints_0 := by decide +kernel
theorem dksX5_paints_1 : cX5_paints.data.toList.drop 24 = dktX5_paints_1 := dk_seg dksX5_paints_0 24 rfl rfl
theorem dksX5_paints_2 : cX5_paints.data.toList.drop 46 = dktX5_paints_2 := dk_seg dksX5_paints_1 22 rfl rfl
theorem dX5_paints_0 : decode cX5_paints 0 = .ok (.aload_n 0, 1) := dk_42 (dk_at dksX5_paints_0 0 rfl rfl)
theorem dX5_paints_1 : decode cX5_paints 1 = .ok (.getfield 15, 3) := dk_180 0 15 (dk_at dksX5_paints_0 1 rfl rfl)
theorem dX5_paints_4 : decode cX5_paints 4 = .ok (.iload_n 1, 1) := dk_27 (dk_at dksX5_paints_0 4 rfl rfl)
theorem dX5_paints_5 : decode cX5_paints 5 = .ok (.iload_n 2, 1) := dk_28 (dk_at dksX5_paints_0 5 rfl rfl)
theorem dX5_paints_6 : decode cX5_paints 6 = .ok (.iastore, 1) := dk_79 (dk_at dksX5_paints_0 6 rfl rfl)
theorem dX5_paints_7 : decode cX5_paints 7 = .ok (.aload_n 0, 1) := dk_42 (dk_at dksX5_paints_0 7 rfl rfl)
theorem dX5_paints_8 : decode cX5_paints 8 = .ok (.getfield 19, 3) := dk_180 0 19 (dk_at dksX5_paints_0 8 rfl rfl)
theorem dX5_paints_11 : decode cX5_paints 11 = .ok (.iload_n 1, 1) := dk_27 (dk_at dksX5_paints_0 11 rfl rfl)
theorem dX5_paints_12 : decode cX5_paints 12 = .ok (.iload_n 3, 1) := dk_29 (dk_at dksX5_paints_0 12 rfl rfl)
theorem dX5_paints_13 : decode cX5_paints 13 = .ok (.iastore, 1) := dk_79 (dk_at dksX5_paints_0 13 rfl rfl)
theorem dX5_paints_14 : decode cX5_paints 14 = .ok (.iconst 0, 1) := dk_3 (dk_at dksX5_paints_0 14 rfl rfl)
theorem dX5_paints_15 : decode cX5_paints 15 = .ok (.istore 4, 2) := dk_54 4 (dk_at dksX5_paints_0 15 rfl rfl)
theorem dX5_paints_17 : decode cX5_paints 17 = .ok (.iload 4, 2) := dk_21 4 (dk_at dksX5_paints_0 17 rfl rfl)
theorem dX5_paints_19 : decode cX5_paints 19 = .ok (.bipush 6, 2) := dk_16 6 (dk_at dksX5_paints_0 19 rfl rfl)
theorem dX5_paints_21 : decode cX5_paints 21 = .ok (.if_icmp .ge 46, 3) := dk_162 0 46 (dk_at dksX5_paints_0 21 rfl rfl)
theorem dX5_paints_24 : decode cX5_paints 24 = .ok (.aload_n 0, 1) := dk_42 (dk_at dksX5_paints_1 0 rfl rfl)
theorem dX5_paints_25 : decode cX5_paints 25 = .ok (.getfield 24, 3) := dk_180 0 24 (dk_at dksX5_paints_1 1 rfl rfl)
theorem dX5_paints_28 : decode cX5_paints 28 = .ok (.iload_n 1, 1) := dk_27 (dk_at dksX5_paints_1 4 rfl rfl)
theorem dX5_paints_29 : decode cX5_paints 29 = .ok (.aaload, 1) := dk_50 (dk_at dksX5_paints_1 5 rfl rfl)
theorem dX5_paints_30 : decode cX5_paints 30 = .ok (.iload 4, 2) := dk_21 4 (dk_at dksX5_paints_1 6 rfl rfl)
theorem dX5_paints_32 : decode cX5_paints 32 = .ok (.iload 4, 2) := dk_21 4 (dk_at dksX5_paints_1 8 rfl rfl)
theorem dX5_paints_34 : decode cX5_paints 34 = .ok (.aload_n 0, 1) := dk_42 (dk_at dksX5_paints_1 10 rfl rfl)
theorem dX5_paints_35 : decode cX5_paints 35 = .ok (.iload_n 1, 1) := dk_27 (dk_at dksX5_paints_1 11 rfl rfl)
theorem dX5_paints_36 : decode cX5_paints 36 = .ok (.invokevirtual 69, 3) := dk_182 0 69 (dk_at dksX5_paints_1 12 rfl rfl)
theorem dX5_paints_39 : decode cX5_paints 39 = .ok (.if_icmp .ge 20, 3) := dk_162 0 20 (dk_at dksX5_paints_1 15 rfl rfl)
theorem dX5_paints_42 : decode cX5_paints 42 = .ok (.aload_n 0, 1) := dk_42 (dk_at dksX5_paints_1 18 rfl rfl)
theorem dX5_paints_43 : decode cX5_paints 43 = .ok (.getfield 3, 3) := dk_180 0 3 (dk_at dksX5_paints_1 19 rfl rfl)
theorem dX5_paints_46 : decode cX5_paints 46 = .ok (.getfield 44, 3) := dk_180 0 44 (dk_at dksX5_paints_2 0 rfl rfl)
theorem dX5_paints_49 : decode cX5_paints 49 = .ok (.iload_n 3, 1) := dk_29 (dk_at dksX5_paints_2 3 rfl rfl)
theorem dX5_paints_50 : decode cX5_paints 50 = .ok (.iload_n 2, 1) := dk_28 (dk_at dksX5_paints_2 4 rfl rfl)
theorem dX5_paints_51 : decode cX5_paints 51 = .ok (.iload 4, 2) := dk_21 4 (dk_at dksX5_paints_2 5 rfl rfl)
theorem dX5_paints_53 : decode cX5_paints 53 = .ok (.invokevirtual 73, 3) := dk_182 0 73 (dk_at dksX5_paints_2 7 rfl rfl)
theorem dX5_paints_56 : decode cX5_paints 56 = .ok (.goto 4, 3) := dk_167 0 4 (dk_at dksX5_paints_2 10 rfl rfl)
theorem dX5_paints_59 : decode cX5_paints 59 = .ok (.iconst 0, 1) := dk_3 (dk_at dksX5_paints_2 13 rfl rfl)
theorem dX5_paints_60 : decode cX5_paints 60 = .ok (.iastore, 1) := dk_79 (dk_at dksX5_paints_2 14 rfl rfl)
theorem dX5_paints_61 : decode cX5_paints 61 = .ok (.iinc 4 1, 3) := dk_132 4 1 (dk_at dksX5_paints_2 15 rfl rfl)
theorem dX5_paints_64 : decode cX5_paints 64 = .ok (.goto (-47), 3) := dk_167 255 209 (dk_at dksX5_paints_2 18 rfl rfl)
theorem dX5_paints_67 : decode cX5_paints 67 = .ok (.return_, 1) := dk_177 (dk_at dksX5_paints_2 21 rfl rfl)
abbrev cX5_places : ByteArray := prog_18_method_5_code
def yX5_places : MethodName := ⟨RX5, "places", "(I)I"⟩
def dkwX5_places_1 : List UInt8 := [182, 0, 81, 172]
abbrev dktX5_places_1 : List UInt8 := dkwX5_places_1 ++ []
def dkwX5_places_0 : List UInt8 := [42, 180, 0, 3, 180, 0, 44, 180, 0, 76, 42, 180, 0, 15, 27, 46, 185, 0, 53, 2, 0, 192, 0, 79]
abbrev dktX5_places_0 : List UInt8 := dkwX5_places_0 ++ dktX5_places_1
theorem dksX5_places_0 : cX5_places.data.toList.drop 0 = dktX5_places_0 := by decide +kernel
theorem dksX5_places_1 : cX5_places.data.toList.drop 24 = dktX5_places_1 := dk_seg dksX5_places_0 24 rfl rfl
theorem dX5_places_0 : decode cX5_places 0 = .ok (.aload_n 0, 1) := dk_42 (dk_at dksX5_places_0 0 rfl rfl)
theorem dX5_places_1 : decode cX5_places 1 = .ok (.getfield 3, 3) := dk_180 0 3 (dk_at dksX5_places_0 1 rfl rfl)
theorem dX5_places_4 : decode cX5_places 4 = .ok (.getfield 44, 3) := dk_180 0 44 (dk_at dksX5_places_0 4 rfl rfl)
theorem dX5_places_7 : decode cX5_places 7 = .ok (.getfield 76, 3) := dk_180 0 76 (dk_at dksX5_places_0 7 rfl rfl)
theorem dX5_places_10 : decode cX5_places 10 = .ok (.aload_n 0, 1) := dk_42 (dk_at dksX5_places_0 10 rfl rfl)
theorem dX5_places_11 : decode cX5_places 11 = .ok (.getfield 15, 3) := dk_180 0 15 (dk_at dksX5_places_0 11 rfl rfl)
theorem dX5_places_14 : decode cX5_places 14 = .ok (.iload_n 1, 1) := dk_27 (dk_at dksX5_places_0 14 rfl rfl)
theorem dX5_places_15 : decode cX5_places 15 = .ok (.iaload, 1) := dk_46 (dk_at dksX5_places_0 15 rfl rfl)
theorem dX5_places_16 : decode cX5_places 16 = .ok (.invokeinterface 53 2, 5) := by decide +kernel
theorem dX5_places_21 : decode cX5_places 21 = .ok (.checkcast 79, 3) := dk_192 0 79 (dk_at dksX5_places_0 21 rfl rfl)
theorem dX5_places_24 : decode cX5_places 24 = .ok (.invokevirtual 81, 3) := dk_182 0 81 (dk_at dksX5_places_1 0 rfl rfl)
theorem dX5_places_27 : decode cX5_places 27 = .ok (.ireturn, 1) := dk_172 (dk_at dksX5_places_1 3 rfl rfl)
abbrev cX5_strokes : ByteArray := prog_18_method_6_code
def yX5_strokes : MethodName := ⟨RX5, "strokes", "(I)I"⟩
def dkwX5_strokes_1 : List UInt8 := [132, 3, 1, 167, 255, 233, 28, 172]
abbrev dktX5_strokes_1 : List UInt8 := dkwX5_strokes_1 ++ []
def dkwX5_strokes_0 : List UInt8 := [3, 61, 3, 62, 29, 16, 6, 162, 0, 23, 28, 42, 180, 0, 24, 27, 50, 29, 46, 184, 0, 84, 96, 61]
abbrev dktX5_strokes_0 : List UInt8 := dkwX5_strokes_0 ++ dktX5_strokes_1
theorem dksX5_strokes_0 : cX5_strokes.data.toList.drop 0 = dktX5_strokes_0 := by decide +kernel
theorem dksX5_strokes_1 : cX5_strokes.data.toList.drop 24 = dktX5_strokes_1 := dk_seg dksX5_strokes_0 24 rfl rfl
theorem dX5_strokes_0 : decode cX5_strokes 0 = .ok (.iconst 0, 1) := dk_3 (dk_at dksX5_strokes_0 0 rfl rfl)
theorem dX5_strokes_1 : decode cX5_strokes 1 = .ok (.istore_n 2, 1) := dk_61 (dk_at dksX5_strokes_0 1 rfl rfl)
theorem dX5_strokes_2 : decode cX5_strokes 2 = .ok (.iconst 0, 1) := dk_3 (dk_at dksX5_strokes_0 2 rfl rfl)
theorem dX5_strokes_3 : decode cX5_strokes 3 = .ok (.istore_n 3, 1) := dk_62 (dk_at dksX5_strokes_0 3 rfl rfl)
theorem dX5_strokes_4 : decode cX5_strokes 4 = .ok (.iload_n 3, 1) := dk_29 (dk_at dksX5_strokes_0 4 rfl rfl)
theorem dX5_strokes_5 : decode cX5_strokes 5 = .ok (.bipush 6, 2) := dk_16 6 (dk_at dksX5_strokes_0 5 rfl rfl)
theorem dX5_strokes_7 : decode cX5_strokes 7 = .ok (.if_icmp .ge 23, 3) := dk_162 0 23 (dk_at dksX5_strokes_0 7 rfl rfl)
theorem dX5_strokes_10 : decode cX5_strokes 10 = .ok (.iload_n 2, 1) := dk_28 (dk_at dksX5_strokes_0 10 rfl rfl)
theorem dX5_strokes_11 : decode cX5_strokes 11 = .ok (.aload_n 0, 1) := dk_42 (dk_at dksX5_strokes_0 11 rfl rfl)
theorem dX5_strokes_12 : decode cX5_strokes 12 = .ok (.getfield 24, 3) := dk_180 0 24 (dk_at dksX5_strokes_0 12 rfl rfl)
theorem dX5_strokes_15 : decode cX5_strokes 15 = .ok (.iload_n 1, 1) := dk_27 (dk_at dksX5_strokes_0 15 rfl rfl)
theorem dX5_strokes_16 : decode cX5_strokes 16 = .ok (.aaload, 1) := dk_50 (dk_at dksX5_strokes_0 16 rfl rfl)
theorem dX5_strokes_17 : decode cX5_strokes 17 = .ok (.iload_n 3, 1) := dk_29 (dk_at dksX5_strokes_0 17 rfl rfl)
theorem dX5_strokes_18 : decode cX5_strokes 18 = .ok (.iaload, 1) := dk_46 (dk_at dksX5_strokes_0 18 rfl rfl)
theorem dX5_strokes_19 : decode cX5_strokes 19 = .ok (.invokestatic 84, 3) := dk_184 0 84 (dk_at dksX5_strokes_0 19 rfl rfl)
theorem dX5_strokes_22 : decode cX5_strokes 22 = .ok (.iadd, 1) := dk_96 (dk_at dksX5_strokes_0 22 rfl rfl)
theorem dX5_strokes_23 : decode cX5_strokes 23 = .ok (.istore_n 2, 1) := dk_61 (dk_at dksX5_strokes_0 23 rfl rfl)
theorem dX5_strokes_24 : decode cX5_strokes 24 = .ok (.iinc 3 1, 3) := dk_132 3 1 (dk_at dksX5_strokes_1 0 rfl rfl)
theorem dX5_strokes_27 : decode cX5_strokes 27 = .ok (.goto (-23), 3) := dk_167 255 233 (dk_at dksX5_strokes_1 3 rfl rfl)
theorem dX5_strokes_30 : decode cX5_strokes 30 = .ok (.iload_n 2, 1) := dk_28 (dk_at dksX5_strokes_1 6 rfl rfl)
theorem dX5_strokes_31 : decode cX5_strokes 31 = .ok (.ireturn, 1) := dk_172 (dk_at dksX5_strokes_1 7 rfl rfl)
abbrev cX5_copy : ByteArray := prog_18_method_4_code
def yX5_copy : MethodName := ⟨RX5, "copy", "(LTurnedBoards$State;)LTurnedBoards$State;"⟩
def dkwX5_copy_5 : List UInt8 := [167, 255, 232, 132, 2, 1, 167, 255, 216, 42, 176]
abbrev dktX5_copy_5 : List UInt8 := dkwX5_copy_5 ++ []
def dkwX5_copy_4 : List UInt8 := [29, 6, 162, 0, 25, 42, 180, 0, 27, 28, 50, 29, 43, 180, 0, 27, 28, 50, 29, 46, 79, 132, 3, 1]
abbrev dktX5_copy_4 : List UInt8 := dkwX5_copy_4 ++ dktX5_copy_5
def dkwX5_copy_3 : List UInt8 := [132, 3, 1, 167, 255, 231, 132, 2, 1, 167, 255, 194, 3, 61, 28, 42, 180, 0, 37, 162, 0, 38, 3, 62]
abbrev dktX5_copy_3 : List UInt8 := dkwX5_copy_3 ++ dktX5_copy_4
def dkwX5_copy_2 : List UInt8 := [62, 29, 16, 6, 162, 0, 25, 42, 180, 0, 24, 28, 50, 29, 43, 180, 0, 24, 28, 50, 29, 46, 79]
abbrev dktX5_copy_2 : List UInt8 := dkwX5_copy_2 ++ dktX5_copy_3
def dkwX5_copy_1 : List UInt8 := [180, 0, 15, 28, 43, 180, 0, 15, 28, 46, 79, 42, 180, 0, 19, 28, 43, 180, 0, 19, 28, 46, 79, 3]
abbrev dktX5_copy_1 : List UInt8 := dkwX5_copy_1 ++ dktX5_copy_2
def dkwX5_copy_0 : List UInt8 := [42, 43, 180, 0, 33, 181, 0, 33, 42, 43, 180, 0, 37, 181, 0, 37, 3, 61, 28, 7, 162, 0, 63, 42]
abbrev dktX5_copy_0 : List UInt8 := dkwX5_copy_0 ++ dktX5_copy_1
theorem dksX5_copy_0 : cX5_copy.data.toList.drop 0 = dktX5_copy_0 := by decide +kernel
theorem dksX5_copy_1 : cX5_copy.data.toList.drop 24 = dktX5_copy_1 := dk_seg dksX5_copy_0 24 rfl rfl
theorem dksX5_copy_2 : cX5_copy.data.toList.drop 48 = dktX5_copy_2 := dk_seg dksX5_copy_1 24 rfl rfl
theorem dksX5_copy_3 : cX5_copy.data.toList.drop 71 = dktX5_copy_3 := dk_seg dksX5_copy_2 23 rfl rfl
theorem dksX5_copy_4 : cX5_copy.data.toList.drop 95 = dktX5_copy_4 := dk_seg dksX5_copy_3 24 rfl rfl
theorem dksX5_copy_5 : cX5_copy.data.toList.drop 119 = dktX5_copy_5 := dk_seg dksX5_copy_4 24 rfl rfl
theorem dX5_copy_0 : decode cX5_copy 0 = .ok (.aload_n 0, 1) := dk_42 (dk_at dksX5_copy_0 0 rfl rfl)
theorem dX5_copy_1 : decode cX5_copy 1 = .ok (.aload_n 1, 1) := dk_43 (dk_at dksX5_copy_0 1 rfl rfl)
theorem dX5_copy_2 : decode cX5_copy 2 = .ok (.getfield 33, 3) := dk_180 0 33 (dk_at dksX5_copy_0 2 rfl rfl)
theorem dX5_copy_5 : decode cX5_copy 5 = .ok (.putfield 33, 3) := dk_181 0 33 (dk_at dksX5_copy_0 5 rfl rfl)
theorem dX5_copy_8 : decode cX5_copy 8 = .ok (.aload_n 0, 1) := dk_42 (dk_at dksX5_copy_0 8 rfl rfl)
theorem dX5_copy_9 : decode cX5_copy 9 = .ok (.aload_n 1, 1) := dk_43 (dk_at dksX5_copy_0 9 rfl rfl)
theorem dX5_copy_10 : decode cX5_copy 10 = .ok (.getfield 37, 3) := dk_180 0 37 (dk_at dksX5_copy_0 10 rfl rfl)
theorem dX5_copy_13 : decode cX5_copy 13 = .ok (.putfield 37, 3) := dk_181 0 37 (dk_at dksX5_copy_0 13 rfl rfl)
theorem dX5_copy_16 : decode cX5_copy 16 = .ok (.iconst 0, 1) := dk_3 (dk_at dksX5_copy_0 16 rfl rfl)
theorem dX5_copy_17 : decode cX5_copy 17 = .ok (.istore_n 2, 1) := dk_61 (dk_at dksX5_copy_0 17 rfl rfl)
theorem dX5_copy_18 : decode cX5_copy 18 = .ok (.iload_n 2, 1) := dk_28 (dk_at dksX5_copy_0 18 rfl rfl)
theorem dX5_copy_19 : decode cX5_copy 19 = .ok (.iconst 4, 1) := dk_7 (dk_at dksX5_copy_0 19 rfl rfl)
theorem dX5_copy_20 : decode cX5_copy 20 = .ok (.if_icmp .ge 63, 3) := dk_162 0 63 (dk_at dksX5_copy_0 20 rfl rfl)
theorem dX5_copy_23 : decode cX5_copy 23 = .ok (.aload_n 0, 1) := dk_42 (dk_at dksX5_copy_0 23 rfl rfl)
theorem dX5_copy_24 : decode cX5_copy 24 = .ok (.getfield 15, 3) := dk_180 0 15 (dk_at dksX5_copy_1 0 rfl rfl)
theorem dX5_copy_27 : decode cX5_copy 27 = .ok (.iload_n 2, 1) := dk_28 (dk_at dksX5_copy_1 3 rfl rfl)
theorem dX5_copy_28 : decode cX5_copy 28 = .ok (.aload_n 1, 1) := dk_43 (dk_at dksX5_copy_1 4 rfl rfl)
theorem dX5_copy_29 : decode cX5_copy 29 = .ok (.getfield 15, 3) := dk_180 0 15 (dk_at dksX5_copy_1 5 rfl rfl)
theorem dX5_copy_32 : decode cX5_copy 32 = .ok (.iload_n 2, 1) := dk_28 (dk_at dksX5_copy_1 8 rfl rfl)
theorem dX5_copy_33 : decode cX5_copy 33 = .ok (.iaload, 1) := dk_46 (dk_at dksX5_copy_1 9 rfl rfl)
theorem dX5_copy_34 : decode cX5_copy 34 = .ok (.iastore, 1) := dk_79 (dk_at dksX5_copy_1 10 rfl rfl)
theorem dX5_copy_35 : decode cX5_copy 35 = .ok (.aload_n 0, 1) := dk_42 (dk_at dksX5_copy_1 11 rfl rfl)
theorem dX5_copy_36 : decode cX5_copy 36 = .ok (.getfield 19, 3) := dk_180 0 19 (dk_at dksX5_copy_1 12 rfl rfl)
theorem dX5_copy_39 : decode cX5_copy 39 = .ok (.iload_n 2, 1) := dk_28 (dk_at dksX5_copy_1 15 rfl rfl)
theorem dX5_copy_40 : decode cX5_copy 40 = .ok (.aload_n 1, 1) := dk_43 (dk_at dksX5_copy_1 16 rfl rfl)
theorem dX5_copy_41 : decode cX5_copy 41 = .ok (.getfield 19, 3) := dk_180 0 19 (dk_at dksX5_copy_1 17 rfl rfl)
theorem dX5_copy_44 : decode cX5_copy 44 = .ok (.iload_n 2, 1) := dk_28 (dk_at dksX5_copy_1 20 rfl rfl)
theorem dX5_copy_45 : decode cX5_copy 45 = .ok (.iaload, 1) := dk_46 (dk_at dksX5_copy_1 21 rfl rfl)
theorem dX5_copy_46 : decode cX5_copy 46 = .ok (.iastore, 1) := dk_79 (dk_at dksX5_copy_1 22 rfl rfl)
theorem dX5_copy_47 : decode cX5_copy 47 = .ok (.iconst 0, 1) := dk_3 (dk_at dksX5_copy_1 23 rfl rfl)
theorem dX5_copy_48 : decode cX5_copy 48 = .ok (.istore_n 3, 1) := dk_62 (dk_at dksX5_copy_2 0 rfl rfl)
theorem dX5_copy_49 : decode cX5_copy 49 = .ok (.iload_n 3, 1) := dk_29 (dk_at dksX5_copy_2 1 rfl rfl)
theorem dX5_copy_50 : decode cX5_copy 50 = .ok (.bipush 6, 2) := dk_16 6 (dk_at dksX5_copy_2 2 rfl rfl)
theorem dX5_copy_52 : decode cX5_copy 52 = .ok (.if_icmp .ge 25, 3) := dk_162 0 25 (dk_at dksX5_copy_2 4 rfl rfl)
theorem dX5_copy_55 : decode cX5_copy 55 = .ok (.aload_n 0, 1) := dk_42 (dk_at dksX5_copy_2 7 rfl rfl)
theorem dX5_copy_56 : decode cX5_copy 56 = .ok (.getfield 24, 3) := dk_180 0 24 (dk_at dksX5_copy_2 8 rfl rfl)
theorem dX5_copy_59 : decode cX5_copy 59 = .ok (.iload_n 2, 1) := dk_28 (dk_at dksX5_copy_2 11 rfl rfl)
theorem dX5_copy_60 : decode cX5_copy 60 = .ok (.aaload, 1) := dk_50 (dk_at dksX5_copy_2 12 rfl rfl)
theorem dX5_copy_61 : decode cX5_copy 61 = .ok (.iload_n 3, 1) := dk_29 (dk_at dksX5_copy_2 13 rfl rfl)
theorem dX5_copy_62 : decode cX5_copy 62 = .ok (.aload_n 1, 1) := dk_43 (dk_at dksX5_copy_2 14 rfl rfl)
theorem dX5_copy_63 : decode cX5_copy 63 = .ok (.getfield 24, 3) := dk_180 0 24 (dk_at dksX5_copy_2 15 rfl rfl)
theorem dX5_copy_66 : decode cX5_copy 66 = .ok (.iload_n 2, 1) := dk_28 (dk_at dksX5_copy_2 18 rfl rfl)
theorem dX5_copy_67 : decode cX5_copy 67 = .ok (.aaload, 1) := dk_50 (dk_at dksX5_copy_2 19 rfl rfl)
theorem dX5_copy_68 : decode cX5_copy 68 = .ok (.iload_n 3, 1) := dk_29 (dk_at dksX5_copy_2 20 rfl rfl)
theorem dX5_copy_69 : decode cX5_copy 69 = .ok (.iaload, 1) := dk_46 (dk_at dksX5_copy_2 21 rfl rfl)
theorem dX5_copy_70 : decode cX5_copy 70 = .ok (.iastore, 1) := dk_79 (dk_at dksX5_copy_2 22 rfl rfl)
theorem dX5_copy_71 : decode cX5_copy 71 = .ok (.iinc 3 1, 3) := dk_132 3 1 (dk_at dksX5_copy_3 0 rfl rfl)
theorem dX5_copy_74 : decode cX5_copy 74 = .ok (.goto (-25), 3) := dk_167 255 231 (dk_at dksX5_copy_3 3 rfl rfl)
theorem dX5_copy_77 : decode cX5_copy 77 = .ok (.iinc 2 1, 3) := dk_132 2 1 (dk_at dksX5_copy_3 6 rfl rfl)
theorem dX5_copy_80 : decode cX5_copy 80 = .ok (.goto (-62), 3) := dk_167 255 194 (dk_at dksX5_copy_3 9 rfl rfl)
theorem dX5_copy_83 : decode cX5_copy 83 = .ok (.iconst 0, 1) := dk_3 (dk_at dksX5_copy_3 12 rfl rfl)
theorem dX5_copy_84 : decode cX5_copy 84 = .ok (.istore_n 2, 1) := dk_61 (dk_at dksX5_copy_3 13 rfl rfl)
theorem dX5_copy_85 : decode cX5_copy 85 = .ok (.iload_n 2, 1) := dk_28 (dk_at dksX5_copy_3 14 rfl rfl)
theorem dX5_copy_86 : decode cX5_copy 86 = .ok (.aload_n 0, 1) := dk_42 (dk_at dksX5_copy_3 15 rfl rfl)
theorem dX5_copy_87 : decode cX5_copy 87 = .ok (.getfield 37, 3) := dk_180 0 37 (dk_at dksX5_copy_3 16 rfl rfl)
theorem dX5_copy_90 : decode cX5_copy 90 = .ok (.if_icmp .ge 38, 3) := dk_162 0 38 (dk_at dksX5_copy_3 19 rfl rfl)
theorem dX5_copy_93 : decode cX5_copy 93 = .ok (.iconst 0, 1) := dk_3 (dk_at dksX5_copy_3 22 rfl rfl)
theorem dX5_copy_94 : decode cX5_copy 94 = .ok (.istore_n 3, 1) := dk_62 (dk_at dksX5_copy_3 23 rfl rfl)
theorem dX5_copy_95 : decode cX5_copy 95 = .ok (.iload_n 3, 1) := dk_29 (dk_at dksX5_copy_4 0 rfl rfl)
theorem dX5_copy_96 : decode cX5_copy 96 = .ok (.iconst 3, 1) := dk_6 (dk_at dksX5_copy_4 1 rfl rfl)
theorem dX5_copy_97 : decode cX5_copy 97 = .ok (.if_icmp .ge 25, 3) := dk_162 0 25 (dk_at dksX5_copy_4 2 rfl rfl)
theorem dX5_copy_100 : decode cX5_copy 100 = .ok (.aload_n 0, 1) := dk_42 (dk_at dksX5_copy_4 5 rfl rfl)
theorem dX5_copy_101 : decode cX5_copy 101 = .ok (.getfield 27, 3) := dk_180 0 27 (dk_at dksX5_copy_4 6 rfl rfl)
theorem dX5_copy_104 : decode cX5_copy 104 = .ok (.iload_n 2, 1) := dk_28 (dk_at dksX5_copy_4 9 rfl rfl)
theorem dX5_copy_105 : decode cX5_copy 105 = .ok (.aaload, 1) := dk_50 (dk_at dksX5_copy_4 10 rfl rfl)
theorem dX5_copy_106 : decode cX5_copy 106 = .ok (.iload_n 3, 1) := dk_29 (dk_at dksX5_copy_4 11 rfl rfl)
theorem dX5_copy_107 : decode cX5_copy 107 = .ok (.aload_n 1, 1) := dk_43 (dk_at dksX5_copy_4 12 rfl rfl)
theorem dX5_copy_108 : decode cX5_copy 108 = .ok (.getfield 27, 3) := dk_180 0 27 (dk_at dksX5_copy_4 13 rfl rfl)
theorem dX5_copy_111 : decode cX5_copy 111 = .ok (.iload_n 2, 1) := dk_28 (dk_at dksX5_copy_4 16 rfl rfl)
theorem dX5_copy_112 : decode cX5_copy 112 = .ok (.aaload, 1) := dk_50 (dk_at dksX5_copy_4 17 rfl rfl)
theorem dX5_copy_113 : decode cX5_copy 113 = .ok (.iload_n 3, 1) := dk_29 (dk_at dksX5_copy_4 18 rfl rfl)
theorem dX5_copy_114 : decode cX5_copy 114 = .ok (.iaload, 1) := dk_46 (dk_at dksX5_copy_4 19 rfl rfl)
theorem dX5_copy_115 : decode cX5_copy 115 = .ok (.iastore, 1) := dk_79 (dk_at dksX5_copy_4 20 rfl rfl)
theorem dX5_copy_116 : decode cX5_copy 116 = .ok (.iinc 3 1, 3) := dk_132 3 1 (dk_at dksX5_copy_4 21 rfl rfl)
theorem dX5_copy_119 : decode cX5_copy 119 = .ok (.goto (-24), 3) := dk_167 255 232 (dk_at dksX5_copy_5 0 rfl rfl)
theorem dX5_copy_122 : decode cX5_copy 122 = .ok (.iinc 2 1, 3) := dk_132 2 1 (dk_at dksX5_copy_5 3 rfl rfl)
theorem dX5_copy_125 : decode cX5_copy 125 = .ok (.goto (-40), 3) := dk_167 255 216 (dk_at dksX5_copy_5 6 rfl rfl)
theorem dX5_copy_128 : decode cX5_copy 128 = .ok (.aload_n 0, 1) := dk_42 (dk_at dksX5_copy_5 9 rfl rfl)
theorem dX5_copy_129 : decode cX5_copy 129 = .ok (.areturn, 1) := dk_176 (dk_at dksX5_copy_5 10 rfl rfl)
abbrev cX5_years : ByteArray := prog_18_method_14_code
def yX5_years : MethodName := ⟨RX5, "years", "(I)LTurnedBoards$State;"⟩
def dkwX5_years_0 : List UInt8 := [3, 61, 28, 27, 162, 0, 14, 42, 3, 182, 0, 148, 132, 2, 1, 167, 255, 243, 42, 176]
abbrev dktX5_years_0 : List UInt8 := dkwX5_years_0 ++ []
theorem dksX5_years_0 : cX5_years.data.toList.drop 0 = dktX5_years_0 := by decide +kernel
theorem dX5_years_0 : decode cX5_years 0 = .ok (.iconst 0, 1) := dk_3 (dk_at dksX5_years_0 0 rfl rfl)
theorem dX5_years_1 : decode cX5_years 1 = .ok (.istore_n 2, 1) := dk_61 (dk_at dksX5_years_0 1 rfl rfl)
theorem dX5_years_2 : decode cX5_years 2 = .ok (.iload_n 2, 1) := dk_28 (dk_at dksX5_years_0 2 rfl rfl)
theorem dX5_years_3 : decode cX5_years 3 = .ok (.iload_n 1, 1) := dk_27 (dk_at dksX5_years_0 3 rfl rfl)
theorem dX5_years_4 : decode cX5_years 4 = .ok (.if_icmp .ge 14, 3) := dk_162 0 14 (dk_at dksX5_years_0 4 rfl rfl)
theorem dX5_years_7 : decode cX5_years 7 = .ok (.aload_n 0, 1) := dk_42 (dk_at dksX5_years_0 7 rfl rfl)
theorem dX5_years_8 : decode cX5_years 8 = .ok (.iconst 0, 1) := dk_3 (dk_at dksX5_years_0 8 rfl rfl)
theorem dX5_years_9 : decode cX5_years 9 = .ok (.invokevirtual 148, 3) := dk_182 0 148 (dk_at dksX5_years_0 9 rfl rfl)
theorem dX5_years_12 : decode cX5_years 12 = .ok (.iinc 2 1, 3) := dk_132 2 1 (dk_at dksX5_years_0 12 rfl rfl)
theorem dX5_years_15 : decode cX5_years 15 = .ok (.goto (-13), 3) := dk_167 255 243 (dk_at dksX5_years_0 15 rfl rfl)
theorem dX5_years_18 : decode cX5_years 18 = .ok (.aload_n 0, 1) := dk_42 (dk_at dksX5_years_0 18 rfl rfl)
theorem dX5_years_19 : decode cX5_years 19 = .ok (.areturn, 1) := dk_176 (dk_at dksX5_years_0 19 rfl rfl)
abbrev cX5_passes : ByteArray := prog_18_method_13_code
def yX5_passes : MethodName := ⟨RX5, "passes", "(Z)V"⟩
def dkwX5_passes_8 : List UInt8 := [167, 255, 128, 42, 89, 180, 0, 33, 4, 96, 181, 0, 33, 177]
abbrev dktX5_passes_8 : List UInt8 := dkwX5_passes_8 ++ []
def dkwX5_passes_7 : List UInt8 := [167, 0, 4, 3, 62, 132, 4, 1, 167, 255, 159, 29, 154, 0, 8, 42, 28, 182, 0, 144, 132, 2, 1]
abbrev dktX5_passes_7 : List UInt8 := dkwX5_passes_7 ++ dktX5_passes_8
def dkwX5_passes_6 : List UInt8 := [153, 0, 27, 42, 28, 3, 21, 4, 182, 0, 96, 42, 180, 0, 30, 28, 50, 21, 4, 46, 160, 0, 7, 4]
abbrev dktX5_passes_6 : List UInt8 := dkwX5_passes_6 ++ dktX5_passes_7
def dkwX5_passes_5 : List UInt8 := [2, 130, 126, 184, 0, 84, 96, 181, 0, 141, 42, 180, 0, 24, 28, 50, 21, 4, 21, 5, 79, 29]
abbrev dktX5_passes_5 : List UInt8 := dkwX5_passes_5 ++ dktX5_passes_6
def dkwX5_passes_4 : List UInt8 := [46, 21, 4, 182, 0, 138, 54, 5, 42, 89, 180, 0, 141, 42, 180, 0, 24, 28, 50, 21, 4, 46, 21, 5]
abbrev dktX5_passes_4 : List UInt8 := dkwX5_passes_4 ++ dktX5_passes_5
def dkwX5_passes_3 : List UInt8 := [4, 62, 3, 54, 4, 21, 4, 42, 28, 182, 0, 69, 162, 0, 93, 42, 42, 180, 0, 24, 28, 50, 21, 4]
abbrev dktX5_passes_3 : List UInt8 := dkwX5_passes_3 ++ dktX5_passes_4
def dkwX5_passes_2 : List UInt8 := [167, 255, 210, 27, 153, 0, 7, 42, 182, 0, 135, 3, 61, 28, 42, 180, 0, 3, 182, 0, 40, 162, 0, 123]
abbrev dktX5_passes_2 : List UInt8 := dkwX5_passes_2 ++ dktX5_passes_3
def dkwX5_passes_1 : List UInt8 := [42, 180, 0, 30, 28, 50, 29, 42, 28, 3, 29, 182, 0, 96, 79, 132, 3, 1, 167, 255, 229, 132, 2, 1]
abbrev dktX5_passes_1 : List UInt8 := dkwX5_passes_1 ++ dktX5_passes_2
def dkwX5_passes_0 : List UInt8 := [3, 61, 28, 42, 180, 0, 3, 182, 0, 40, 162, 0, 41, 3, 62, 29, 42, 28, 182, 0, 69, 162, 0, 24]
abbrev dktX5_passes_0 : List UInt8 := dkwX5_passes_0 ++ dktX5_passes_1
theorem dksX5_passes_0 : cX5_passes.data.toList.drop 0 = dktX5_passes_0 := by decide +kernel
theorem dksX5_passes_1 : cX5_passes.data.toList.drop 24 = dktX5_passes_1 := dk_seg dksX5_passes_0 24 rfl rfl
theorem dksX5_passes_2 : cX5_passes.data.toList.drop 48 = dktX5_passes_2 := dk_seg dksX5_passes_1 24 rfl rfl
theorem dksX5_passes_3 : cX5_passes.data.toList.drop 72 = dktX5_passes_3 := dk_seg dksX5_passes_2 24 rfl rfl
theorem dksX5_passes_4 : cX5_passes.data.toList.drop 96 = dktX5_passes_4 := dk_seg dksX5_passes_3 24 rfl rfl
theorem dksX5_passes_5 : cX5_passes.data.toList.drop 120 = dktX5_passes_5 := dk_seg dksX5_passes_4 24 rfl rfl
theorem dksX5_passes_6 : cX5_passes.data.toList.drop 142 = dktX5_passes_6 := dk_seg dksX5_passes_5 22 rfl rfl
theorem dksX5_passes_7 : cX5_passes.data.toList.drop 166 = dktX5_passes_7 := dk_seg dksX5_passes_6 24 rfl rfl
theorem dksX5_passes_8 : cX5_passes.data.toList.drop 189 = dktX5_passes_8 := dk_seg dksX5_passes_7 23 rfl rfl
theorem dX5_passes_0 : decode cX5_passes 0 = .ok (.iconst 0, 1) := dk_3 (dk_at dksX5_passes_0 0 rfl rfl)
theorem dX5_passes_1 : decode cX5_passes 1 = .ok (.istore_n 2, 1) := dk_61 (dk_at dksX5_passes_0 1 rfl rfl)
theorem dX5_passes_2 : decode cX5_passes 2 = .ok (.iload_n 2, 1) := dk_28 (dk_at dksX5_passes_0 2 rfl rfl)
theorem dX5_passes_3 : decode cX5_passes 3 = .ok (.aload_n 0, 1) := dk_42 (dk_at dksX5_passes_0 3 rfl rfl)
theorem dX5_passes_4 : decode cX5_passes 4 = .ok (.getfield 3, 3) := dk_180 0 3 (dk_at dksX5_passes_0 4 rfl rfl)
theorem dX5_passes_7 : decode cX5_passes 7 = .ok (.invokevirtual 40, 3) := dk_182 0 40 (dk_at dksX5_passes_0 7 rfl rfl)
theorem dX5_passes_10 : decode cX5_passes 10 = .ok (.if_icmp .ge 41, 3) := dk_162 0 41 (dk_at dksX5_passes_0 10 rfl rfl)
theorem dX5_passes_13 : decode cX5_passes 13 = .ok (.iconst 0, 1) := dk_3 (dk_at dksX5_passes_0 13 rfl rfl)
theorem dX5_passes_14 : decode cX5_passes 14 = .ok (.istore_n 3, 1) := dk_62 (dk_at dksX5_passes_0 14 rfl rfl)
theorem dX5_passes_15 : decode cX5_passes 15 = .ok (.iload_n 3, 1) := dk_29 (dk_at dksX5_passes_0 15 rfl rfl)
theorem dX5_passes_16 : decode cX5_passes 16 = .ok (.aload_n 0, 1) := dk_42 (dk_at dksX5_passes_0 16 rfl rfl)
theorem dX5_passes_17 : decode cX5_passes 17 = .ok (.iload_n 2, 1) := dk_28 (dk_at dksX5_passes_0 17 rfl rfl)
theorem dX5_passes_18 : decode cX5_passes 18 = .ok (.invokevirtual 69, 3) := dk_182 0 69 (dk_at dksX5_passes_0 18 rfl rfl)
theorem dX5_passes_21 : decode cX5_passes 21 = .ok (.if_icmp .ge 24, 3) := dk_162 0 24 (dk_at dksX5_passes_0 21 rfl rfl)
theorem dX5_passes_24 : decode cX5_passes 24 = .ok (.aload_n 0, 1) := dk_42 (dk_at dksX5_passes_1 0 rfl rfl)
theorem dX5_passes_25 : decode cX5_passes 25 = .ok (.getfield 30, 3) := dk_180 0 30 (dk_at dksX5_passes_1 1 rfl rfl)
theorem dX5_passes_28 : decode cX5_passes 28 = .ok (.iload_n 2, 1) := dk_28 (dk_at dksX5_passes_1 4 rfl rfl)
theorem dX5_passes_29 : decode cX5_passes 29 = .ok (.aaload, 1) := dk_50 (dk_at dksX5_passes_1 5 rfl rfl)
theorem dX5_passes_30 : decode cX5_passes 30 = .ok (.iload_n 3, 1) := dk_29 (dk_at dksX5_passes_1 6 rfl rfl)
theorem dX5_passes_31 : decode cX5_passes 31 = .ok (.aload_n 0, 1) := dk_42 (dk_at dksX5_passes_1 7 rfl rfl)
theorem dX5_passes_32 : decode cX5_passes 32 = .ok (.iload_n 2, 1) := dk_28 (dk_at dksX5_passes_1 8 rfl rfl)
theorem dX5_passes_33 : decode cX5_passes 33 = .ok (.iconst 0, 1) := dk_3 (dk_at dksX5_passes_1 9 rfl rfl)
theorem dX5_passes_34 : decode cX5_passes 34 = .ok (.iload_n 3, 1) := dk_29 (dk_at dksX5_passes_1 10 rfl rfl)
theorem dX5_passes_35 : decode cX5_passes 35 = .ok (.invokevirtual 96, 3) := dk_182 0 96 (dk_at dksX5_passes_1 11 rfl rfl)
theorem dX5_passes_38 : decode cX5_passes 38 = .ok (.iastore, 1) := dk_79 (dk_at dksX5_passes_1 14 rfl rfl)
theorem dX5_passes_39 : decode cX5_passes 39 = .ok (.iinc 3 1, 3) := dk_132 3 1 (dk_at dksX5_passes_1 15 rfl rfl)
theorem dX5_passes_42 : decode cX5_passes 42 = .ok (.goto (-27), 3) := dk_167 255 229 (dk_at dksX5_passes_1 18 rfl rfl)
theorem dX5_passes_45 : decode cX5_passes 45 = .ok (.iinc 2 1, 3) := dk_132 2 1 (dk_at dksX5_passes_1 21 rfl rfl)
theorem dX5_passes_48 : decode cX5_passes 48 = .ok (.goto (-46), 3) := dk_167 255 210 (dk_at dksX5_passes_2 0 rfl rfl)
theorem dX5_passes_51 : decode cX5_passes 51 = .ok (.iload_n 1, 1) := dk_27 (dk_at dksX5_passes_2 3 rfl rfl)
theorem dX5_passes_52 : decode cX5_passes 52 = .ok (.ifCond .eq 7, 3) := dk_153 0 7 (dk_at dksX5_passes_2 4 rfl rfl)
theorem dX5_passes_55 : decode cX5_passes 55 = .ok (.aload_n 0, 1) := dk_42 (dk_at dksX5_passes_2 7 rfl rfl)
theorem dX5_passes_56 : decode cX5_passes 56 = .ok (.invokevirtual 135, 3) := dk_182 0 135 (dk_at dksX5_passes_2 8 rfl rfl)
theorem dX5_passes_59 : decode cX5_passes 59 = .ok (.iconst 0, 1) := dk_3 (dk_at dksX5_passes_2 11 rfl rfl)
theorem dX5_passes_60 : decode cX5_passes 60 = .ok (.istore_n 2, 1) := dk_61 (dk_at dksX5_passes_2 12 rfl rfl)
theorem dX5_passes_61 : decode cX5_passes 61 = .ok (.iload_n 2, 1) := dk_28 (dk_at dksX5_passes_2 13 rfl rfl)
theorem dX5_passes_62 : decode cX5_passes 62 = .ok (.aload_n 0, 1) := dk_42 (dk_at dksX5_passes_2 14 rfl rfl)
theorem dX5_passes_63 : decode cX5_passes 63 = .ok (.getfield 3, 3) := dk_180 0 3 (dk_at dksX5_passes_2 15 rfl rfl)
theorem dX5_passes_66 : decode cX5_passes 66 = .ok (.invokevirtual 40, 3) := dk_182 0 40 (dk_at dksX5_passes_2 18 rfl rfl)
theorem dX5_passes_69 : decode cX5_passes 69 = .ok (.if_icmp .ge 123, 3) := dk_162 0 123 (dk_at dksX5_passes_2 21 rfl rfl)
theorem dX5_passes_72 : decode cX5_passes 72 = .ok (.iconst 1, 1) := dk_4 (dk_at dksX5_passes_3 0 rfl rfl)
theorem dX5_passes_73 : decode cX5_passes 73 = .ok (.istore_n 3, 1) := dk_62 (dk_at dksX5_passes_3 1 rfl rfl)
theorem dX5_passes_74 : decode cX5_passes 74 = .ok (.iconst 0, 1) := dk_3 (dk_at dksX5_passes_3 2 rfl rfl)
theorem dX5_passes_75 : decode cX5_passes 75 = .ok (.istore 4, 2) := dk_54 4 (dk_at dksX5_passes_3 3 rfl rfl)
theorem dX5_passes_77 : decode cX5_passes 77 = .ok (.iload 4, 2) := dk_21 4 (dk_at dksX5_passes_3 5 rfl rfl)
theorem dX5_passes_79 : decode cX5_passes 79 = .ok (.aload_n 0, 1) := dk_42 (dk_at dksX5_passes_3 7 rfl rfl)
theorem dX5_passes_80 : decode cX5_passes 80 = .ok (.iload_n 2, 1) := dk_28 (dk_at dksX5_passes_3 8 rfl rfl)
theorem dX5_passes_81 : decode cX5_passes 81 = .ok (.invokevirtual 69, 3) := dk_182 0 69 (dk_at dksX5_passes_3 9 rfl rfl)
theorem dX5_passes_84 : decode cX5_passes 84 = .ok (.if_icmp .ge 93, 3) := dk_162 0 93 (dk_at dksX5_passes_3 12 rfl rfl)
theorem dX5_passes_87 : decode cX5_passes 87 = .ok (.aload_n 0, 1) := dk_42 (dk_at dksX5_passes_3 15 rfl rfl)
theorem dX5_passes_88 : decode cX5_passes 88 = .ok (.aload_n 0, 1) := dk_42 (dk_at dksX5_passes_3 16 rfl rfl)
theorem dX5_passes_89 : decode cX5_passes 89 = .ok (.getfield 24, 3) := dk_180 0 24 (dk_at dksX5_passes_3 17 rfl rfl)
theorem dX5_passes_92 : decode cX5_passes 92 = .ok (.iload_n 2, 1) := dk_28 (dk_at dksX5_passes_3 20 rfl rfl)
theorem dX5_passes_93 : decode cX5_passes 93 = .ok (.aaload, 1) := dk_50 (dk_at dksX5_passes_3 21 rfl rfl)
theorem dX5_passes_94 : decode cX5_passes 94 = .ok (.iload 4, 2) := dk_21 4 (dk_at dksX5_passes_3 22 rfl rfl)
theorem dX5_passes_96 : decode cX5_passes 96 = .ok (.iaload, 1) := dk_46 (dk_at dksX5_passes_4 0 rfl rfl)
theorem dX5_passes_97 : decode cX5_passes 97 = .ok (.iload 4, 2) := dk_21 4 (dk_at dksX5_passes_4 1 rfl rfl)
theorem dX5_passes_99 : decode cX5_passes 99 = .ok (.invokevirtual 138, 3) := dk_182 0 138 (dk_at dksX5_passes_4 3 rfl rfl)
theorem dX5_passes_102 : decode cX5_passes 102 = .ok (.istore 5, 2) := dk_54 5 (dk_at dksX5_passes_4 6 rfl rfl)
theorem dX5_passes_104 : decode cX5_passes 104 = .ok (.aload_n 0, 1) := dk_42 (dk_at dksX5_passes_4 8 rfl rfl)
theorem dX5_passes_105 : decode cX5_passes 105 = .ok (.dup, 1) := dk_89 (dk_at dksX5_passes_4 9 rfl rfl)
theorem dX5_passes_106 : decode cX5_passes 106 = .ok (.getfield 141, 3) := dk_180 0 141 (dk_at dksX5_passes_4 10 rfl rfl)
theorem dX5_passes_109 : decode cX5_passes 109 = .ok (.aload_n 0, 1) := dk_42 (dk_at dksX5_passes_4 13 rfl rfl)
theorem dX5_passes_110 : decode cX5_passes 110 = .ok (.getfield 24, 3) := dk_180 0 24 (dk_at dksX5_passes_4 14 rfl rfl)
theorem dX5_passes_113 : decode cX5_passes 113 = .ok (.iload_n 2, 1) := dk_28 (dk_at dksX5_passes_4 17 rfl rfl)
theorem dX5_passes_114 : decode cX5_passes 114 = .ok (.aaload, 1) := dk_50 (dk_at dksX5_passes_4 18 rfl rfl)
theorem dX5_passes_115 : decode cX5_passes 115 = .ok (.iload 4, 2) := dk_21 4 (dk_at dksX5_passes_4 19 rfl rfl)
theorem dX5_passes_117 : decode cX5_passes 117 = .ok (.iaload, 1) := dk_46 (dk_at dksX5_passes_4 21 rfl rfl)
theorem dX5_passes_118 : decode cX5_passes 118 = .ok (.iload 5, 2) := dk_21 5 (dk_at dksX5_passes_4 22 rfl rfl)
theorem dX5_passes_120 : decode cX5_passes 120 = .ok (.iconst (-1), 1) := dk_2 (dk_at dksX5_passes_5 0 rfl rfl)
theorem dX5_passes_121 : decode cX5_passes 121 = .ok (.ixor, 1) := dk_130 (dk_at dksX5_passes_5 1 rfl rfl)
theorem dX5_passes_122 : decode cX5_passes 122 = .ok (.iand, 1) := dk_126 (dk_at dksX5_passes_5 2 rfl rfl)
theorem dX5_passes_123 : decode cX5_passes 123 = .ok (.invokestatic 84, 3) := dk_184 0 84 (dk_at dksX5_passes_5 3 rfl rfl)
theorem dX5_passes_126 : decode cX5_passes 126 = .ok (.iadd, 1) := dk_96 (dk_at dksX5_passes_5 6 rfl rfl)
theorem dX5_passes_127 : decode cX5_passes 127 = .ok (.putfield 141, 3) := dk_181 0 141 (dk_at dksX5_passes_5 7 rfl rfl)
theorem dX5_passes_130 : decode cX5_passes 130 = .ok (.aload_n 0, 1) := dk_42 (dk_at dksX5_passes_5 10 rfl rfl)
theorem dX5_passes_131 : decode cX5_passes 131 = .ok (.getfield 24, 3) := dk_180 0 24 (dk_at dksX5_passes_5 11 rfl rfl)
theorem dX5_passes_134 : decode cX5_passes 134 = .ok (.iload_n 2, 1) := dk_28 (dk_at dksX5_passes_5 14 rfl rfl)
theorem dX5_passes_135 : decode cX5_passes 135 = .ok (.aaload, 1) := dk_50 (dk_at dksX5_passes_5 15 rfl rfl)
theorem dX5_passes_136 : decode cX5_passes 136 = .ok (.iload 4, 2) := dk_21 4 (dk_at dksX5_passes_5 16 rfl rfl)
theorem dX5_passes_138 : decode cX5_passes 138 = .ok (.iload 5, 2) := dk_21 5 (dk_at dksX5_passes_5 18 rfl rfl)
theorem dX5_passes_140 : decode cX5_passes 140 = .ok (.iastore, 1) := dk_79 (dk_at dksX5_passes_5 20 rfl rfl)
theorem dX5_passes_141 : decode cX5_passes 141 = .ok (.iload_n 3, 1) := dk_29 (dk_at dksX5_passes_5 21 rfl rfl)
theorem dX5_passes_142 : decode cX5_passes 142 = .ok (.ifCond .eq 27, 3) := dk_153 0 27 (dk_at dksX5_passes_6 0 rfl rfl)
theorem dX5_passes_145 : decode cX5_passes 145 = .ok (.aload_n 0, 1) := dk_42 (dk_at dksX5_passes_6 3 rfl rfl)
theorem dX5_passes_146 : decode cX5_passes 146 = .ok (.iload_n 2, 1) := dk_28 (dk_at dksX5_passes_6 4 rfl rfl)
theorem dX5_passes_147 : decode cX5_passes 147 = .ok (.iconst 0, 1) := dk_3 (dk_at dksX5_passes_6 5 rfl rfl)
theorem dX5_passes_148 : decode cX5_passes 148 = .ok (.iload 4, 2) := dk_21 4 (dk_at dksX5_passes_6 6 rfl rfl)
theorem dX5_passes_150 : decode cX5_passes 150 = .ok (.invokevirtual 96, 3) := dk_182 0 96 (dk_at dksX5_passes_6 8 rfl rfl)
theorem dX5_passes_153 : decode cX5_passes 153 = .ok (.aload_n 0, 1) := dk_42 (dk_at dksX5_passes_6 11 rfl rfl)
theorem dX5_passes_154 : decode cX5_passes 154 = .ok (.getfield 30, 3) := dk_180 0 30 (dk_at dksX5_passes_6 12 rfl rfl)
theorem dX5_passes_157 : decode cX5_passes 157 = .ok (.iload_n 2, 1) := dk_28 (dk_at dksX5_passes_6 15 rfl rfl)
theorem dX5_passes_158 : decode cX5_passes 158 = .ok (.aaload, 1) := dk_50 (dk_at dksX5_passes_6 16 rfl rfl)
theorem dX5_passes_159 : decode cX5_passes 159 = .ok (.iload 4, 2) := dk_21 4 (dk_at dksX5_passes_6 17 rfl rfl)
theorem dX5_passes_161 : decode cX5_passes 161 = .ok (.iaload, 1) := dk_46 (dk_at dksX5_passes_6 19 rfl rfl)
theorem dX5_passes_162 : decode cX5_passes 162 = .ok (.if_icmp .ne 7, 3) := dk_160 0 7 (dk_at dksX5_passes_6 20 rfl rfl)
theorem dX5_passes_165 : decode cX5_passes 165 = .ok (.iconst 1, 1) := dk_4 (dk_at dksX5_passes_6 23 rfl rfl)
theorem dX5_passes_166 : decode cX5_passes 166 = .ok (.goto 4, 3) := dk_167 0 4 (dk_at dksX5_passes_7 0 rfl rfl)
theorem dX5_passes_169 : decode cX5_passes 169 = .ok (.iconst 0, 1) := dk_3 (dk_at dksX5_passes_7 3 rfl rfl)
theorem dX5_passes_170 : decode cX5_passes 170 = .ok (.istore_n 3, 1) := dk_62 (dk_at dksX5_passes_7 4 rfl rfl)
theorem dX5_passes_171 : decode cX5_passes 171 = .ok (.iinc 4 1, 3) := dk_132 4 1 (dk_at dksX5_passes_7 5 rfl rfl)
theorem dX5_passes_174 : decode cX5_passes 174 = .ok (.goto (-97), 3) := dk_167 255 159 (dk_at dksX5_passes_7 8 rfl rfl)
theorem dX5_passes_177 : decode cX5_passes 177 = .ok (.iload_n 3, 1) := dk_29 (dk_at dksX5_passes_7 11 rfl rfl)
theorem dX5_passes_178 : decode cX5_passes 178 = .ok (.ifCond .ne 8, 3) := dk_154 0 8 (dk_at dksX5_passes_7 12 rfl rfl)
theorem dX5_passes_181 : decode cX5_passes 181 = .ok (.aload_n 0, 1) := dk_42 (dk_at dksX5_passes_7 15 rfl rfl)
theorem dX5_passes_182 : decode cX5_passes 182 = .ok (.iload_n 2, 1) := dk_28 (dk_at dksX5_passes_7 16 rfl rfl)
theorem dX5_passes_183 : decode cX5_passes 183 = .ok (.invokevirtual 144, 3) := dk_182 0 144 (dk_at dksX5_passes_7 17 rfl rfl)
theorem dX5_passes_186 : decode cX5_passes 186 = .ok (.iinc 2 1, 3) := dk_132 2 1 (dk_at dksX5_passes_7 20 rfl rfl)
theorem dX5_passes_189 : decode cX5_passes 189 = .ok (.goto (-128), 3) := dk_167 255 128 (dk_at dksX5_passes_8 0 rfl rfl)
theorem dX5_passes_192 : decode cX5_passes 192 = .ok (.aload_n 0, 1) := dk_42 (dk_at dksX5_passes_8 3 rfl rfl)
theorem dX5_passes_193 : decode cX5_passes 193 = .ok (.dup, 1) := dk_89 (dk_at dksX5_passes_8 4 rfl rfl)
theorem dX5_passes_194 : decode cX5_passes 194 = .ok (.getfield 33, 3) := dk_180 0 33 (dk_at dksX5_passes_8 5 rfl rfl)
theorem dX5_passes_197 : decode cX5_passes 197 = .ok (.iconst 1, 1) := dk_4 (dk_at dksX5_passes_8 8 rfl rfl)
theorem dX5_passes_198 : decode cX5_passes 198 = .ok (.iadd, 1) := dk_96 (dk_at dksX5_passes_8 9 rfl rfl)
theorem dX5_passes_199 : decode cX5_passes 199 = .ok (.putfield 33, 3) := dk_181 0 33 (dk_at dksX5_passes_8 10 rfl rfl)
theorem dX5_passes_202 : decode cX5_passes 202 = .ok (.return_, 1) := dk_177 (dk_at dksX5_passes_8 13 rfl rfl)
abbrev cX5_says : ByteArray := prog_18_method_7_code
def yX5_says : MethodName := ⟨RX5, "says", "(III)I"⟩
def dkwX5_says_1 : List UInt8 := [167, 0, 12, 42, 27, 182, 0, 69, 4, 100, 29, 100, 46, 28, 184, 0, 89, 182, 0, 93, 172]
abbrev dktX5_says_1 : List UInt8 := dkwX5_says_1 ++ []
def dkwX5_says_0 : List UInt8 := [42, 180, 0, 3, 42, 180, 0, 19, 27, 46, 42, 180, 0, 24, 27, 50, 28, 5, 112, 154, 0, 7, 29]
abbrev dktX5_says_0 : List UInt8 := dkwX5_says_0 ++ dktX5_says_1
theorem dksX5_says_0 : cX5_says.data.toList.drop 0 = dktX5_says_0 := by decide +kernel
theorem dksX5_says_1 : cX5_says.data.toList.drop 23 = dktX5_says_1 := dk_seg dksX5_says_0 23 rfl rfl
theorem dX5_says_0 : decode cX5_says 0 = .ok (.aload_n 0, 1) := dk_42 (dk_at dksX5_says_0 0 rfl rfl)
theorem dX5_says_1 : decode cX5_says 1 = .ok (.getfield 3, 3) := dk_180 0 3 (dk_at dksX5_says_0 1 rfl rfl)
theorem dX5_says_4 : decode cX5_says 4 = .ok (.aload_n 0, 1) := dk_42 (dk_at dksX5_says_0 4 rfl rfl)
theorem dX5_says_5 : decode cX5_says 5 = .ok (.getfield 19, 3) := dk_180 0 19 (dk_at dksX5_says_0 5 rfl rfl)
theorem dX5_says_8 : decode cX5_says 8 = .ok (.iload_n 1, 1) := dk_27 (dk_at dksX5_says_0 8 rfl rfl)
theorem dX5_says_9 : decode cX5_says 9 = .ok (.iaload, 1) := dk_46 (dk_at dksX5_says_0 9 rfl rfl)
theorem dX5_says_10 : decode cX5_says 10 = .ok (.aload_n 0, 1) := dk_42 (dk_at dksX5_says_0 10 rfl rfl)
theorem dX5_says_11 : decode cX5_says 11 = .ok (.getfield 24, 3) := dk_180 0 24 (dk_at dksX5_says_0 11 rfl rfl)
theorem dX5_says_14 : decode cX5_says 14 = .ok (.iload_n 1, 1) := dk_27 (dk_at dksX5_says_0 14 rfl rfl)
theorem dX5_says_15 : decode cX5_says 15 = .ok (.aaload, 1) := dk_50 (dk_at dksX5_says_0 15 rfl rfl)
theorem dX5_says_16 : decode cX5_says 16 = .ok (.iload_n 2, 1) := dk_28 (dk_at dksX5_says_0 16 rfl rfl)
theorem dX5_says_17 : decode cX5_says 17 = .ok (.iconst 2, 1) := dk_5 (dk_at dksX5_says_0 17 rfl rfl)
theorem dX5_says_18 : decode cX5_says 18 = .ok (.irem, 1) := dk_112 (dk_at dksX5_says_0 18 rfl rfl)
theorem dX5_says_19 : decode cX5_says 19 = .ok (.ifCond .ne 7, 3) := dk_154 0 7 (dk_at dksX5_says_0 19 rfl rfl)
theorem dX5_says_22 : decode cX5_says 22 = .ok (.iload_n 3, 1) := dk_29 (dk_at dksX5_says_0 22 rfl rfl)
theorem dX5_says_23 : decode cX5_says 23 = .ok (.goto 12, 3) := dk_167 0 12 (dk_at dksX5_says_1 0 rfl rfl)
theorem dX5_says_26 : decode cX5_says 26 = .ok (.aload_n 0, 1) := dk_42 (dk_at dksX5_says_1 3 rfl rfl)
theorem dX5_says_27 : decode cX5_says 27 = .ok (.iload_n 1, 1) := dk_27 (dk_at dksX5_says_1 4 rfl rfl)
theorem dX5_says_28 : decode cX5_says 28 = .ok (.invokevirtual 69, 3) := dk_182 0 69 (dk_at dksX5_says_1 5 rfl rfl)
theorem dX5_says_31 : decode cX5_says 31 = .ok (.iconst 1, 1) := dk_4 (dk_at dksX5_says_1 8 rfl rfl)
theorem dX5_says_32 : decode cX5_says 32 = .ok (.isub, 1) := dk_100 (dk_at dksX5_says_1 9 rfl rfl)
theorem dX5_says_33 : decode cX5_says 33 = .ok (.iload_n 3, 1) := dk_29 (dk_at dksX5_says_1 10 rfl rfl)
theorem dX5_says_34 : decode cX5_says 34 = .ok (.isub, 1) := dk_100 (dk_at dksX5_says_1 11 rfl rfl)
theorem dX5_says_35 : decode cX5_says 35 = .ok (.iaload, 1) := dk_46 (dk_at dksX5_says_1 12 rfl rfl)
theorem dX5_says_36 : decode cX5_says 36 = .ok (.iload_n 2, 1) := dk_28 (dk_at dksX5_says_1 13 rfl rfl)
theorem dX5_says_37 : decode cX5_says 37 = .ok (.invokestatic 89, 3) := dk_184 0 89 (dk_at dksX5_says_1 14 rfl rfl)
theorem dX5_says_40 : decode cX5_says 40 = .ok (.invokevirtual 93, 3) := dk_182 0 93 (dk_at dksX5_says_1 17 rfl rfl)
theorem dX5_says_43 : decode cX5_says 43 = .ok (.ireturn, 1) := dk_172 (dk_at dksX5_says_1 20 rfl rfl)
abbrev cX5_hails : ByteArray := prog_18_method_12_code
def yX5_hails : MethodName := ⟨RX5, "hails", "()V"⟩
def dkwX5_hails_3 : List UInt8 := [50, 28, 92, 46, 4, 29, 120, 2, 130, 126, 79, 177]
abbrev dktX5_hails_3 : List UInt8 := dkwX5_hails_3 ++ []
def dkwX5_hails_2 : List UInt8 := [50, 28, 46, 29, 184, 0, 102, 153, 0, 7, 4, 167, 0, 4, 3, 96, 181, 0, 132, 42, 180, 0, 24, 27]
abbrev dktX5_hails_2 : List UInt8 := dkwX5_hails_2 ++ dktX5_hails_3
def dkwX5_hails_1 : List UInt8 := [182, 0, 129, 61, 42, 180, 0, 3, 16, 15, 182, 0, 129, 62, 42, 89, 180, 0, 132, 42, 180, 0, 24, 27]
abbrev dktX5_hails_1 : List UInt8 := dkwX5_hails_1 ++ dktX5_hails_2
def dkwX5_hails_0 : List UInt8 := [42, 180, 0, 3, 42, 180, 0, 3, 182, 0, 40, 182, 0, 129, 60, 42, 180, 0, 3, 42, 27, 182, 0, 69]
abbrev dktX5_hails_0 : List UInt8 := dkwX5_hails_0 ++ dktX5_hails_1
theorem dksX5_hails_0 : cX5_hails.data.toList.drop 0 = dktX5_hails_0 := by decide +kernel
theorem dksX5_hails_1 : cX5_hails.data.toList.drop 24 = dktX5_hails_1 := dk_seg dksX5_hails_0 24 rfl rfl
theorem dksX5_hails_2 : cX5_hails.data.toList.drop 48 = dktX5_hails_2 := dk_seg dksX5_hails_1 24 rfl rfl
theorem dksX5_hails_3 : cX5_hails.data.toList.drop 72 = dktX5_hails_3 := dk_seg dksX5_hails_2 24 rfl rfl
theorem dX5_hails_0 : decode cX5_hails 0 = .ok (.aload_n 0, 1) := dk_42 (dk_at dksX5_hails_0 0 rfl rfl)
theorem dX5_hails_1 : decode cX5_hails 1 = .ok (.getfield 3, 3) := dk_180 0 3 (dk_at dksX5_hails_0 1 rfl rfl)
theorem dX5_hails_4 : decode cX5_hails 4 = .ok (.aload_n 0, 1) := dk_42 (dk_at dksX5_hails_0 4 rfl rfl)
theorem dX5_hails_5 : decode cX5_hails 5 = .ok (.getfield 3, 3) := dk_180 0 3 (dk_at dksX5_hails_0 5 rfl rfl)
theorem dX5_hails_8 : decode cX5_hails 8 = .ok (.invokevirtual 40, 3) := dk_182 0 40 (dk_at dksX5_hails_0 8 rfl rfl)
theorem dX5_hails_11 : decode cX5_hails 11 = .ok (.invokevirtual 129, 3) := dk_182 0 129 (dk_at dksX5_hails_0 11 rfl rfl)
theorem dX5_hails_14 : decode cX5_hails 14 = .ok (.istore_n 1, 1) := dk_60 (dk_at dksX5_hails_0 14 rfl rfl)
theorem dX5_hails_15 : decode cX5_hails 15 = .ok (.aload_n 0, 1) := dk_42 (dk_at dksX5_hails_0 15 rfl rfl)
theorem dX5_hails_16 : decode cX5_hails 16 = .ok (.getfield 3, 3) := dk_180 0 3 (dk_at dksX5_hails_0 16 rfl rfl)
theorem dX5_hails_19 : decode cX5_hails 19 = .ok (.aload_n 0, 1) := dk_42 (dk_at dksX5_hails_0 19 rfl rfl)
theorem dX5_hails_20 : decode cX5_hails 20 = .ok (.iload_n 1, 1) := dk_27 (dk_at dksX5_hails_0 20 rfl rfl)
theorem dX5_hails_21 : decode cX5_hails 21 = .ok (.invokevirtual 69, 3) := dk_182 0 69 (dk_at dksX5_hails_0 21 rfl rfl)
theorem dX5_hails_24 : decode cX5_hails 24 = .ok (.invokevirtual 129, 3) := dk_182 0 129 (dk_at dksX5_hails_1 0 rfl rfl)
theorem dX5_hails_27 : decode cX5_hails 27 = .ok (.istore_n 2, 1) := dk_61 (dk_at dksX5_hails_1 3 rfl rfl)
theorem dX5_hails_28 : decode cX5_hails 28 = .ok (.aload_n 0, 1) := dk_42 (dk_at dksX5_hails_1 4 rfl rfl)
theorem dX5_hails_29 : decode cX5_hails 29 = .ok (.getfield 3, 3) := dk_180 0 3 (dk_at dksX5_hails_1 5 rfl rfl)
theorem dX5_hails_32 : decode cX5_hails 32 = .ok (.bipush 15, 2) := dk_16 15 (dk_at dksX5_hails_1 8 rfl rfl)
theorem dX5_hails_34 : decode cX5_hails 34 = .ok (.invokevirtual 129, 3) := dk_182 0 129 (dk_at dksX5_hails_1 10 rfl rfl)
theorem dX5_hails_37 : decode cX5_hails 37 = .ok (.istore_n 3, 1) := dk_62 (dk_at dksX5_hails_1 13 rfl rfl)
theorem dX5_hails_38 : decode cX5_hails 38 = .ok (.aload_n 0, 1) := dk_42 (dk_at dksX5_hails_1 14 rfl rfl)
theorem dX5_hails_39 : decode cX5_hails 39 = .ok (.dup, 1) := dk_89 (dk_at dksX5_hails_1 15 rfl rfl)
theorem dX5_hails_40 : decode cX5_hails 40 = .ok (.getfield 132, 3) := dk_180 0 132 (dk_at dksX5_hails_1 16 rfl rfl)
theorem dX5_hails_43 : decode cX5_hails 43 = .ok (.aload_n 0, 1) := dk_42 (dk_at dksX5_hails_1 19 rfl rfl)
theorem dX5_hails_44 : decode cX5_hails 44 = .ok (.getfield 24, 3) := dk_180 0 24 (dk_at dksX5_hails_1 20 rfl rfl)
theorem dX5_hails_47 : decode cX5_hails 47 = .ok (.iload_n 1, 1) := dk_27 (dk_at dksX5_hails_1 23 rfl rfl)
theorem dX5_hails_48 : decode cX5_hails 48 = .ok (.aaload, 1) := dk_50 (dk_at dksX5_hails_2 0 rfl rfl)
theorem dX5_hails_49 : decode cX5_hails 49 = .ok (.iload_n 2, 1) := dk_28 (dk_at dksX5_hails_2 1 rfl rfl)
theorem dX5_hails_50 : decode cX5_hails 50 = .ok (.iaload, 1) := dk_46 (dk_at dksX5_hails_2 2 rfl rfl)
theorem dX5_hails_51 : decode cX5_hails 51 = .ok (.iload_n 3, 1) := dk_29 (dk_at dksX5_hails_2 3 rfl rfl)
theorem dX5_hails_52 : decode cX5_hails 52 = .ok (.invokestatic 102, 3) := dk_184 0 102 (dk_at dksX5_hails_2 4 rfl rfl)
theorem dX5_hails_55 : decode cX5_hails 55 = .ok (.ifCond .eq 7, 3) := dk_153 0 7 (dk_at dksX5_hails_2 7 rfl rfl)
theorem dX5_hails_58 : decode cX5_hails 58 = .ok (.iconst 1, 1) := dk_4 (dk_at dksX5_hails_2 10 rfl rfl)
theorem dX5_hails_59 : decode cX5_hails 59 = .ok (.goto 4, 3) := dk_167 0 4 (dk_at dksX5_hails_2 11 rfl rfl)
theorem dX5_hails_62 : decode cX5_hails 62 = .ok (.iconst 0, 1) := dk_3 (dk_at dksX5_hails_2 14 rfl rfl)
theorem dX5_hails_63 : decode cX5_hails 63 = .ok (.iadd, 1) := dk_96 (dk_at dksX5_hails_2 15 rfl rfl)
theorem dX5_hails_64 : decode cX5_hails 64 = .ok (.putfield 132, 3) := dk_181 0 132 (dk_at dksX5_hails_2 16 rfl rfl)
theorem dX5_hails_67 : decode cX5_hails 67 = .ok (.aload_n 0, 1) := dk_42 (dk_at dksX5_hails_2 19 rfl rfl)
theorem dX5_hails_68 : decode cX5_hails 68 = .ok (.getfield 24, 3) := dk_180 0 24 (dk_at dksX5_hails_2 20 rfl rfl)
theorem dX5_hails_71 : decode cX5_hails 71 = .ok (.iload_n 1, 1) := dk_27 (dk_at dksX5_hails_2 23 rfl rfl)
theorem dX5_hails_72 : decode cX5_hails 72 = .ok (.aaload, 1) := dk_50 (dk_at dksX5_hails_3 0 rfl rfl)
theorem dX5_hails_73 : decode cX5_hails 73 = .ok (.iload_n 2, 1) := dk_28 (dk_at dksX5_hails_3 1 rfl rfl)
theorem dX5_hails_74 : decode cX5_hails 74 = .ok (.dup2, 1) := dk_92 (dk_at dksX5_hails_3 2 rfl rfl)
theorem dX5_hails_75 : decode cX5_hails 75 = .ok (.iaload, 1) := dk_46 (dk_at dksX5_hails_3 3 rfl rfl)
theorem dX5_hails_76 : decode cX5_hails 76 = .ok (.iconst 1, 1) := dk_4 (dk_at dksX5_hails_3 4 rfl rfl)
theorem dX5_hails_77 : decode cX5_hails 77 = .ok (.iload_n 3, 1) := dk_29 (dk_at dksX5_hails_3 5 rfl rfl)
theorem dX5_hails_78 : decode cX5_hails 78 = .ok (.ishl, 1) := dk_120 (dk_at dksX5_hails_3 6 rfl rfl)
theorem dX5_hails_79 : decode cX5_hails 79 = .ok (.iconst (-1), 1) := dk_2 (dk_at dksX5_hails_3 7 rfl rfl)
theorem dX5_hails_80 : decode cX5_hails 80 = .ok (.ixor, 1) := dk_130 (dk_at dksX5_hails_3 8 rfl rfl)
theorem dX5_hails_81 : decode cX5_hails 81 = .ok (.iand, 1) := dk_126 (dk_at dksX5_hails_3 9 rfl rfl)
theorem dX5_hails_82 : decode cX5_hails 82 = .ok (.iastore, 1) := dk_79 (dk_at dksX5_hails_3 10 rfl rfl)
theorem dX5_hails_83 : decode cX5_hails 83 = .ok (.return_, 1) := dk_177 (dk_at dksX5_hails_3 11 rfl rfl)
abbrev cX5_rainedOn : ByteArray := prog_18_method_10_code
def yX5_rainedOn : MethodName := ⟨RX5, "rainedOn", "(II)I"⟩
def dkwX5_rainedOn_7 : List UInt8 := [29, 172]
abbrev dktX5_rainedOn_7 : List UInt8 := dkwX5_rainedOn_7 ++ []
def dkwX5_rainedOn_6 : List UInt8 := [180, 0, 110, 182, 0, 123, 153, 0, 12, 29, 4, 21, 4, 120, 2, 130, 126, 62, 132, 4, 1, 167, 255, 102]
abbrev dktX5_rainedOn_6 : List UInt8 := dkwX5_rainedOn_6 ++ dktX5_rainedOn_7
def dkwX5_rainedOn_5 : List UInt8 := [16, 7, 42, 180, 0, 33, 133, 80, 42, 180, 0, 3, 180, 0, 44, 180, 0, 106, 42, 180, 0, 3]
abbrev dktX5_rainedOn_5 : List UInt8 := dkwX5_rainedOn_5 ++ dktX5_rainedOn_6
def dkwX5_rainedOn_4 : List UInt8 := [180, 0, 114, 16, 6, 42, 27, 21, 4, 182, 0, 120, 133, 80, 42, 180, 0, 3, 180, 0, 110, 180, 0, 114]
abbrev dktX5_rainedOn_4 : List UInt8 := dkwX5_rainedOn_4 ++ dktX5_rainedOn_5
def dkwX5_rainedOn_3 : List UInt8 := [108, 133, 80, 42, 180, 0, 3, 180, 0, 110, 180, 0, 114, 8, 28, 133, 80, 42, 180, 0, 3, 180, 0, 110]
abbrev dktX5_rainedOn_3 : List UInt8 := dkwX5_rainedOn_3 ++ dktX5_rainedOn_4
def dkwX5_rainedOn_2 : List UInt8 := [180, 0, 114, 6, 21, 4, 6, 112, 133, 80, 42, 180, 0, 3, 180, 0, 110, 180, 0, 114, 7, 21, 4, 6]
abbrev dktX5_rainedOn_2 : List UInt8 := dkwX5_rainedOn_2 ++ dktX5_rainedOn_3
def dkwX5_rainedOn_1 : List UInt8 := [198, 0, 140, 27, 21, 4, 184, 0, 102, 154, 0, 6, 167, 0, 122, 42, 180, 0, 3, 180, 0, 110]
abbrev dktX5_rainedOn_1 : List UInt8 := dkwX5_rainedOn_1 ++ dktX5_rainedOn_2
def dkwX5_rainedOn_0 : List UInt8 := [27, 62, 3, 54, 4, 21, 4, 16, 15, 162, 0, 153, 42, 180, 0, 3, 180, 0, 44, 180, 0, 106]
abbrev dktX5_rainedOn_0 : List UInt8 := dkwX5_rainedOn_0 ++ dktX5_rainedOn_1
theorem dksX5_rainedOn_0 : cX5_rainedOn.data.toList.drop 0 = dktX5_rainedOn_0 := by decide +kernel
theorem dksX5_rainedOn_1 : cX5_rainedOn.data.toList.drop 22 = dktX5_rainedOn_1 := dk_seg dksX5_rainedOn_0 22 rfl rfl
theorem dksX5_rainedOn_2 : cX5_rainedOn.data.toList.drop 44 = dktX5_rainedOn_2 := dk_seg dksX5_rainedOn_1 22 rfl rfl
theorem dksX5_rainedOn_3 : cX5_rainedOn.data.toList.drop 68 = dktX5_rainedOn_3 := dk_seg dksX5_rainedOn_2 24 rfl rfl
theorem dksX5_rainedOn_4 : cX5_rainedOn.data.toList.drop 92 = dktX5_rainedOn_4 := dk_seg dksX5_rainedOn_3 24 rfl rfl
theorem dksX5_rainedOn_5 : cX5_rainedOn.data.toList.drop 116 = dktX5_rainedOn_5 := dk_seg dksX5_rainedOn_4 24 rfl rfl
theorem dksX5_rainedOn_6 : cX5_rainedOn.data.toList.drop 138 = dktX5_rainedOn_6 := dk_seg dksX5_rainedOn_5 22 rfl rfl
theorem dksX5_rainedOn_7 : cX5_rainedOn.data.toList.drop 162 = dktX5_rainedOn_7 := dk_seg dksX5_rainedOn_6 24 rfl rfl
theorem dX5_rainedOn_0 : decode cX5_rainedOn 0 = .ok (.iload_n 1, 1) := dk_27 (dk_at dksX5_rainedOn_0 0 rfl rfl)
theorem dX5_rainedOn_1 : decode cX5_rainedOn 1 = .ok (.istore_n 3, 1) := dk_62 (dk_at dksX5_rainedOn_0 1 rfl rfl)
theorem dX5_rainedOn_2 : decode cX5_rainedOn 2 = .ok (.iconst 0, 1) := dk_3 (dk_at dksX5_rainedOn_0 2 rfl rfl)
theorem dX5_rainedOn_3 : decode cX5_rainedOn 3 = .ok (.istore 4, 2) := dk_54 4 (dk_at dksX5_rainedOn_0 3 rfl rfl)
theorem dX5_rainedOn_5 : decode cX5_rainedOn 5 = .ok (.iload 4, 2) := dk_21 4 (dk_at dksX5_rainedOn_0 5 rfl rfl)
theorem dX5_rainedOn_7 : decode cX5_rainedOn 7 = .ok (.bipush 15, 2) := dk_16 15 (dk_at dksX5_rainedOn_0 7 rfl rfl)
theorem dX5_rainedOn_9 : decode cX5_rainedOn 9 = .ok (.if_icmp .ge 153, 3) := dk_162 0 153 (dk_at dksX5_rainedOn_0 9 rfl rfl)
theorem dX5_rainedOn_12 : decode cX5_rainedOn 12 = .ok (.aload_n 0, 1) := dk_42 (dk_at dksX5_rainedOn_0 12 rfl rfl)
theorem dX5_rainedOn_13 : decode cX5_rainedOn 13 = .ok (.getfield 3, 3) := dk_180 0 3 (dk_at dksX5_rainedOn_0 13 rfl rfl)
theorem dX5_rainedOn_16 : decode cX5_rainedOn 16 = .ok (.getfield 44, 3) := dk_180 0 44 (dk_at dksX5_rainedOn_0 16 rfl rfl)
theorem dX5_rainedOn_19 : decode cX5_rainedOn 19 = .ok (.getfield 106, 3) := dk_180 0 106 (dk_at dksX5_rainedOn_0 19 rfl rfl)
theorem dX5_rainedOn_22 : decode cX5_rainedOn 22 = .ok (.ifnull 140, 3) := dk_198 0 140 (dk_at dksX5_rainedOn_1 0 rfl rfl)
theorem dX5_rainedOn_25 : decode cX5_rainedOn 25 = .ok (.iload_n 1, 1) := dk_27 (dk_at dksX5_rainedOn_1 3 rfl rfl)
theorem dX5_rainedOn_26 : decode cX5_rainedOn 26 = .ok (.iload 4, 2) := dk_21 4 (dk_at dksX5_rainedOn_1 4 rfl rfl)
theorem dX5_rainedOn_28 : decode cX5_rainedOn 28 = .ok (.invokestatic 102, 3) := dk_184 0 102 (dk_at dksX5_rainedOn_1 6 rfl rfl)
theorem dX5_rainedOn_31 : decode cX5_rainedOn 31 = .ok (.ifCond .ne 6, 3) := dk_154 0 6 (dk_at dksX5_rainedOn_1 9 rfl rfl)
theorem dX5_rainedOn_34 : decode cX5_rainedOn 34 = .ok (.goto 122, 3) := dk_167 0 122 (dk_at dksX5_rainedOn_1 12 rfl rfl)
theorem dX5_rainedOn_37 : decode cX5_rainedOn 37 = .ok (.aload_n 0, 1) := dk_42 (dk_at dksX5_rainedOn_1 15 rfl rfl)
theorem dX5_rainedOn_38 : decode cX5_rainedOn 38 = .ok (.getfield 3, 3) := dk_180 0 3 (dk_at dksX5_rainedOn_1 16 rfl rfl)
theorem dX5_rainedOn_41 : decode cX5_rainedOn 41 = .ok (.getfield 110, 3) := dk_180 0 110 (dk_at dksX5_rainedOn_1 19 rfl rfl)
theorem dX5_rainedOn_44 : decode cX5_rainedOn 44 = .ok (.getfield 114, 3) := dk_180 0 114 (dk_at dksX5_rainedOn_2 0 rfl rfl)
theorem dX5_rainedOn_47 : decode cX5_rainedOn 47 = .ok (.iconst 3, 1) := dk_6 (dk_at dksX5_rainedOn_2 3 rfl rfl)
theorem dX5_rainedOn_48 : decode cX5_rainedOn 48 = .ok (.iload 4, 2) := dk_21 4 (dk_at dksX5_rainedOn_2 4 rfl rfl)
theorem dX5_rainedOn_50 : decode cX5_rainedOn 50 = .ok (.iconst 3, 1) := dk_6 (dk_at dksX5_rainedOn_2 6 rfl rfl)
theorem dX5_rainedOn_51 : decode cX5_rainedOn 51 = .ok (.irem, 1) := dk_112 (dk_at dksX5_rainedOn_2 7 rfl rfl)
theorem dX5_rainedOn_52 : decode cX5_rainedOn 52 = .ok (.i2l, 1) := dk_133 (dk_at dksX5_rainedOn_2 8 rfl rfl)
theorem dX5_rainedOn_53 : decode cX5_rainedOn 53 = .ok (.lastore, 1) := dk_80 (dk_at dksX5_rainedOn_2 9 rfl rfl)
theorem dX5_rainedOn_54 : decode cX5_rainedOn 54 = .ok (.aload_n 0, 1) := dk_42 (dk_at dksX5_rainedOn_2 10 rfl rfl)
theorem dX5_rainedOn_55 : decode cX5_rainedOn 55 = .ok (.getfield 3, 3) := dk_180 0 3 (dk_at dksX5_rainedOn_2 11 rfl rfl)
theorem dX5_rainedOn_58 : decode cX5_rainedOn 58 = .ok (.getfield 110, 3) := dk_180 0 110 (dk_at dksX5_rainedOn_2 14 rfl rfl)
theorem dX5_rainedOn_61 : decode cX5_rainedOn 61 = .ok (.getfield 114, 3) := dk_180 0 114 (dk_at dksX5_rainedOn_2 17 rfl rfl)
theorem dX5_rainedOn_64 : decode cX5_rainedOn 64 = .ok (.iconst 4, 1) := dk_7 (dk_at dksX5_rainedOn_2 20 rfl rfl)
theorem dX5_rainedOn_65 : decode cX5_rainedOn 65 = .ok (.iload 4, 2) := dk_21 4 (dk_at dksX5_rainedOn_2 21 rfl rfl)
theorem dX5_rainedOn_67 : decode cX5_rainedOn 67 = .ok (.iconst 3, 1) := dk_6 (dk_at dksX5_rainedOn_2 23 rfl rfl)
theorem dX5_rainedOn_68 : decode cX5_rainedOn 68 = .ok (.idiv, 1) := dk_108 (dk_at dksX5_rainedOn_3 0 rfl rfl)
theorem dX5_rainedOn_69 : decode cX5_rainedOn 69 = .ok (.i2l, 1) := dk_133 (dk_at dksX5_rainedOn_3 1 rfl rfl)
theorem dX5_rainedOn_70 : decode cX5_rainedOn 70 = .ok (.lastore, 1) := dk_80 (dk_at dksX5_rainedOn_3 2 rfl rfl)
theorem dX5_rainedOn_71 : decode cX5_rainedOn 71 = .ok (.aload_n 0, 1) := dk_42 (dk_at dksX5_rainedOn_3 3 rfl rfl)
theorem dX5_rainedOn_72 : decode cX5_rainedOn 72 = .ok (.getfield 3, 3) := dk_180 0 3 (dk_at dksX5_rainedOn_3 4 rfl rfl)
theorem dX5_rainedOn_75 : decode cX5_rainedOn 75 = .ok (.getfield 110, 3) := dk_180 0 110 (dk_at dksX5_rainedOn_3 7 rfl rfl)
theorem dX5_rainedOn_78 : decode cX5_rainedOn 78 = .ok (.getfield 114, 3) := dk_180 0 114 (dk_at dksX5_rainedOn_3 10 rfl rfl)
theorem dX5_rainedOn_81 : decode cX5_rainedOn 81 = .ok (.iconst 5, 1) := dk_8 (dk_at dksX5_rainedOn_3 13 rfl rfl)
theorem dX5_rainedOn_82 : decode cX5_rainedOn 82 = .ok (.iload_n 2, 1) := dk_28 (dk_at dksX5_rainedOn_3 14 rfl rfl)
theorem dX5_rainedOn_83 : decode cX5_rainedOn 83 = .ok (.i2l, 1) := dk_133 (dk_at dksX5_rainedOn_3 15 rfl rfl)
theorem dX5_rainedOn_84 : decode cX5_rainedOn 84 = .ok (.lastore, 1) := dk_80 (dk_at dksX5_rainedOn_3 16 rfl rfl)
theorem dX5_rainedOn_85 : decode cX5_rainedOn 85 = .ok (.aload_n 0, 1) := dk_42 (dk_at dksX5_rainedOn_3 17 rfl rfl)
theorem dX5_rainedOn_86 : decode cX5_rainedOn 86 = .ok (.getfield 3, 3) := dk_180 0 3 (dk_at dksX5_rainedOn_3 18 rfl rfl)
theorem dX5_rainedOn_89 : decode cX5_rainedOn 89 = .ok (.getfield 110, 3) := dk_180 0 110 (dk_at dksX5_rainedOn_3 21 rfl rfl)
theorem dX5_rainedOn_92 : decode cX5_rainedOn 92 = .ok (.getfield 114, 3) := dk_180 0 114 (dk_at dksX5_rainedOn_4 0 rfl rfl)
theorem dX5_rainedOn_95 : decode cX5_rainedOn 95 = .ok (.bipush 6, 2) := dk_16 6 (dk_at dksX5_rainedOn_4 3 rfl rfl)
theorem dX5_rainedOn_97 : decode cX5_rainedOn 97 = .ok (.aload_n 0, 1) := dk_42 (dk_at dksX5_rainedOn_4 5 rfl rfl)
theorem dX5_rainedOn_98 : decode cX5_rainedOn 98 = .ok (.iload_n 1, 1) := dk_27 (dk_at dksX5_rainedOn_4 6 rfl rfl)
theorem dX5_rainedOn_99 : decode cX5_rainedOn 99 = .ok (.iload 4, 2) := dk_21 4 (dk_at dksX5_rainedOn_4 7 rfl rfl)
theorem dX5_rainedOn_101 : decode cX5_rainedOn 101 = .ok (.invokevirtual 120, 3) := dk_182 0 120 (dk_at dksX5_rainedOn_4 9 rfl rfl)
theorem dX5_rainedOn_104 : decode cX5_rainedOn 104 = .ok (.i2l, 1) := dk_133 (dk_at dksX5_rainedOn_4 12 rfl rfl)
theorem dX5_rainedOn_105 : decode cX5_rainedOn 105 = .ok (.lastore, 1) := dk_80 (dk_at dksX5_rainedOn_4 13 rfl rfl)
theorem dX5_rainedOn_106 : decode cX5_rainedOn 106 = .ok (.aload_n 0, 1) := dk_42 (dk_at dksX5_rainedOn_4 14 rfl rfl)
theorem dX5_rainedOn_107 : decode cX5_rainedOn 107 = .ok (.getfield 3, 3) := dk_180 0 3 (dk_at dksX5_rainedOn_4 15 rfl rfl)
theorem dX5_rainedOn_110 : decode cX5_rainedOn 110 = .ok (.getfield 110, 3) := dk_180 0 110 (dk_at dksX5_rainedOn_4 18 rfl rfl)
theorem dX5_rainedOn_113 : decode cX5_rainedOn 113 = .ok (.getfield 114, 3) := dk_180 0 114 (dk_at dksX5_rainedOn_4 21 rfl rfl)
theorem dX5_rainedOn_116 : decode cX5_rainedOn 116 = .ok (.bipush 7, 2) := dk_16 7 (dk_at dksX5_rainedOn_5 0 rfl rfl)
theorem dX5_rainedOn_118 : decode cX5_rainedOn 118 = .ok (.aload_n 0, 1) := dk_42 (dk_at dksX5_rainedOn_5 2 rfl rfl)
theorem dX5_rainedOn_119 : decode cX5_rainedOn 119 = .ok (.getfield 33, 3) := dk_180 0 33 (dk_at dksX5_rainedOn_5 3 rfl rfl)
theorem dX5_rainedOn_122 : decode cX5_rainedOn 122 = .ok (.i2l, 1) := dk_133 (dk_at dksX5_rainedOn_5 6 rfl rfl)
theorem dX5_rainedOn_123 : decode cX5_rainedOn 123 = .ok (.lastore, 1) := dk_80 (dk_at dksX5_rainedOn_5 7 rfl rfl)
theorem dX5_rainedOn_124 : decode cX5_rainedOn 124 = .ok (.aload_n 0, 1) := dk_42 (dk_at dksX5_rainedOn_5 8 rfl rfl)
theorem dX5_rainedOn_125 : decode cX5_rainedOn 125 = .ok (.getfield 3, 3) := dk_180 0 3 (dk_at dksX5_rainedOn_5 9 rfl rfl)
theorem dX5_rainedOn_128 : decode cX5_rainedOn 128 = .ok (.getfield 44, 3) := dk_180 0 44 (dk_at dksX5_rainedOn_5 12 rfl rfl)
theorem dX5_rainedOn_131 : decode cX5_rainedOn 131 = .ok (.getfield 106, 3) := dk_180 0 106 (dk_at dksX5_rainedOn_5 15 rfl rfl)
theorem dX5_rainedOn_134 : decode cX5_rainedOn 134 = .ok (.aload_n 0, 1) := dk_42 (dk_at dksX5_rainedOn_5 18 rfl rfl)
theorem dX5_rainedOn_135 : decode cX5_rainedOn 135 = .ok (.getfield 3, 3) := dk_180 0 3 (dk_at dksX5_rainedOn_5 19 rfl rfl)
theorem dX5_rainedOn_138 : decode cX5_rainedOn 138 = .ok (.getfield 110, 3) := dk_180 0 110 (dk_at dksX5_rainedOn_6 0 rfl rfl)
theorem dX5_rainedOn_141 : decode cX5_rainedOn 141 = .ok (.invokevirtual 123, 3) := dk_182 0 123 (dk_at dksX5_rainedOn_6 3 rfl rfl)
theorem dX5_rainedOn_144 : decode cX5_rainedOn 144 = .ok (.ifCond .eq 12, 3) := dk_153 0 12 (dk_at dksX5_rainedOn_6 6 rfl rfl)
theorem dX5_rainedOn_147 : decode cX5_rainedOn 147 = .ok (.iload_n 3, 1) := dk_29 (dk_at dksX5_rainedOn_6 9 rfl rfl)
theorem dX5_rainedOn_148 : decode cX5_rainedOn 148 = .ok (.iconst 1, 1) := dk_4 (dk_at dksX5_rainedOn_6 10 rfl rfl)
theorem dX5_rainedOn_149 : decode cX5_rainedOn 149 = .ok (.iload 4, 2) := dk_21 4 (dk_at dksX5_rainedOn_6 11 rfl rfl)
theorem dX5_rainedOn_151 : decode cX5_rainedOn 151 = .ok (.ishl, 1) := dk_120 (dk_at dksX5_rainedOn_6 13 rfl rfl)
theorem dX5_rainedOn_152 : decode cX5_rainedOn 152 = .ok (.iconst (-1), 1) := dk_2 (dk_at dksX5_rainedOn_6 14 rfl rfl)
theorem dX5_rainedOn_153 : decode cX5_rainedOn 153 = .ok (.ixor, 1) := dk_130 (dk_at dksX5_rainedOn_6 15 rfl rfl)
theorem dX5_rainedOn_154 : decode cX5_rainedOn 154 = .ok (.iand, 1) := dk_126 (dk_at dksX5_rainedOn_6 16 rfl rfl)
theorem dX5_rainedOn_155 : decode cX5_rainedOn 155 = .ok (.istore_n 3, 1) := dk_62 (dk_at dksX5_rainedOn_6 17 rfl rfl)
theorem dX5_rainedOn_156 : decode cX5_rainedOn 156 = .ok (.iinc 4 1, 3) := dk_132 4 1 (dk_at dksX5_rainedOn_6 18 rfl rfl)
theorem dX5_rainedOn_159 : decode cX5_rainedOn 159 = .ok (.goto (-154), 3) := dk_167 255 102 (dk_at dksX5_rainedOn_6 21 rfl rfl)
theorem dX5_rainedOn_162 : decode cX5_rainedOn 162 = .ok (.iload_n 3, 1) := dk_29 (dk_at dksX5_rainedOn_7 0 rfl rfl)
theorem dX5_rainedOn_163 : decode cX5_rainedOn 163 = .ok (.ireturn, 1) := dk_172 (dk_at dksX5_rainedOn_7 1 rfl rfl)
abbrev cX5_near : ByteArray := prog_18_method_9_code
def yX5_near : MethodName := ⟨RX5, "near", "(II)I"⟩
def dkwX5_near_4 : List UInt8 := [27, 28, 4, 96, 184, 0, 102, 153, 0, 7, 4, 167, 0, 4, 3, 96, 54, 5, 21, 5, 172]
abbrev dktX5_near_4 : List UInt8 := dkwX5_near_4 ++ []
def dkwX5_near_3 : List UInt8 := [4, 100, 184, 0, 102, 153, 0, 7, 4, 167, 0, 4, 3, 96, 54, 5, 21, 5, 21, 4, 5, 162, 0, 17]
abbrev dktX5_near_3 : List UInt8 := dkwX5_near_3 ++ dktX5_near_4
def dkwX5_near_2 : List UInt8 := [96, 184, 0, 102, 153, 0, 7, 4, 167, 0, 4, 3, 96, 54, 5, 21, 5, 21, 4, 158, 0, 17, 27, 28]
abbrev dktX5_near_2 : List UInt8 := dkwX5_near_2 ++ dktX5_near_3
def dkwX5_near_1 : List UInt8 := [184, 0, 102, 153, 0, 7, 4, 167, 0, 4, 3, 96, 54, 5, 21, 5, 29, 7, 162, 0, 17, 27, 28, 6]
abbrev dktX5_near_1 : List UInt8 := dkwX5_near_1 ++ dktX5_near_2
def dkwX5_near_0 : List UInt8 := [28, 6, 108, 62, 28, 6, 112, 54, 4, 3, 54, 5, 21, 5, 29, 158, 0, 17, 27, 28, 6, 100]
abbrev dktX5_near_0 : List UInt8 := dkwX5_near_0 ++ dktX5_near_1
theorem dksX5_near_0 : cX5_near.data.toList.drop 0 = dktX5_near_0 := by decide +kernel
theorem dksX5_near_1 : cX5_near.data.toList.drop 22 = dktX5_near_1 := dk_seg dksX5_near_0 22 rfl rfl
theorem dksX5_near_2 : cX5_near.data.toList.drop 46 = dktX5_near_2 := dk_seg dksX5_near_1 24 rfl rfl
theorem dksX5_near_3 : cX5_near.data.toList.drop 70 = dktX5_near_3 := dk_seg dksX5_near_2 24 rfl rfl
theorem dksX5_near_4 : cX5_near.data.toList.drop 94 = dktX5_near_4 := dk_seg dksX5_near_3 24 rfl rfl
theorem dX5_near_0 : decode cX5_near 0 = .ok (.iload_n 2, 1) := dk_28 (dk_at dksX5_near_0 0 rfl rfl)
theorem dX5_near_1 : decode cX5_near 1 = .ok (.iconst 3, 1) := dk_6 (dk_at dksX5_near_0 1 rfl rfl)
theorem dX5_near_2 : decode cX5_near 2 = .ok (.idiv, 1) := dk_108 (dk_at dksX5_near_0 2 rfl rfl)
theorem dX5_near_3 : decode cX5_near 3 = .ok (.istore_n 3, 1) := dk_62 (dk_at dksX5_near_0 3 rfl rfl)
theorem dX5_near_4 : decode cX5_near 4 = .ok (.iload_n 2, 1) := dk_28 (dk_at dksX5_near_0 4 rfl rfl)
theorem dX5_near_5 : decode cX5_near 5 = .ok (.iconst 3, 1) := dk_6 (dk_at dksX5_near_0 5 rfl rfl)
theorem dX5_near_6 : decode cX5_near 6 = .ok (.irem, 1) := dk_112 (dk_at dksX5_near_0 6 rfl rfl)
theorem dX5_near_7 : decode cX5_near 7 = .ok (.istore 4, 2) := dk_54 4 (dk_at dksX5_near_0 7 rfl rfl)
theorem dX5_near_9 : decode cX5_near 9 = .ok (.iconst 0, 1) := dk_3 (dk_at dksX5_near_0 9 rfl rfl)
theorem dX5_near_10 : decode cX5_near 10 = .ok (.istore 5, 2) := dk_54 5 (dk_at dksX5_near_0 10 rfl rfl)
theorem dX5_near_12 : decode cX5_near 12 = .ok (.iload 5, 2) := dk_21 5 (dk_at dksX5_near_0 12 rfl rfl)
theorem dX5_near_14 : decode cX5_near 14 = .ok (.iload_n 3, 1) := dk_29 (dk_at dksX5_near_0 14 rfl rfl)
theorem dX5_near_15 : decode cX5_near 15 = .ok (.ifCond .le 17, 3) := dk_158 0 17 (dk_at dksX5_near_0 15 rfl rfl)
theorem dX5_near_18 : decode cX5_near 18 = .ok (.iload_n 1, 1) := dk_27 (dk_at dksX5_near_0 18 rfl rfl)
theorem dX5_near_19 : decode cX5_near 19 = .ok (.iload_n 2, 1) := dk_28 (dk_at dksX5_near_0 19 rfl rfl)
theorem dX5_near_20 : decode cX5_near 20 = .ok (.iconst 3, 1) := dk_6 (dk_at dksX5_near_0 20 rfl rfl)
theorem dX5_near_21 : decode cX5_near 21 = .ok (.isub, 1) := dk_100 (dk_at dksX5_near_0 21 rfl rfl)
theorem dX5_near_22 : decode cX5_near 22 = .ok (.invokestatic 102, 3) := dk_184 0 102 (dk_at dksX5_near_1 0 rfl rfl)
theorem dX5_near_25 : decode cX5_near 25 = .ok (.ifCond .eq 7, 3) := dk_153 0 7 (dk_at dksX5_near_1 3 rfl rfl)
theorem dX5_near_28 : decode cX5_near 28 = .ok (.iconst 1, 1) := dk_4 (dk_at dksX5_near_1 6 rfl rfl)
theorem dX5_near_29 : decode cX5_near 29 = .ok (.goto 4, 3) := dk_167 0 4 (dk_at dksX5_near_1 7 rfl rfl)
theorem dX5_near_32 : decode cX5_near 32 = .ok (.iconst 0, 1) := dk_3 (dk_at dksX5_near_1 10 rfl rfl)
theorem dX5_near_33 : decode cX5_near 33 = .ok (.iadd, 1) := dk_96 (dk_at dksX5_near_1 11 rfl rfl)
theorem dX5_near_34 : decode cX5_near 34 = .ok (.istore 5, 2) := dk_54 5 (dk_at dksX5_near_1 12 rfl rfl)
theorem dX5_near_36 : decode cX5_near 36 = .ok (.iload 5, 2) := dk_21 5 (dk_at dksX5_near_1 14 rfl rfl)
theorem dX5_near_38 : decode cX5_near 38 = .ok (.iload_n 3, 1) := dk_29 (dk_at dksX5_near_1 16 rfl rfl)
theorem dX5_near_39 : decode cX5_near 39 = .ok (.iconst 4, 1) := dk_7 (dk_at dksX5_near_1 17 rfl rfl)
theorem dX5_near_40 : decode cX5_near 40 = .ok (.if_icmp .ge 17, 3) := dk_162 0 17 (dk_at dksX5_near_1 18 rfl rfl)
theorem dX5_near_43 : decode cX5_near 43 = .ok (.iload_n 1, 1) := dk_27 (dk_at dksX5_near_1 21 rfl rfl)
theorem dX5_near_44 : decode cX5_near 44 = .ok (.iload_n 2, 1) := dk_28 (dk_at dksX5_near_1 22 rfl rfl)
theorem dX5_near_45 : decode cX5_near 45 = .ok (.iconst 3, 1) := dk_6 (dk_at dksX5_near_1 23 rfl rfl)
theorem dX5_near_46 : decode cX5_near 46 = .ok (.iadd, 1) := dk_96 (dk_at dksX5_near_2 0 rfl rfl)
theorem dX5_near_47 : decode cX5_near 47 = .ok (.invokestatic 102, 3) := dk_184 0 102 (dk_at dksX5_near_2 1 rfl rfl)
theorem dX5_near_50 : decode cX5_near 50 = .ok (.ifCond .eq 7, 3) := dk_153 0 7 (dk_at dksX5_near_2 4 rfl rfl)
theorem dX5_near_53 : decode cX5_near 53 = .ok (.iconst 1, 1) := dk_4 (dk_at dksX5_near_2 7 rfl rfl)
theorem dX5_near_54 : decode cX5_near 54 = .ok (.goto 4, 3) := dk_167 0 4 (dk_at dksX5_near_2 8 rfl rfl)
theorem dX5_near_57 : decode cX5_near 57 = .ok (.iconst 0, 1) := dk_3 (dk_at dksX5_near_2 11 rfl rfl)
theorem dX5_near_58 : decode cX5_near 58 = .ok (.iadd, 1) := dk_96 (dk_at dksX5_near_2 12 rfl rfl)
theorem dX5_near_59 : decode cX5_near 59 = .ok (.istore 5, 2) := dk_54 5 (dk_at dksX5_near_2 13 rfl rfl)
theorem dX5_near_61 : decode cX5_near 61 = .ok (.iload 5, 2) := dk_21 5 (dk_at dksX5_near_2 15 rfl rfl)
theorem dX5_near_63 : decode cX5_near 63 = .ok (.iload 4, 2) := dk_21 4 (dk_at dksX5_near_2 17 rfl rfl)
theorem dX5_near_65 : decode cX5_near 65 = .ok (.ifCond .le 17, 3) := dk_158 0 17 (dk_at dksX5_near_2 19 rfl rfl)
theorem dX5_near_68 : decode cX5_near 68 = .ok (.iload_n 1, 1) := dk_27 (dk_at dksX5_near_2 22 rfl rfl)
theorem dX5_near_69 : decode cX5_near 69 = .ok (.iload_n 2, 1) := dk_28 (dk_at dksX5_near_2 23 rfl rfl)
theorem dX5_near_70 : decode cX5_near 70 = .ok (.iconst 1, 1) := dk_4 (dk_at dksX5_near_3 0 rfl rfl)
theorem dX5_near_71 : decode cX5_near 71 = .ok (.isub, 1) := dk_100 (dk_at dksX5_near_3 1 rfl rfl)
theorem dX5_near_72 : decode cX5_near 72 = .ok (.invokestatic 102, 3) := dk_184 0 102 (dk_at dksX5_near_3 2 rfl rfl)
theorem dX5_near_75 : decode cX5_near 75 = .ok (.ifCond .eq 7, 3) := dk_153 0 7 (dk_at dksX5_near_3 5 rfl rfl)
theorem dX5_near_78 : decode cX5_near 78 = .ok (.iconst 1, 1) := dk_4 (dk_at dksX5_near_3 8 rfl rfl)
theorem dX5_near_79 : decode cX5_near 79 = .ok (.goto 4, 3) := dk_167 0 4 (dk_at dksX5_near_3 9 rfl rfl)
theorem dX5_near_82 : decode cX5_near 82 = .ok (.iconst 0, 1) := dk_3 (dk_at dksX5_near_3 12 rfl rfl)
theorem dX5_near_83 : decode cX5_near 83 = .ok (.iadd, 1) := dk_96 (dk_at dksX5_near_3 13 rfl rfl)
theorem dX5_near_84 : decode cX5_near 84 = .ok (.istore 5, 2) := dk_54 5 (dk_at dksX5_near_3 14 rfl rfl)
theorem dX5_near_86 : decode cX5_near 86 = .ok (.iload 5, 2) := dk_21 5 (dk_at dksX5_near_3 16 rfl rfl)
theorem dX5_near_88 : decode cX5_near 88 = .ok (.iload 4, 2) := dk_21 4 (dk_at dksX5_near_3 18 rfl rfl)
theorem dX5_near_90 : decode cX5_near 90 = .ok (.iconst 2, 1) := dk_5 (dk_at dksX5_near_3 20 rfl rfl)
theorem dX5_near_91 : decode cX5_near 91 = .ok (.if_icmp .ge 17, 3) := dk_162 0 17 (dk_at dksX5_near_3 21 rfl rfl)
theorem dX5_near_94 : decode cX5_near 94 = .ok (.iload_n 1, 1) := dk_27 (dk_at dksX5_near_4 0 rfl rfl)
theorem dX5_near_95 : decode cX5_near 95 = .ok (.iload_n 2, 1) := dk_28 (dk_at dksX5_near_4 1 rfl rfl)
theorem dX5_near_96 : decode cX5_near 96 = .ok (.iconst 1, 1) := dk_4 (dk_at dksX5_near_4 2 rfl rfl)
theorem dX5_near_97 : decode cX5_near 97 = .ok (.iadd, 1) := dk_96 (dk_at dksX5_near_4 3 rfl rfl)
theorem dX5_near_98 : decode cX5_near 98 = .ok (.invokestatic 102, 3) := dk_184 0 102 (dk_at dksX5_near_4 4 rfl rfl)
theorem dX5_near_101 : decode cX5_near 101 = .ok (.ifCond .eq 7, 3) := dk_153 0 7 (dk_at dksX5_near_4 7 rfl rfl)
theorem dX5_near_104 : decode cX5_near 104 = .ok (.iconst 1, 1) := dk_4 (dk_at dksX5_near_4 10 rfl rfl)
theorem dX5_near_105 : decode cX5_near 105 = .ok (.goto 4, 3) := dk_167 0 4 (dk_at dksX5_near_4 11 rfl rfl)
theorem dX5_near_108 : decode cX5_near 108 = .ok (.iconst 0, 1) := dk_3 (dk_at dksX5_near_4 14 rfl rfl)
theorem dX5_near_109 : decode cX5_near 109 = .ok (.iadd, 1) := dk_96 (dk_at dksX5_near_4 15 rfl rfl)
theorem dX5_near_110 : decode cX5_near 110 = .ok (.istore 5, 2) := dk_54 5 (dk_at dksX5_near_4 16 rfl rfl)
theorem dX5_near_112 : decode cX5_near 112 = .ok (.iload 5, 2) := dk_21 5 (dk_at dksX5_near_4 18 rfl rfl)
theorem dX5_near_114 : decode cX5_near 114 = .ok (.ireturn, 1) := dk_172 (dk_at dksX5_near_4 20 rfl rfl)
abbrev cX5_tells : ByteArray := prog_18_method_11_code
def yX5_tells : MethodName := ⟨RX5, "tells", "(I)V"⟩
def dkwX5_tells_6 : List UInt8 := [4, 96, 181, 0, 37, 177]
abbrev dktX5_tells_6 : List UInt8 := dkwX5_tells_6 ++ []
def dkwX5_tells_5 : List UInt8 := [180, 0, 37, 50, 4, 27, 79, 42, 180, 0, 27, 42, 180, 0, 37, 50, 5, 28, 79, 42, 89, 180, 0, 37]
abbrev dktX5_tells_5 : List UInt8 := dkwX5_tells_5 ++ dktX5_tells_6
def dkwX5_tells_4 : List UInt8 := [167, 255, 226, 42, 180, 0, 27, 42, 180, 0, 37, 50, 3, 42, 180, 0, 33, 79, 42, 180, 0, 27, 42]
abbrev dktX5_tells_4 : List UInt8 := dkwX5_tells_4 ++ dktX5_tells_5
def dkwX5_tells_3 : List UInt8 := [162, 0, 27, 28, 42, 27, 3, 29, 182, 0, 96, 154, 0, 7, 4, 167, 0, 4, 3, 96, 61, 132, 3, 1]
abbrev dktX5_tells_3 : List UInt8 := dkwX5_tells_3 ++ dktX5_tells_4
def dkwX5_tells_2 : List UInt8 := [16, 39, 44, 83, 42, 89, 180, 0, 37, 4, 100, 181, 0, 37, 3, 61, 3, 62, 29, 42, 27, 182, 0, 69]
abbrev dktX5_tells_2 : List UInt8 := dkwX5_tells_2 ++ dktX5_tells_3
def dkwX5_tells_1 : List UInt8 := [42, 180, 0, 27, 29, 4, 100, 42, 180, 0, 27, 29, 50, 83, 132, 3, 1, 167, 255, 233, 42, 180, 0, 27]
abbrev dktX5_tells_1 : List UInt8 := dkwX5_tells_1 ++ dktX5_tells_2
def dkwX5_tells_0 : List UInt8 := [42, 180, 0, 37, 16, 40, 160, 0, 56, 42, 180, 0, 27, 3, 50, 77, 4, 62, 29, 16, 40, 162, 0, 23]
abbrev dktX5_tells_0 : List UInt8 := dkwX5_tells_0 ++ dktX5_tells_1
theorem dksX5_tells_0 : cX5_tells.data.toList.drop 0 = dktX5_tells_0 := by decide +kernel
theorem dksX5_tells_1 : cX5_tells.data.toList.drop 24 = dktX5_tells_1 := dk_seg dksX5_tells_0 24 rfl rfl
theorem dksX5_tells_2 : cX5_tells.data.toList.drop 48 = dktX5_tells_2 := dk_seg dksX5_tells_1 24 rfl rfl
theorem dksX5_tells_3 : cX5_tells.data.toList.drop 72 = dktX5_tells_3 := dk_seg dksX5_tells_2 24 rfl rfl
theorem dksX5_tells_4 : cX5_tells.data.toList.drop 96 = dktX5_tells_4 := dk_seg dksX5_tells_3 24 rfl rfl
theorem dksX5_tells_5 : cX5_tells.data.toList.drop 119 = dktX5_tells_5 := dk_seg dksX5_tells_4 23 rfl rfl
theorem dksX5_tells_6 : cX5_tells.data.toList.drop 143 = dktX5_tells_6 := dk_seg dksX5_tells_5 24 rfl rfl
theorem dX5_tells_0 : decode cX5_tells 0 = .ok (.aload_n 0, 1) := dk_42 (dk_at dksX5_tells_0 0 rfl rfl)
theorem dX5_tells_1 : decode cX5_tells 1 = .ok (.getfield 37, 3) := dk_180 0 37 (dk_at dksX5_tells_0 1 rfl rfl)
theorem dX5_tells_4 : decode cX5_tells 4 = .ok (.bipush 40, 2) := dk_16 40 (dk_at dksX5_tells_0 4 rfl rfl)
theorem dX5_tells_6 : decode cX5_tells 6 = .ok (.if_icmp .ne 56, 3) := dk_160 0 56 (dk_at dksX5_tells_0 6 rfl rfl)
theorem dX5_tells_9 : decode cX5_tells 9 = .ok (.aload_n 0, 1) := dk_42 (dk_at dksX5_tells_0 9 rfl rfl)
theorem dX5_tells_10 : decode cX5_tells 10 = .ok (.getfield 27, 3) := dk_180 0 27 (dk_at dksX5_tells_0 10 rfl rfl)
theorem dX5_tells_13 : decode cX5_tells 13 = .ok (.iconst 0, 1) := dk_3 (dk_at dksX5_tells_0 13 rfl rfl)
theorem dX5_tells_14 : decode cX5_tells 14 = .ok (.aaload, 1) := dk_50 (dk_at dksX5_tells_0 14 rfl rfl)
theorem dX5_tells_15 : decode cX5_tells 15 = .ok (.astore_n 2, 1) := dk_77 (dk_at dksX5_tells_0 15 rfl rfl)
theorem dX5_tells_16 : decode cX5_tells 16 = .ok (.iconst 1, 1) := dk_4 (dk_at dksX5_tells_0 16 rfl rfl)
theorem dX5_tells_17 : decode cX5_tells 17 = .ok (.istore_n 3, 1) := dk_62 (dk_at dksX5_tells_0 17 rfl rfl)
theorem dX5_tells_18 : decode cX5_tells 18 = .ok (.iload_n 3, 1) := dk_29 (dk_at dksX5_tells_0 18 rfl rfl)
theorem dX5_tells_19 : decode cX5_tells 19 = .ok (.bipush 40, 2) := dk_16 40 (dk_at dksX5_tells_0 19 rfl rfl)
theorem dX5_tells_21 : decode cX5_tells 21 = .ok (.if_icmp .ge 23, 3) := dk_162 0 23 (dk_at dksX5_tells_0 21 rfl rfl)
theorem dX5_tells_24 : decode cX5_tells 24 = .ok (.aload_n 0, 1) := dk_42 (dk_at dksX5_tells_1 0 rfl rfl)
theorem dX5_tells_25 : decode cX5_tells 25 = .ok (.getfield 27, 3) := dk_180 0 27 (dk_at dksX5_tells_1 1 rfl rfl)
theorem dX5_tells_28 : decode cX5_tells 28 = .ok (.iload_n 3, 1) := dk_29 (dk_at dksX5_tells_1 4 rfl rfl)
theorem dX5_tells_29 : decode cX5_tells 29 = .ok (.iconst 1, 1) := dk_4 (dk_at dksX5_tells_1 5 rfl rfl)
theorem dX5_tells_30 : decode cX5_tells 30 = .ok (.isub, 1) := dk_100 (dk_at dksX5_tells_1 6 rfl rfl)
theorem dX5_tells_31 : decode cX5_tells 31 = .ok (.aload_n 0, 1) := dk_42 (dk_at dksX5_tells_1 7 rfl rfl)
theorem dX5_tells_32 : decode cX5_tells 32 = .ok (.getfield 27, 3) := dk_180 0 27 (dk_at dksX5_tells_1 8 rfl rfl)
theorem dX5_tells_35 : decode cX5_tells 35 = .ok (.iload_n 3, 1) := dk_29 (dk_at dksX5_tells_1 11 rfl rfl)
theorem dX5_tells_36 : decode cX5_tells 36 = .ok (.aaload, 1) := dk_50 (dk_at dksX5_tells_1 12 rfl rfl)
theorem dX5_tells_37 : decode cX5_tells 37 = .ok (.aastore, 1) := dk_83 (dk_at dksX5_tells_1 13 rfl rfl)
theorem dX5_tells_38 : decode cX5_tells 38 = .ok (.iinc 3 1, 3) := dk_132 3 1 (dk_at dksX5_tells_1 14 rfl rfl)
theorem dX5_tells_41 : decode cX5_tells 41 = .ok (.goto (-23), 3) := dk_167 255 233 (dk_at dksX5_tells_1 17 rfl rfl)
theorem dX5_tells_44 : decode cX5_tells 44 = .ok (.aload_n 0, 1) := dk_42 (dk_at dksX5_tells_1 20 rfl rfl)
theorem dX5_tells_45 : decode cX5_tells 45 = .ok (.getfield 27, 3) := dk_180 0 27 (dk_at dksX5_tells_1 21 rfl rfl)
theorem dX5_tells_48 : decode cX5_tells 48 = .ok (.bipush 39, 2) := dk_16 39 (dk_at dksX5_tells_2 0 rfl rfl)
theorem dX5_tells_50 : decode cX5_tells 50 = .ok (.aload_n 2, 1) := dk_44 (dk_at dksX5_tells_2 2 rfl rfl)
theorem dX5_tells_51 : decode cX5_tells 51 = .ok (.aastore, 1) := dk_83 (dk_at dksX5_tells_2 3 rfl rfl)
theorem dX5_tells_52 : decode cX5_tells 52 = .ok (.aload_n 0, 1) := dk_42 (dk_at dksX5_tells_2 4 rfl rfl)
theorem dX5_tells_53 : decode cX5_tells 53 = .ok (.dup, 1) := dk_89 (dk_at dksX5_tells_2 5 rfl rfl)
theorem dX5_tells_54 : decode cX5_tells 54 = .ok (.getfield 37, 3) := dk_180 0 37 (dk_at dksX5_tells_2 6 rfl rfl)
theorem dX5_tells_57 : decode cX5_tells 57 = .ok (.iconst 1, 1) := dk_4 (dk_at dksX5_tells_2 9 rfl rfl)
theorem dX5_tells_58 : decode cX5_tells 58 = .ok (.isub, 1) := dk_100 (dk_at dksX5_tells_2 10 rfl rfl)
theorem dX5_tells_59 : decode cX5_tells 59 = .ok (.putfield 37, 3) := dk_181 0 37 (dk_at dksX5_tells_2 11 rfl rfl)
theorem dX5_tells_62 : decode cX5_tells 62 = .ok (.iconst 0, 1) := dk_3 (dk_at dksX5_tells_2 14 rfl rfl)
theorem dX5_tells_63 : decode cX5_tells 63 = .ok (.istore_n 2, 1) := dk_61 (dk_at dksX5_tells_2 15 rfl rfl)
theorem dX5_tells_64 : decode cX5_tells 64 = .ok (.iconst 0, 1) := dk_3 (dk_at dksX5_tells_2 16 rfl rfl)
theorem dX5_tells_65 : decode cX5_tells 65 = .ok (.istore_n 3, 1) := dk_62 (dk_at dksX5_tells_2 17 rfl rfl)
theorem dX5_tells_66 : decode cX5_tells 66 = .ok (.iload_n 3, 1) := dk_29 (dk_at dksX5_tells_2 18 rfl rfl)
theorem dX5_tells_67 : decode cX5_tells 67 = .ok (.aload_n 0, 1) := dk_42 (dk_at dksX5_tells_2 19 rfl rfl)
theorem dX5_tells_68 : decode cX5_tells 68 = .ok (.iload_n 1, 1) := dk_27 (dk_at dksX5_tells_2 20 rfl rfl)
theorem dX5_tells_69 : decode cX5_tells 69 = .ok (.invokevirtual 69, 3) := dk_182 0 69 (dk_at dksX5_tells_2 21 rfl rfl)
theorem dX5_tells_72 : decode cX5_tells 72 = .ok (.if_icmp .ge 27, 3) := dk_162 0 27 (dk_at dksX5_tells_3 0 rfl rfl)
theorem dX5_tells_75 : decode cX5_tells 75 = .ok (.iload_n 2, 1) := dk_28 (dk_at dksX5_tells_3 3 rfl rfl)
theorem dX5_tells_76 : decode cX5_tells 76 = .ok (.aload_n 0, 1) := dk_42 (dk_at dksX5_tells_3 4 rfl rfl)
theorem dX5_tells_77 : decode cX5_tells 77 = .ok (.iload_n 1, 1) := dk_27 (dk_at dksX5_tells_3 5 rfl rfl)
theorem dX5_tells_78 : decode cX5_tells 78 = .ok (.iconst 0, 1) := dk_3 (dk_at dksX5_tells_3 6 rfl rfl)
theorem dX5_tells_79 : decode cX5_tells 79 = .ok (.iload_n 3, 1) := dk_29 (dk_at dksX5_tells_3 7 rfl rfl)
theorem dX5_tells_80 : decode cX5_tells 80 = .ok (.invokevirtual 96, 3) := dk_182 0 96 (dk_at dksX5_tells_3 8 rfl rfl)
theorem dX5_tells_83 : decode cX5_tells 83 = .ok (.ifCond .ne 7, 3) := dk_154 0 7 (dk_at dksX5_tells_3 11 rfl rfl)
theorem dX5_tells_86 : decode cX5_tells 86 = .ok (.iconst 1, 1) := dk_4 (dk_at dksX5_tells_3 14 rfl rfl)
theorem dX5_tells_87 : decode cX5_tells 87 = .ok (.goto 4, 3) := dk_167 0 4 (dk_at dksX5_tells_3 15 rfl rfl)
theorem dX5_tells_90 : decode cX5_tells 90 = .ok (.iconst 0, 1) := dk_3 (dk_at dksX5_tells_3 18 rfl rfl)
theorem dX5_tells_91 : decode cX5_tells 91 = .ok (.iadd, 1) := dk_96 (dk_at dksX5_tells_3 19 rfl rfl)
theorem dX5_tells_92 : decode cX5_tells 92 = .ok (.istore_n 2, 1) := dk_61 (dk_at dksX5_tells_3 20 rfl rfl)
theorem dX5_tells_93 : decode cX5_tells 93 = .ok (.iinc 3 1, 3) := dk_132 3 1 (dk_at dksX5_tells_3 21 rfl rfl)
theorem dX5_tells_96 : decode cX5_tells 96 = .ok (.goto (-30), 3) := dk_167 255 226 (dk_at dksX5_tells_4 0 rfl rfl)
theorem dX5_tells_99 : decode cX5_tells 99 = .ok (.aload_n 0, 1) := dk_42 (dk_at dksX5_tells_4 3 rfl rfl)
theorem dX5_tells_100 : decode cX5_tells 100 = .ok (.getfield 27, 3) := dk_180 0 27 (dk_at dksX5_tells_4 4 rfl rfl)
theorem dX5_tells_103 : decode cX5_tells 103 = .ok (.aload_n 0, 1) := dk_42 (dk_at dksX5_tells_4 7 rfl rfl)
theorem dX5_tells_104 : decode cX5_tells 104 = .ok (.getfield 37, 3) := dk_180 0 37 (dk_at dksX5_tells_4 8 rfl rfl)
theorem dX5_tells_107 : decode cX5_tells 107 = .ok (.aaload, 1) := dk_50 (dk_at dksX5_tells_4 11 rfl rfl)
theorem dX5_tells_108 : decode cX5_tells 108 = .ok (.iconst 0, 1) := dk_3 (dk_at dksX5_tells_4 12 rfl rfl)
theorem dX5_tells_109 : decode cX5_tells 109 = .ok (.aload_n 0, 1) := dk_42 (dk_at dksX5_tells_4 13 rfl rfl)
theorem dX5_tells_110 : decode cX5_tells 110 = .ok (.getfield 33, 3) := dk_180 0 33 (dk_at dksX5_tells_4 14 rfl rfl)
theorem dX5_tells_113 : decode cX5_tells 113 = .ok (.iastore, 1) := dk_79 (dk_at dksX5_tells_4 17 rfl rfl)
theorem dX5_tells_114 : decode cX5_tells 114 = .ok (.aload_n 0, 1) := dk_42 (dk_at dksX5_tells_4 18 rfl rfl)
theorem dX5_tells_115 : decode cX5_tells 115 = .ok (.getfield 27, 3) := dk_180 0 27 (dk_at dksX5_tells_4 19 rfl rfl)
theorem dX5_tells_118 : decode cX5_tells 118 = .ok (.aload_n 0, 1) := dk_42 (dk_at dksX5_tells_4 22 rfl rfl)
theorem dX5_tells_119 : decode cX5_tells 119 = .ok (.getfield 37, 3) := dk_180 0 37 (dk_at dksX5_tells_5 0 rfl rfl)
theorem dX5_tells_122 : decode cX5_tells 122 = .ok (.aaload, 1) := dk_50 (dk_at dksX5_tells_5 3 rfl rfl)
theorem dX5_tells_123 : decode cX5_tells 123 = .ok (.iconst 1, 1) := dk_4 (dk_at dksX5_tells_5 4 rfl rfl)
theorem dX5_tells_124 : decode cX5_tells 124 = .ok (.iload_n 1, 1) := dk_27 (dk_at dksX5_tells_5 5 rfl rfl)
theorem dX5_tells_125 : decode cX5_tells 125 = .ok (.iastore, 1) := dk_79 (dk_at dksX5_tells_5 6 rfl rfl)
theorem dX5_tells_126 : decode cX5_tells 126 = .ok (.aload_n 0, 1) := dk_42 (dk_at dksX5_tells_5 7 rfl rfl)
theorem dX5_tells_127 : decode cX5_tells 127 = .ok (.getfield 27, 3) := dk_180 0 27 (dk_at dksX5_tells_5 8 rfl rfl)
theorem dX5_tells_130 : decode cX5_tells 130 = .ok (.aload_n 0, 1) := dk_42 (dk_at dksX5_tells_5 11 rfl rfl)
theorem dX5_tells_131 : decode cX5_tells 131 = .ok (.getfield 37, 3) := dk_180 0 37 (dk_at dksX5_tells_5 12 rfl rfl)
theorem dX5_tells_134 : decode cX5_tells 134 = .ok (.aaload, 1) := dk_50 (dk_at dksX5_tells_5 15 rfl rfl)
theorem dX5_tells_135 : decode cX5_tells 135 = .ok (.iconst 2, 1) := dk_5 (dk_at dksX5_tells_5 16 rfl rfl)
theorem dX5_tells_136 : decode cX5_tells 136 = .ok (.iload_n 2, 1) := dk_28 (dk_at dksX5_tells_5 17 rfl rfl)
theorem dX5_tells_137 : decode cX5_tells 137 = .ok (.iastore, 1) := dk_79 (dk_at dksX5_tells_5 18 rfl rfl)
theorem dX5_tells_138 : decode cX5_tells 138 = .ok (.aload_n 0, 1) := dk_42 (dk_at dksX5_tells_5 19 rfl rfl)
theorem dX5_tells_139 : decode cX5_tells 139 = .ok (.dup, 1) := dk_89 (dk_at dksX5_tells_5 20 rfl rfl)
theorem dX5_tells_140 : decode cX5_tells 140 = .ok (.getfield 37, 3) := dk_180 0 37 (dk_at dksX5_tells_5 21 rfl rfl)
theorem dX5_tells_143 : decode cX5_tells 143 = .ok (.iconst 1, 1) := dk_4 (dk_at dksX5_tells_6 0 rfl rfl)
theorem dX5_tells_144 : decode cX5_tells 144 = .ok (.iadd, 1) := dk_96 (dk_at dksX5_tells_6 1 rfl rfl)
theorem dX5_tells_145 : decode cX5_tells 145 = .ok (.putfield 37, 3) := dk_181 0 37 (dk_at dksX5_tells_6 2 rfl rfl)
theorem dX5_tells_148 : decode cX5_tells 148 = .ok (.return_, 1) := dk_177 (dk_at dksX5_tells_6 5 rfl rfl)
abbrev cX5_isAsPainted : ByteArray := prog_18_method_8_code
def yX5_isAsPainted : MethodName := ⟨RX5, "isAsPainted", "(I)Z"⟩
def dkwX5_isAsPainted_2 : List UInt8 := [159, 0, 5, 3, 172, 132, 2, 1, 167, 255, 204, 4, 172]
abbrev dktX5_isAsPainted_2 : List UInt8 := dkwX5_isAsPainted_2 ++ []
def dkwX5_isAsPainted_1 : List UInt8 := [180, 0, 44, 180, 0, 76, 42, 180, 0, 15, 27, 46, 185, 0, 53, 2, 0, 192, 0, 79, 28, 182, 0, 99]
abbrev dktX5_isAsPainted_1 : List UInt8 := dkwX5_isAsPainted_1 ++ dktX5_isAsPainted_2
def dkwX5_isAsPainted_0 : List UInt8 := [3, 61, 28, 42, 27, 182, 0, 69, 162, 0, 49, 42, 27, 3, 28, 182, 0, 96, 42, 180, 0, 3]
abbrev dktX5_isAsPainted_0 : List UInt8 := dkwX5_isAsPainted_0 ++ dktX5_isAsPainted_1
theorem dksX5_isAsPainted_0 : cX5_isAsPainted.data.toList.drop 0 = dktX5_isAsPainted_0 := by decide +kernel
theorem dksX5_isAsPainted_1 : cX5_isAsPainted.data.toList.drop 22 = dktX5_isAsPainted_1 := dk_seg dksX5_isAsPainted_0 22 rfl rfl
theorem dksX5_isAsPainted_2 : cX5_isAsPainted.data.toList.drop 46 = dktX5_isAsPainted_2 := dk_seg dksX5_isAsPainted_1 24 rfl rfl
theorem dX5_isAsPainted_0 : decode cX5_isAsPainted 0 = .ok (.iconst 0, 1) := dk_3 (dk_at dksX5_isAsPainted_0 0 rfl rfl)
theorem dX5_isAsPainted_1 : decode cX5_isAsPainted 1 = .ok (.istore_n 2, 1) := dk_61 (dk_at dksX5_isAsPainted_0 1 rfl rfl)
theorem dX5_isAsPainted_2 : decode cX5_isAsPainted 2 = .ok (.iload_n 2, 1) := dk_28 (dk_at dksX5_isAsPainted_0 2 rfl rfl)
theorem dX5_isAsPainted_3 : decode cX5_isAsPainted 3 = .ok (.aload_n 0, 1) := dk_42 (dk_at dksX5_isAsPainted_0 3 rfl rfl)
theorem dX5_isAsPainted_4 : decode cX5_isAsPainted 4 = .ok (.iload_n 1, 1) := dk_27 (dk_at dksX5_isAsPainted_0 4 rfl rfl)
theorem dX5_isAsPainted_5 : decode cX5_isAsPainted 5 = .ok (.invokevirtual 69, 3) := dk_182 0 69 (dk_at dksX5_isAsPainted_0 5 rfl rfl)
theorem dX5_isAsPainted_8 : decode cX5_isAsPainted 8 = .ok (.if_icmp .ge 49, 3) := dk_162 0 49 (dk_at dksX5_isAsPainted_0 8 rfl rfl)
theorem dX5_isAsPainted_11 : decode cX5_isAsPainted 11 = .ok (.aload_n 0, 1) := dk_42 (dk_at dksX5_isAsPainted_0 11 rfl rfl)
theorem dX5_isAsPainted_12 : decode cX5_isAsPainted 12 = .ok (.iload_n 1, 1) := dk_27 (dk_at dksX5_isAsPainted_0 12 rfl rfl)
theorem dX5_isAsPainted_13 : decode cX5_isAsPainted 13 = .ok (.iconst 0, 1) := dk_3 (dk_at dksX5_isAsPainted_0 13 rfl rfl)
theorem dX5_isAsPainted_14 : decode cX5_isAsPainted 14 = .ok (.iload_n 2, 1) := dk_28 (dk_at dksX5_isAsPainted_0 14 rfl rfl)
theorem dX5_isAsPainted_15 : decode cX5_isAsPainted 15 = .ok (.invokevirtual 96, 3) := dk_182 0 96 (dk_at dksX5_isAsPainted_0 15 rfl rfl)
theorem dX5_isAsPainted_18 : decode cX5_isAsPainted 18 = .ok (.aload_n 0, 1) := dk_42 (dk_at dksX5_isAsPainted_0 18 rfl rfl)
theorem dX5_isAsPainted_19 : decode cX5_isAsPainted 19 = .ok (.getfield 3, 3) := dk_180 0 3 (dk_at dksX5_isAsPainted_0 19 rfl rfl)
theorem dX5_isAsPainted_22 : decode cX5_isAsPainted 22 = .ok (.getfield 44, 3) := dk_180 0 44 (dk_at dksX5_isAsPainted_1 0 rfl rfl)
theorem dX5_isAsPainted_25 : decode cX5_isAsPainted 25 = .ok (.getfield 76, 3) := dk_180 0 76 (dk_at dksX5_isAsPainted_1 3 rfl rfl)
theorem dX5_isAsPainted_28 : decode cX5_isAsPainted 28 = .ok (.aload_n 0, 1) := dk_42 (dk_at dksX5_isAsPainted_1 6 rfl rfl)
theorem dX5_isAsPainted_29 : decode cX5_isAsPainted 29 = .ok (.getfield 15, 3) := dk_180 0 15 (dk_at dksX5_isAsPainted_1 7 rfl rfl)
theorem dX5_isAsPainted_32 : decode cX5_isAsPainted 32 = .ok (.iload_n 1, 1) := dk_27 (dk_at dksX5_isAsPainted_1 10 rfl rfl)
theorem dX5_isAsPainted_33 : decode cX5_isAsPainted 33 = .ok (.iaload, 1) := dk_46 (dk_at dksX5_isAsPainted_1 11 rfl rfl)
theorem dX5_isAsPainted_34 : decode cX5_isAsPainted 34 = .ok (.invokeinterface 53 2, 5) := by decide +kernel
theorem dX5_isAsPainted_39 : decode cX5_isAsPainted 39 = .ok (.checkcast 79, 3) := dk_192 0 79 (dk_at dksX5_isAsPainted_1 17 rfl rfl)
theorem dX5_isAsPainted_42 : decode cX5_isAsPainted 42 = .ok (.iload_n 2, 1) := dk_28 (dk_at dksX5_isAsPainted_1 20 rfl rfl)
theorem dX5_isAsPainted_43 : decode cX5_isAsPainted 43 = .ok (.invokevirtual 99, 3) := dk_182 0 99 (dk_at dksX5_isAsPainted_1 21 rfl rfl)
theorem dX5_isAsPainted_46 : decode cX5_isAsPainted 46 = .ok (.if_icmp .eq 5, 3) := dk_159 0 5 (dk_at dksX5_isAsPainted_2 0 rfl rfl)
theorem dX5_isAsPainted_49 : decode cX5_isAsPainted 49 = .ok (.iconst 0, 1) := dk_3 (dk_at dksX5_isAsPainted_2 3 rfl rfl)
theorem dX5_isAsPainted_50 : decode cX5_isAsPainted 50 = .ok (.ireturn, 1) := dk_172 (dk_at dksX5_isAsPainted_2 4 rfl rfl)
theorem dX5_isAsPainted_51 : decode cX5_isAsPainted 51 = .ok (.iinc 2 1, 3) := dk_132 2 1 (dk_at dksX5_isAsPainted_2 5 rfl rfl)
theorem dX5_isAsPainted_54 : decode cX5_isAsPainted 54 = .ok (.goto (-52), 3) := dk_167 255 204 (dk_at dksX5_isAsPainted_2 8 rfl rfl)
theorem dX5_isAsPainted_57 : decode cX5_isAsPainted 57 = .ok (.iconst 1, 1) := dk_4 (dk_at dksX5_isAsPainted_2 11 rfl rfl)
theorem dX5_isAsPainted_58 : decode cX5_isAsPainted 58 = .ok (.ireturn, 1) := dk_172 (dk_at dksX5_isAsPainted_2 12 rfl rfl)
theorem q183 : (Jvm.Cond.initialized "TurnedBoards$State") ∈ lw_all := lw_g (lw_at lw_m1 16 rfl) rfl
theorem q308 : (Jvm.Cond.selects "TurnedBoards$State" ({ cls := "java/lang/Object", name := "getClass", desc := "()Ljava/lang/Class;" } : Jvm.MethodName) ({ cls := "java/lang/Object", name := "getClass", desc := "()Ljava/lang/Class;" } : Jvm.MethodName)) ∈ lw_all := lw_g (lw_at lw_m1 141 rfl) rfl
theorem q343 : (Jvm.Cond.fieldLinkNest "TurnedBoards$State" (76 : Nat) "TurnedBoards$Shop" "words" "Ljava/util/List;" "TurnedBoards") ∈ lw_tbl := lw_at lw_m1 176 rfl
theorem q348 : (Jvm.Cond.fieldLinkNest "TurnedBoards$State" (48 : Nat) "TurnedBoards$Shop" "boards" "Ljava/util/List;" "TurnedBoards") ∈ lw_tbl := lw_at lw_m1 181 rfl
theorem q353 : (Jvm.Cond.fieldLinkNest "TurnedBoards$State" (106 : Nat) "TurnedBoards$Shop" "rain" "LTurnedBoards$Test;" "TurnedBoards") ∈ lw_tbl := lw_at lw_m1 186 rfl
theorem q486 : (Jvm.Cond.fieldLinkNest "TurnedBoards$State" (114 : Nat) "TurnedBoards$Moment" "of" "[J" "TurnedBoards") ∈ lw_tbl := lw_at lw_m2 79 rfl
theorem q493 : (Jvm.Cond.instantiable "TurnedBoards$State" (10 : Nat)) ∈ lw_all := lw_g (lw_at lw_m2 86 rfl) rfl
theorem q495 : (Jvm.Cond.instanceMethod ({ cls := "TurnedBoards$State", name := "<init>", desc := "(LTurnedBoards;)V" } : Jvm.MethodName)) ∈ lw_all := lw_g (lw_at lw_m2 88 rfl) rfl
theorem q496 : (Jvm.Cond.code ({ cls := "TurnedBoards$State", name := "<init>", desc := "(LTurnedBoards;)V" } : Jvm.MethodName) prog_18_method_1_code (2 : Nat) (Option.none : Option Jvm.ClassFile.FieldType)) ∈ lw_all := lw_g (lw_at lw_m2 89 rfl) rfl
theorem q497 : (Jvm.Cond.methodLink "TurnedBoards$State" (9 : Nat) ({ cls := "java/lang/Object", name := "<init>", desc := "()V" } : Jvm.MethodName)) ∈ lw_all := lw_g (lw_at lw_m2 90 rfl) rfl
theorem q498 : (Jvm.Cond.classLink "TurnedBoards$State" (22 : Nat) "[[I") ∈ lw_all := lw_g (lw_at lw_m2 91 rfl) rfl
theorem q500 : (Jvm.Cond.fieldLink "TurnedBoards$State" (33 : Nat) "TurnedBoards$State" "year" "I") ∈ lw_all := lw_g (lw_at lw_m2 93 rfl) rfl
theorem q502 : (Jvm.Cond.fieldLink "TurnedBoards$State" (37 : Nat) "TurnedBoards$State" "keeps" "I") ∈ lw_all := lw_g (lw_at lw_m2 95 rfl) rfl
theorem q504 : (Jvm.Cond.fieldLink "TurnedBoards$State" (141 : Nat) "TurnedBoards$State" "rained" "I") ∈ lw_all := lw_g (lw_at lw_m2 97 rfl) rfl
theorem q506 : (Jvm.Cond.fieldLink "TurnedBoards$State" (132 : Nat) "TurnedBoards$State" "hailed" "I") ∈ lw_all := lw_g (lw_at lw_m2 99 rfl) rfl
theorem q508 : (Jvm.Cond.fieldLink "TurnedBoards$State" (15 : Nat) "TurnedBoards$State" "word" "[I") ∈ lw_all := lw_g (lw_at lw_m2 101 rfl) rfl
theorem q510 : (Jvm.Cond.fieldLink "TurnedBoards$State" (19 : Nat) "TurnedBoards$State" "hand" "[I") ∈ lw_all := lw_g (lw_at lw_m2 103 rfl) rfl
theorem q512 : (Jvm.Cond.fieldLink "TurnedBoards$State" (24 : Nat) "TurnedBoards$State" "glyph" "[[I") ∈ lw_all := lw_g (lw_at lw_m2 105 rfl) rfl
theorem q514 : (Jvm.Cond.fieldLink "TurnedBoards$State" (27 : Nat) "TurnedBoards$State" "rows" "[[I") ∈ lw_all := lw_g (lw_at lw_m2 107 rfl) rfl
theorem q516 : (Jvm.Cond.fieldLink "TurnedBoards$State" (30 : Nat) "TurnedBoards$State" "ahead" "[[I") ∈ lw_all := lw_g (lw_at lw_m2 109 rfl) rfl
theorem q517 : (Jvm.Cond.fieldLink "TurnedBoards$State" (3 : Nat) "TurnedBoards$State" "this$0" "LTurnedBoards;") ∈ lw_all := lw_g (lw_at lw_m2 110 rfl) rfl
theorem q518 : (Jvm.Cond.lays "TurnedBoards$State" "TurnedBoards$State" "year" "I") ∈ lw_all := lw_g (lw_at lw_m2 111 rfl) rfl
theorem q519 : (Jvm.Cond.soleField "TurnedBoards$State" "year") ∈ lw_all := lw_g (lw_at lw_m2 112 rfl) rfl
theorem q520 : (Jvm.Cond.lays "TurnedBoards$State" "TurnedBoards$State" "keeps" "I") ∈ lw_all := lw_g (lw_at lw_m2 113 rfl) rfl
theorem q521 : (Jvm.Cond.soleField "TurnedBoards$State" "keeps") ∈ lw_all := lw_g (lw_at lw_m2 114 rfl) rfl
theorem q522 : (Jvm.Cond.lays "TurnedBoards$State" "TurnedBoards$State" "rained" "I") ∈ lw_all := lw_g (lw_at lw_m2 115 rfl) rfl
theorem q523 : (Jvm.Cond.soleField "TurnedBoards$State" "rained") ∈ lw_all := lw_g (lw_at lw_m2 116 rfl) rfl
theorem q524 : (Jvm.Cond.lays "TurnedBoards$State" "TurnedBoards$State" "hailed" "I") ∈ lw_all := lw_g (lw_at lw_m2 117 rfl) rfl
theorem q525 : (Jvm.Cond.soleField "TurnedBoards$State" "hailed") ∈ lw_all := lw_g (lw_at lw_m2 118 rfl) rfl
theorem q526 : (Jvm.Cond.laysFinal "TurnedBoards$State" "TurnedBoards$State" "word" "[I") ∈ lw_all := lw_g (lw_at lw_m2 119 rfl) rfl
theorem q527 : (Jvm.Cond.soleField "TurnedBoards$State" "word") ∈ lw_all := lw_g (lw_at lw_m2 120 rfl) rfl
theorem q528 : (Jvm.Cond.laysFinal "TurnedBoards$State" "TurnedBoards$State" "hand" "[I") ∈ lw_all := lw_g (lw_at lw_m2 121 rfl) rfl
theorem q529 : (Jvm.Cond.soleField "TurnedBoards$State" "hand") ∈ lw_all := lw_g (lw_at lw_m2 122 rfl) rfl
theorem q530 : (Jvm.Cond.laysFinal "TurnedBoards$State" "TurnedBoards$State" "glyph" "[[I") ∈ lw_all := lw_g (lw_at lw_m2 123 rfl) rfl
theorem q531 : (Jvm.Cond.soleField "TurnedBoards$State" "glyph") ∈ lw_all := lw_g (lw_at lw_m2 124 rfl) rfl
theorem q532 : (Jvm.Cond.laysFinal "TurnedBoards$State" "TurnedBoards$State" "rows" "[[I") ∈ lw_all := lw_g (lw_at lw_m2 125 rfl) rfl
theorem q533 : (Jvm.Cond.soleField "TurnedBoards$State" "rows") ∈ lw_all := lw_g (lw_at lw_m2 126 rfl) rfl
theorem q534 : (Jvm.Cond.laysFinal "TurnedBoards$State" "TurnedBoards$State" "ahead" "[[I") ∈ lw_all := lw_g (lw_at lw_m2 127 rfl) rfl
theorem q535 : (Jvm.Cond.soleField "TurnedBoards$State" "ahead") ∈ lw_all := lw_g (lw_at lw_m2 128 rfl) rfl
theorem q536 : (Jvm.Cond.laysFinal "TurnedBoards$State" "TurnedBoards$State" "this$0" "LTurnedBoards;") ∈ lw_all := lw_g (lw_at lw_m2 129 rfl) rfl
theorem q537 : (Jvm.Cond.soleField "TurnedBoards$State" "this$0") ∈ lw_all := lw_g (lw_at lw_m2 130 rfl) rfl
theorem q538 : (Jvm.Cond.superclass "TurnedBoards$State" "java/lang/Object") ∈ lw_all := lw_g (lw_at lw_m2 131 rfl) rfl
theorem q583 : (Jvm.Cond.fieldLinkNest "TurnedBoards$State" (44 : Nat) "TurnedBoards" "shop" "LTurnedBoards$Shop;" "TurnedBoards") ∈ lw_tbl := lw_at lw_m2 176 rfl
theorem q592 : (Jvm.Cond.fieldLinkNest "TurnedBoards$State" (110 : Nat) "TurnedBoards" "moment" "LTurnedBoards$Moment;" "TurnedBoards") ∈ lw_tbl := lw_at lw_m2 185 rfl
theorem q1010 : (Jvm.Cond.fieldLinkNest "TurnedBoards$State" (61 : Nat) "TurnedBoards$Board" "word" "I" "TurnedBoards") ∈ lw_tbl := lw_at lw_m4 123 rfl
theorem q1012 : (Jvm.Cond.fieldLinkNest "TurnedBoards$State" (63 : Nat) "TurnedBoards$Board" "hand" "I" "TurnedBoards") ∈ lw_tbl := lw_at lw_m4 125 rfl
theorem q1288 : (Jvm.Cond.instanceMethod ({ cls := "TurnedBoards$State", name := "begins", desc := "()V" } : Jvm.MethodName)) ∈ lw_all := lw_g (lw_at lw_m5 161 rfl) rfl
theorem q1289 : (Jvm.Cond.selects "TurnedBoards$State" ({ cls := "TurnedBoards$State", name := "begins", desc := "()V" } : Jvm.MethodName) ({ cls := "TurnedBoards$State", name := "begins", desc := "()V" } : Jvm.MethodName)) ∈ lw_all := lw_g (lw_at lw_m5 162 rfl) rfl
theorem q1290 : (Jvm.Cond.code ({ cls := "TurnedBoards$State", name := "begins", desc := "()V" } : Jvm.MethodName) prog_18_method_2_code (2 : Nat) (Option.none : Option Jvm.ClassFile.FieldType)) ∈ lw_all := lw_g (lw_at lw_m5 163 rfl) rfl
theorem q1291 : (Jvm.Cond.methodLinkNest "TurnedBoards$State" (40 : Nat) ({ cls := "TurnedBoards", name := "boards", desc := "()I" } : Jvm.MethodName) "TurnedBoards") ∈ lw_tbl := lw_at lw_m5 164 rfl
theorem q1297 : (Jvm.Cond.interfaceEntry "TurnedBoards$State" (53 : Nat)) ∈ lw_tbl := lw_at lw_m5 170 rfl
theorem q1298 : (Jvm.Cond.methodLink "TurnedBoards$State" (53 : Nat) ({ cls := "java/util/List", name := "get", desc := "(I)Ljava/lang/Object;" } : Jvm.MethodName)) ∈ lw_all := lw_g (lw_at lw_m5 171 rfl) rfl
theorem q1299 : (Jvm.Cond.classLink "TurnedBoards$State" (59 : Nat) "TurnedBoards$Board") ∈ lw_all := lw_g (lw_at lw_m5 172 rfl) rfl
theorem q1300 : (Jvm.Cond.methodLink "TurnedBoards$State" (65 : Nat) ({ cls := "TurnedBoards$State", name := "paints", desc := "(III)V" } : Jvm.MethodName)) ∈ lw_all := lw_g (lw_at lw_m5 173 rfl) rfl
theorem q1301 : (Jvm.Cond.instanceMethod ({ cls := "TurnedBoards$State", name := "paints", desc := "(III)V" } : Jvm.MethodName)) ∈ lw_all := lw_g (lw_at lw_m5 174 rfl) rfl
theorem q1302 : (Jvm.Cond.selects "TurnedBoards$State" ({ cls := "TurnedBoards$State", name := "paints", desc := "(III)V" } : Jvm.MethodName) ({ cls := "TurnedBoards$State", name := "paints", desc := "(III)V" } : Jvm.MethodName)) ∈ lw_all := lw_g (lw_at lw_m5 175 rfl) rfl
theorem q1303 : (Jvm.Cond.code ({ cls := "TurnedBoards$State", name := "paints", desc := "(III)V" } : Jvm.MethodName) prog_18_method_3_code (5 : Nat) (Option.none : Option Jvm.ClassFile.FieldType)) ∈ lw_all := lw_g (lw_at lw_m5 176 rfl) rfl
theorem q1304 : (Jvm.Cond.methodLink "TurnedBoards$State" (69 : Nat) ({ cls := "TurnedBoards$State", name := "places", desc := "(I)I" } : Jvm.MethodName)) ∈ lw_all := lw_g (lw_at lw_m5 177 rfl) rfl
theorem q1305 : (Jvm.Cond.instanceMethod ({ cls := "TurnedBoards$State", name := "places", desc := "(I)I" } : Jvm.MethodName)) ∈ lw_all := lw_g (lw_at lw_m5 178 rfl) rfl
theorem q1306 : (Jvm.Cond.selects "TurnedBoards$State" ({ cls := "TurnedBoards$State", name := "places", desc := "(I)I" } : Jvm.MethodName) ({ cls := "TurnedBoards$State", name := "places", desc := "(I)I" } : Jvm.MethodName)) ∈ lw_all := lw_g (lw_at lw_m5 179 rfl) rfl
theorem q1307 : (Jvm.Cond.code ({ cls := "TurnedBoards$State", name := "places", desc := "(I)I" } : Jvm.MethodName) prog_18_method_5_code (2 : Nat) (Option.some Jvm.ClassFile.FieldType.int)) ∈ lw_all := lw_g (lw_at lw_m5 180 rfl) rfl
theorem q1308 : (Jvm.Cond.classLink "TurnedBoards$State" (79 : Nat) "TurnedBoards$Word") ∈ lw_all := lw_g (lw_at lw_m5 181 rfl) rfl
theorem q1309 : (Jvm.Cond.methodLink "TurnedBoards$State" (81 : Nat) ({ cls := "TurnedBoards$Word", name := "size", desc := "()I" } : Jvm.MethodName)) ∈ lw_all := lw_g (lw_at lw_m5 182 rfl) rfl
theorem q1310 : (Jvm.Cond.methodLink "TurnedBoards$State" (73 : Nat) ({ cls := "TurnedBoards$Shop", name := "glyph", desc := "(III)I" } : Jvm.MethodName)) ∈ lw_all := lw_g (lw_at lw_m5 183 rfl) rfl
theorem q1335 : (Jvm.Cond.instanceMethod ({ cls := "TurnedBoards$State", name := "strokes", desc := "(I)I" } : Jvm.MethodName)) ∈ lw_all := lw_g (lw_at lw_m5 208 rfl) rfl
theorem q1336 : (Jvm.Cond.selects "TurnedBoards$State" ({ cls := "TurnedBoards$State", name := "strokes", desc := "(I)I" } : Jvm.MethodName) ({ cls := "TurnedBoards$State", name := "strokes", desc := "(I)I" } : Jvm.MethodName)) ∈ lw_all := lw_g (lw_at lw_m5 209 rfl) rfl
theorem q1337 : (Jvm.Cond.code ({ cls := "TurnedBoards$State", name := "strokes", desc := "(I)I" } : Jvm.MethodName) prog_18_method_6_code (4 : Nat) (Option.some Jvm.ClassFile.FieldType.int)) ∈ lw_all := lw_g (lw_at lw_m5 210 rfl) rfl
theorem q1338 : (Jvm.Cond.methodLink "TurnedBoards$State" (84 : Nat) ({ cls := "java/lang/Integer", name := "bitCount", desc := "(I)I" } : Jvm.MethodName)) ∈ lw_all := lw_g (lw_at lw_m5 211 rfl) rfl
theorem q1549 : (Jvm.Cond.instanceMethod ({ cls := "TurnedBoards$State", name := "copy", desc := "(LTurnedBoards$State;)LTurnedBoards$State;" } : Jvm.MethodName)) ∈ lw_all := lw_g (lw_at lw_m6 182 rfl) rfl
theorem q1550 : (Jvm.Cond.selects "TurnedBoards$State" ({ cls := "TurnedBoards$State", name := "copy", desc := "(LTurnedBoards$State;)LTurnedBoards$State;" } : Jvm.MethodName) ({ cls := "TurnedBoards$State", name := "copy", desc := "(LTurnedBoards$State;)LTurnedBoards$State;" } : Jvm.MethodName)) ∈ lw_all := lw_g (lw_at lw_m6 183 rfl) rfl
theorem q1551 : (Jvm.Cond.code ({ cls := "TurnedBoards$State", name := "copy", desc := "(LTurnedBoards$State;)LTurnedBoards$State;" } : Jvm.MethodName) prog_18_method_4_code (4 : Nat) (Option.some (Jvm.ClassFile.FieldType.object "TurnedBoards$State"))) ∈ lw_all := lw_g (lw_at lw_m6 184 rfl) rfl
theorem q1553 : (Jvm.Cond.instanceMethod ({ cls := "TurnedBoards$State", name := "years", desc := "(I)LTurnedBoards$State;" } : Jvm.MethodName)) ∈ lw_all := lw_g (lw_at lw_m6 186 rfl) rfl
theorem q1554 : (Jvm.Cond.selects "TurnedBoards$State" ({ cls := "TurnedBoards$State", name := "years", desc := "(I)LTurnedBoards$State;" } : Jvm.MethodName) ({ cls := "TurnedBoards$State", name := "years", desc := "(I)LTurnedBoards$State;" } : Jvm.MethodName)) ∈ lw_all := lw_g (lw_at lw_m6 187 rfl) rfl
theorem q1555 : (Jvm.Cond.code ({ cls := "TurnedBoards$State", name := "years", desc := "(I)LTurnedBoards$State;" } : Jvm.MethodName) prog_18_method_14_code (3 : Nat) (Option.some (Jvm.ClassFile.FieldType.object "TurnedBoards$State"))) ∈ lw_all := lw_g (lw_at lw_m6 188 rfl) rfl
theorem q1556 : (Jvm.Cond.methodLink "TurnedBoards$State" (148 : Nat) ({ cls := "TurnedBoards$State", name := "passes", desc := "(Z)V" } : Jvm.MethodName)) ∈ lw_all := lw_g (lw_at lw_m6 189 rfl) rfl
theorem q1557 : (Jvm.Cond.instanceMethod ({ cls := "TurnedBoards$State", name := "passes", desc := "(Z)V" } : Jvm.MethodName)) ∈ lw_all := lw_g (lw_at lw_m6 190 rfl) rfl
theorem q1558 : (Jvm.Cond.selects "TurnedBoards$State" ({ cls := "TurnedBoards$State", name := "passes", desc := "(Z)V" } : Jvm.MethodName) ({ cls := "TurnedBoards$State", name := "passes", desc := "(Z)V" } : Jvm.MethodName)) ∈ lw_all := lw_g (lw_at lw_m6 191 rfl) rfl
theorem q1559 : (Jvm.Cond.code ({ cls := "TurnedBoards$State", name := "passes", desc := "(Z)V" } : Jvm.MethodName) prog_18_method_13_code (6 : Nat) (Option.none : Option Jvm.ClassFile.FieldType)) ∈ lw_all := lw_g (lw_at lw_m6 192 rfl) rfl
theorem q1560 : (Jvm.Cond.methodLink "TurnedBoards$State" (96 : Nat) ({ cls := "TurnedBoards$State", name := "says", desc := "(III)I" } : Jvm.MethodName)) ∈ lw_all := lw_g (lw_at lw_m6 193 rfl) rfl
theorem q1561 : (Jvm.Cond.instanceMethod ({ cls := "TurnedBoards$State", name := "says", desc := "(III)I" } : Jvm.MethodName)) ∈ lw_all := lw_g (lw_at lw_m6 194 rfl) rfl
theorem q1562 : (Jvm.Cond.selects "TurnedBoards$State" ({ cls := "TurnedBoards$State", name := "says", desc := "(III)I" } : Jvm.MethodName) ({ cls := "TurnedBoards$State", name := "says", desc := "(III)I" } : Jvm.MethodName)) ∈ lw_all := lw_g (lw_at lw_m6 195 rfl) rfl
theorem q1563 : (Jvm.Cond.code ({ cls := "TurnedBoards$State", name := "says", desc := "(III)I" } : Jvm.MethodName) prog_18_method_7_code (4 : Nat) (Option.some Jvm.ClassFile.FieldType.int)) ∈ lw_all := lw_g (lw_at lw_m6 196 rfl) rfl
theorem q1564 : (Jvm.Cond.methodLinkNest "TurnedBoards$State" (89 : Nat) ({ cls := "TurnedBoards", name := "turned", desc := "(II)I" } : Jvm.MethodName) "TurnedBoards") ∈ lw_tbl := lw_at lw_m6 197 rfl
theorem q1565 : (Jvm.Cond.methodLinkNest "TurnedBoards$State" (93 : Nat) ({ cls := "TurnedBoards", name := "readAs", desc := "(II)I" } : Jvm.MethodName) "TurnedBoards") ∈ lw_tbl := lw_at lw_m6 198 rfl
theorem q1566 : (Jvm.Cond.methodLink "TurnedBoards$State" (135 : Nat) ({ cls := "TurnedBoards$State", name := "hails", desc := "()V" } : Jvm.MethodName)) ∈ lw_all := lw_g (lw_at lw_m6 199 rfl) rfl
theorem q1567 : (Jvm.Cond.privateMethod ({ cls := "TurnedBoards$State", name := "hails", desc := "()V" } : Jvm.MethodName)) ∈ lw_tbl := lw_at lw_m6 200 rfl
theorem q1568 : (Jvm.Cond.instanceMethod ({ cls := "TurnedBoards$State", name := "hails", desc := "()V" } : Jvm.MethodName)) ∈ lw_all := lw_g (lw_at lw_m6 201 rfl) rfl
theorem q1569 : (Jvm.Cond.code ({ cls := "TurnedBoards$State", name := "hails", desc := "()V" } : Jvm.MethodName) prog_18_method_12_code (4 : Nat) (Option.none : Option Jvm.ClassFile.FieldType)) ∈ lw_all := lw_g (lw_at lw_m6 202 rfl) rfl
theorem q1570 : (Jvm.Cond.methodLinkNest "TurnedBoards$State" (129 : Nat) ({ cls := "TurnedBoards", name := "draw", desc := "(I)I" } : Jvm.MethodName) "TurnedBoards") ∈ lw_tbl := lw_at lw_m6 203 rfl
theorem q1578 : (Jvm.Cond.methodLinkNest "TurnedBoards$State" (102 : Nat) ({ cls := "TurnedBoards", name := "has", desc := "(II)Z" } : Jvm.MethodName) "TurnedBoards") ∈ lw_tbl := lw_at lw_m6 211 rfl
theorem q1579 : (Jvm.Cond.methodLink "TurnedBoards$State" (138 : Nat) ({ cls := "TurnedBoards$State", name := "rainedOn", desc := "(II)I" } : Jvm.MethodName)) ∈ lw_all := lw_g (lw_at lw_m6 212 rfl) rfl
theorem q1580 : (Jvm.Cond.privateMethod ({ cls := "TurnedBoards$State", name := "rainedOn", desc := "(II)I" } : Jvm.MethodName)) ∈ lw_tbl := lw_at lw_m6 213 rfl
theorem q1581 : (Jvm.Cond.instanceMethod ({ cls := "TurnedBoards$State", name := "rainedOn", desc := "(II)I" } : Jvm.MethodName)) ∈ lw_all := lw_g (lw_at lw_m6 214 rfl) rfl
theorem q1582 : (Jvm.Cond.code ({ cls := "TurnedBoards$State", name := "rainedOn", desc := "(II)I" } : Jvm.MethodName) prog_18_method_10_code (5 : Nat) (Option.some Jvm.ClassFile.FieldType.int)) ∈ lw_all := lw_g (lw_at lw_m6 215 rfl) rfl
theorem q1583 : (Jvm.Cond.methodLink "TurnedBoards$State" (120 : Nat) ({ cls := "TurnedBoards$State", name := "near", desc := "(II)I" } : Jvm.MethodName)) ∈ lw_all := lw_g (lw_at lw_m6 216 rfl) rfl
theorem q1584 : (Jvm.Cond.privateMethod ({ cls := "TurnedBoards$State", name := "near", desc := "(II)I" } : Jvm.MethodName)) ∈ lw_tbl := lw_at lw_m6 217 rfl
theorem q1585 : (Jvm.Cond.instanceMethod ({ cls := "TurnedBoards$State", name := "near", desc := "(II)I" } : Jvm.MethodName)) ∈ lw_all := lw_g (lw_at lw_m6 218 rfl) rfl
theorem q1586 : (Jvm.Cond.code ({ cls := "TurnedBoards$State", name := "near", desc := "(II)I" } : Jvm.MethodName) prog_18_method_9_code (6 : Nat) (Option.some Jvm.ClassFile.FieldType.int)) ∈ lw_all := lw_g (lw_at lw_m6 219 rfl) rfl
theorem q1587 : (Jvm.Cond.methodLink "TurnedBoards$State" (123 : Nat) ({ cls := "TurnedBoards$Test", name := "holds", desc := "(LTurnedBoards$Moment;)Z" } : Jvm.MethodName)) ∈ lw_all := lw_g (lw_at lw_m6 220 rfl) rfl
theorem q1610 : (Jvm.Cond.methodLink "TurnedBoards$State" (144 : Nat) ({ cls := "TurnedBoards$State", name := "tells", desc := "(I)V" } : Jvm.MethodName)) ∈ lw_all := lw_g (lw_at lw_m7 3 rfl) rfl
theorem q1611 : (Jvm.Cond.privateMethod ({ cls := "TurnedBoards$State", name := "tells", desc := "(I)V" } : Jvm.MethodName)) ∈ lw_tbl := lw_at lw_m7 4 rfl
theorem q1612 : (Jvm.Cond.instanceMethod ({ cls := "TurnedBoards$State", name := "tells", desc := "(I)V" } : Jvm.MethodName)) ∈ lw_all := lw_g (lw_at lw_m7 5 rfl) rfl
theorem q1613 : (Jvm.Cond.code ({ cls := "TurnedBoards$State", name := "tells", desc := "(I)V" } : Jvm.MethodName) prog_18_method_11_code (4 : Nat) (Option.none : Option Jvm.ClassFile.FieldType)) ∈ lw_all := lw_g (lw_at lw_m7 6 rfl) rfl
theorem q1671 : (Jvm.Cond.instanceMethod ({ cls := "TurnedBoards$State", name := "isAsPainted", desc := "(I)Z" } : Jvm.MethodName)) ∈ lw_all := lw_g (lw_at lw_m7 64 rfl) rfl
theorem q1672 : (Jvm.Cond.selects "TurnedBoards$State" ({ cls := "TurnedBoards$State", name := "isAsPainted", desc := "(I)Z" } : Jvm.MethodName) ({ cls := "TurnedBoards$State", name := "isAsPainted", desc := "(I)Z" } : Jvm.MethodName)) ∈ lw_all := lw_g (lw_at lw_m7 65 rfl) rfl
theorem q1673 : (Jvm.Cond.code ({ cls := "TurnedBoards$State", name := "isAsPainted", desc := "(I)Z" } : Jvm.MethodName) prog_18_method_8_code (3 : Nat) (Option.some Jvm.ClassFile.FieldType.boolean)) ∈ lw_all := lw_g (lw_at lw_m7 66 rfl) rfl
theorem q1674 : (Jvm.Cond.methodLink "TurnedBoards$State" (99 : Nat) ({ cls := "TurnedBoards$Word", name := "at", desc := "(I)I" } : Jvm.MethodName)) ∈ lw_all := lw_g (lw_at lw_m7 67 rfl) rfl
theorem q2736 : (Jvm.Cond.castable "TurnedBoards$State" "java/lang/Object") ∈ lw_tbl := lw_at lw_m11 169 rfl
theorem in_X5 : ∀ w ∈ wsX50, w ∈ lw_all := lw_in wsX50 [518, 520, 522, 524, 526, 528, 530, 532, 534, 536] (by decide +kernel) (by decide +kernel)
/-! TurnedBoards$Line -/
set_option maxRecDepth 100000
def RX6 : String := "TurnedBoards$Line"
def TX6 : u_T := fun k => match k with
  | 0 => ("TurnedBoards$Line", "one", "I", false)
  | 1 => ("TurnedBoards$Line", "other", "I", false)
  | 2 => ("TurnedBoards$Line", "hand", "I", false)
  | 3 => ("TurnedBoards$Line", "sizeOne", "I", false)
  | 4 => ("TurnedBoards$Line", "sizeOther", "I", false)
  | 5 => ("TurnedBoards$Line", "pieces", "I", false)
  | 6 => ("TurnedBoards$Line", "least", "[[I", true)
  | 7 => ("TurnedBoards$Line", "forWhom", "[I", true)
  | 8 => ("TurnedBoards$Line", "glyph", "[I", true)
  | _ => ("TurnedBoards$Line", "this$0", "LTurnedBoards;", true)
def tyX6 : Nat → FieldType := fun k => match k with
  | 0 => .int
  | 1 => .int
  | 2 => .int
  | 3 => .int
  | 4 => .int
  | 5 => .int
  | 6 => .array (.array .int)
  | 7 => .array .int
  | 8 => .array .int
  | _ => .object "TurnedBoards"
abbrev wsX60 : List Cond := u_ws RX6 TX6 10
theorem nmX6 : ∀ a, a < 10 → ∀ b, b < 10 → a ≠ b → (TX6 a).2.1 ≠ (TX6 b).2.1 := by decide +kernel
theorem tyX6_ok : ∀ k, k < 10 → parseFieldDescriptor (TX6 k).2.2.1 = some (tyX6 k) := by decide +kernel
abbrev cX6_init : ByteArray := prog_10_method_1_code
def yX6_init : MethodName := ⟨RX6, "<init>", "(LTurnedBoards;)V"⟩
def dkwX6_init_1 : List UInt8 := [188, 10, 181, 0, 20, 42, 16, 12, 188, 10, 181, 0, 24, 177]
abbrev dktX6_init_1 : List UInt8 := dkwX6_init_1 ++ []
def dkwX6_init_0 : List UInt8 := [42, 43, 181, 0, 3, 42, 183, 0, 9, 42, 16, 7, 16, 7, 197, 0, 15, 2, 181, 0, 17, 42, 16, 12]
abbrev dktX6_init_0 : List UInt8 := dkwX6_init_0 ++ dktX6_init_1
theorem dksX6_init_0 : cX6_init.data.toList.drop 0 = dktX6_init_0 := by decide +kernel
theorem dksX6_init_1 : cX6_init.data.toList.drop 24 = dktX6_init_1 := dk_seg dksX6_init_0 24 rfl rfl
theorem dX6_init_0 : decode cX6_init 0 = .ok (.aload_n 0, 1) := dk_42 (dk_at dksX6_init_0 0 rfl rfl)
theorem dX6_init_1 : decode cX6_init 1 = .ok (.aload_n 1, 1) := dk_43 (dk_at dksX6_init_0 1 rfl rfl)
theorem dX6_init_2 : decode cX6_init 2 = .ok (.putfield 3, 3) := dk_181 0 3 (dk_at dksX6_init_0 2 rfl rfl)
theorem dX6_init_5 : decode cX6_init 5 = .ok (.aload_n 0, 1) := dk_42 (dk_at dksX6_init_0 5 rfl rfl)
theorem dX6_init_6 : decode cX6_init 6 = .ok (.invokespecial 9, 3) := dk_183 0 9 (dk_at dksX6_init_0 6 rfl rfl)
theorem dX6_init_9 : decode cX6_init 9 = .ok (.aload_n 0, 1) := dk_42 (dk_at dksX6_init_0 9 rfl rfl)
theorem dX6_init_10 : decode cX6_init 10 = .ok (.bipush 7, 2) := dk_16 7 (dk_at dksX6_init_0 10 rfl rfl)
theorem dX6_init_12 : decode cX6_init 12 = .ok (.bipush 7, 2) := dk_16 7 (dk_at dksX6_init_0 12 rfl rfl)
theorem dX6_init_14 : decode cX6_init 14 = .ok (.multianewarray 15 2, 4) := by decide +kernel
theorem dX6_init_18 : decode cX6_init 18 = .ok (.putfield 17, 3) := dk_181 0 17 (dk_at dksX6_init_0 18 rfl rfl)
theorem dX6_init_21 : decode cX6_init 21 = .ok (.aload_n 0, 1) := dk_42 (dk_at dksX6_init_0 21 rfl rfl)
theorem dX6_init_22 : decode cX6_init 22 = .ok (.bipush 12, 2) := dk_16 12 (dk_at dksX6_init_0 22 rfl rfl)
theorem dX6_init_24 : decode cX6_init 24 = .ok (.newarray .int, 2) := dk_188_10 (dk_at dksX6_init_1 0 rfl rfl)
theorem dX6_init_26 : decode cX6_init 26 = .ok (.putfield 20, 3) := dk_181 0 20 (dk_at dksX6_init_1 2 rfl rfl)
theorem dX6_init_29 : decode cX6_init 29 = .ok (.aload_n 0, 1) := dk_42 (dk_at dksX6_init_1 5 rfl rfl)
theorem dX6_init_30 : decode cX6_init 30 = .ok (.bipush 12, 2) := dk_16 12 (dk_at dksX6_init_1 6 rfl rfl)
theorem dX6_init_32 : decode cX6_init 32 = .ok (.newarray .int, 2) := dk_188_10 (dk_at dksX6_init_1 8 rfl rfl)
theorem dX6_init_34 : decode cX6_init 34 = .ok (.putfield 24, 3) := dk_181 0 24 (dk_at dksX6_init_1 10 rfl rfl)
theorem dX6_init_37 : decode cX6_init 37 = .ok (.return_, 1) := dk_177 (dk_at dksX6_init_1 13 rfl rfl)
abbrev cX6_by : ByteArray := prog_10_method_11_code
def yX6_by : MethodName := ⟨RX6, "by", "(III)LTurnedBoards$Line;"⟩
def dkwX6_by_4 : List UInt8 := [21, 5, 182, 0, 129, 132, 5, 255, 167, 255, 240, 132, 4, 255, 167, 255, 223, 42, 176]
abbrev dktX6_by_4 : List UInt8 := dkwX6_by_4 ++ []
def dkwX6_by_3 : List UInt8 := [180, 0, 104, 54, 4, 21, 4, 155, 0, 34, 42, 180, 0, 46, 54, 5, 21, 5, 155, 0, 17, 42, 21, 4]
abbrev dktX6_by_3 : List UInt8 := dkwX6_by_3 ++ dktX6_by_4
def dkwX6_by_2 : List UInt8 := [180, 0, 27, 180, 0, 60, 28, 185, 0, 64, 2, 0, 192, 0, 70, 182, 0, 125, 181, 0, 46, 42]
abbrev dktX6_by_2 : List UInt8 := dkwX6_by_2 ++ dktX6_by_3
def dkwX6_by_1 : List UInt8 := [180, 0, 60, 27, 185, 0, 64, 2, 0, 192, 0, 70, 182, 0, 125, 181, 0, 104, 42, 42, 180, 0, 3]
abbrev dktX6_by_1 : List UInt8 := dkwX6_by_1 ++ dktX6_by_2
def dkwX6_by_0 : List UInt8 := [42, 27, 181, 0, 35, 42, 28, 181, 0, 43, 42, 29, 181, 0, 31, 42, 42, 180, 0, 3, 180, 0, 27]
abbrev dktX6_by_0 : List UInt8 := dkwX6_by_0 ++ dktX6_by_1
theorem dksX6_by_0 : cX6_by.data.toList.drop 0 = dktX6_by_0 := by decide +kernel
theorem dksX6_by_1 : cX6_by.data.toList.drop 23 = dktX6_by_1 := dk_seg dksX6_by_0 23 rfl rfl
theorem dksX6_by_2 : cX6_by.data.toList.drop 46 = dktX6_by_2 := dk_seg dksX6_by_1 23 rfl rfl
theorem dksX6_by_3 : cX6_by.data.toList.drop 68 = dktX6_by_3 := dk_seg dksX6_by_2 22 rfl rfl
theorem dksX6_by_4 : cX6_by.data.toList.drop 92 = dktX6_by_4 := dk_seg dksX6_by_3 24 rfl rfl
theorem dX6_by_0 : decode cX6_by 0 = .ok (.aload_n 0, 1) := dk_42 (dk_at dksX6_by_0 0 rfl rfl)
theorem dX6_by_1 : decode cX6_by 1 = .ok (.iload_n 1, 1) := dk_27 (dk_at dksX6_by_0 1 rfl rfl)
theorem dX6_by_2 : decode cX6_by 2 = .ok (.putfield 35, 3) := dk_181 0 35 (dk_at dksX6_by_0 2 rfl rfl)
theorem dX6_by_5 : decode cX6_by 5 = .ok (.aload_n 0, 1) := dk_42 (dk_at dksX6_by_0 5 rfl rfl)
theorem dX6_by_6 : decode cX6_by 6 = .ok (.iload_n 2, 1) := dk_28 (dk_at dksX6_by_0 6 rfl rfl)
theorem dX6_by_7 : decode cX6_by 7 = .ok (.putfield 43, 3) := dk_181 0 43 (dk_at dksX6_by_0 7 rfl rfl)
theorem dX6_by_10 : decode cX6_by 10 = .ok (.aload_n 0, 1) := dk_42 (dk_at dksX6_by_0 10 rfl rfl)
theorem dX6_by_11 : decode cX6_by 11 = .ok (.iload_n 3, 1) := dk_29 (dk_at dksX6_by_0 11 rfl rfl)
theorem dX6_by_12 : decode cX6_by 12 = .ok (.putfield 31, 3) := dk_181 0 31 (dk_at dksX6_by_0 12 rfl rfl)
theorem dX6_by_15 : decode cX6_by 15 = .ok (.aload_n 0, 1) := dk_42 (dk_at dksX6_by_0 15 rfl rfl)
theorem dX6_by_16 : decode cX6_by 16 = .ok (.aload_n 0, 1) := dk_42 (dk_at dksX6_by_0 16 rfl rfl)
theorem dX6_by_17 : decode cX6_by 17 = .ok (.getfield 3, 3) := dk_180 0 3 (dk_at dksX6_by_0 17 rfl rfl)
theorem dX6_by_20 : decode cX6_by 20 = .ok (.getfield 27, 3) := dk_180 0 27 (dk_at dksX6_by_0 20 rfl rfl)
theorem dX6_by_23 : decode cX6_by 23 = .ok (.getfield 60, 3) := dk_180 0 60 (dk_at dksX6_by_1 0 rfl rfl)
theorem dX6_by_26 : decode cX6_by 26 = .ok (.iload_n 1, 1) := dk_27 (dk_at dksX6_by_1 3 rfl rfl)
theorem dX6_by_27 : decode cX6_by 27 = .ok (.invokeinterface 64 2, 5) := by decide +kernel
theorem dX6_by_32 : decode cX6_by 32 = .ok (.checkcast 70, 3) := dk_192 0 70 (dk_at dksX6_by_1 9 rfl rfl)
theorem dX6_by_35 : decode cX6_by 35 = .ok (.invokevirtual 125, 3) := dk_182 0 125 (dk_at dksX6_by_1 12 rfl rfl)
theorem dX6_by_38 : decode cX6_by 38 = .ok (.putfield 104, 3) := dk_181 0 104 (dk_at dksX6_by_1 15 rfl rfl)
theorem dX6_by_41 : decode cX6_by 41 = .ok (.aload_n 0, 1) := dk_42 (dk_at dksX6_by_1 18 rfl rfl)
theorem dX6_by_42 : decode cX6_by 42 = .ok (.aload_n 0, 1) := dk_42 (dk_at dksX6_by_1 19 rfl rfl)
theorem dX6_by_43 : decode cX6_by 43 = .ok (.getfield 3, 3) := dk_180 0 3 (dk_at dksX6_by_1 20 rfl rfl)
theorem dX6_by_46 : decode cX6_by 46 = .ok (.getfield 27, 3) := dk_180 0 27 (dk_at dksX6_by_2 0 rfl rfl)
theorem dX6_by_49 : decode cX6_by 49 = .ok (.getfield 60, 3) := dk_180 0 60 (dk_at dksX6_by_2 3 rfl rfl)
theorem dX6_by_52 : decode cX6_by 52 = .ok (.iload_n 2, 1) := dk_28 (dk_at dksX6_by_2 6 rfl rfl)
theorem dX6_by_53 : decode cX6_by 53 = .ok (.invokeinterface 64 2, 5) := by decide +kernel
theorem dX6_by_58 : decode cX6_by 58 = .ok (.checkcast 70, 3) := dk_192 0 70 (dk_at dksX6_by_2 12 rfl rfl)
theorem dX6_by_61 : decode cX6_by 61 = .ok (.invokevirtual 125, 3) := dk_182 0 125 (dk_at dksX6_by_2 15 rfl rfl)
theorem dX6_by_64 : decode cX6_by 64 = .ok (.putfield 46, 3) := dk_181 0 46 (dk_at dksX6_by_2 18 rfl rfl)
theorem dX6_by_67 : decode cX6_by 67 = .ok (.aload_n 0, 1) := dk_42 (dk_at dksX6_by_2 21 rfl rfl)
theorem dX6_by_68 : decode cX6_by 68 = .ok (.getfield 104, 3) := dk_180 0 104 (dk_at dksX6_by_3 0 rfl rfl)
theorem dX6_by_71 : decode cX6_by 71 = .ok (.istore 4, 2) := dk_54 4 (dk_at dksX6_by_3 3 rfl rfl)
theorem dX6_by_73 : decode cX6_by 73 = .ok (.iload 4, 2) := dk_21 4 (dk_at dksX6_by_3 5 rfl rfl)
theorem dX6_by_75 : decode cX6_by 75 = .ok (.ifCond .lt 34, 3) := dk_155 0 34 (dk_at dksX6_by_3 7 rfl rfl)
theorem dX6_by_78 : decode cX6_by 78 = .ok (.aload_n 0, 1) := dk_42 (dk_at dksX6_by_3 10 rfl rfl)
theorem dX6_by_79 : decode cX6_by 79 = .ok (.getfield 46, 3) := dk_180 0 46 (dk_at dksX6_by_3 11 rfl rfl)
theorem dX6_by_82 : decode cX6_by 82 = .ok (.istore 5, 2) := dk_54 5 (dk_at dksX6_by_3 14 rfl rfl)
theorem dX6_by_84 : decode cX6_by 84 = .ok (.iload 5, 2) := dk_21 5 (dk_at dksX6_by_3 16 rfl rfl)
theorem dX6_by_86 : decode cX6_by 86 = .ok (.ifCond .lt 17, 3) := dk_155 0 17 (dk_at dksX6_by_3 18 rfl rfl)
theorem dX6_by_89 : decode cX6_by 89 = .ok (.aload_n 0, 1) := dk_42 (dk_at dksX6_by_3 21 rfl rfl)
theorem dX6_by_90 : decode cX6_by 90 = .ok (.iload 4, 2) := dk_21 4 (dk_at dksX6_by_3 22 rfl rfl)
theorem dX6_by_92 : decode cX6_by 92 = .ok (.iload 5, 2) := dk_21 5 (dk_at dksX6_by_4 0 rfl rfl)
theorem dX6_by_94 : decode cX6_by 94 = .ok (.invokevirtual 129, 3) := dk_182 0 129 (dk_at dksX6_by_4 2 rfl rfl)
theorem dX6_by_97 : decode cX6_by 97 = .ok (.iinc 5 (-1), 3) := dk_132 5 255 (dk_at dksX6_by_4 5 rfl rfl)
theorem dX6_by_100 : decode cX6_by 100 = .ok (.goto (-16), 3) := dk_167 255 240 (dk_at dksX6_by_4 8 rfl rfl)
theorem dX6_by_103 : decode cX6_by 103 = .ok (.iinc 4 (-1), 3) := dk_132 4 255 (dk_at dksX6_by_4 11 rfl rfl)
theorem dX6_by_106 : decode cX6_by 106 = .ok (.goto (-33), 3) := dk_167 255 223 (dk_at dksX6_by_4 14 rfl rfl)
theorem dX6_by_109 : decode cX6_by 109 = .ok (.aload_n 0, 1) := dk_42 (dk_at dksX6_by_4 17 rfl rfl)
theorem dX6_by_110 : decode cX6_by 110 = .ok (.areturn, 1) := dk_176 (dk_at dksX6_by_4 18 rfl rfl)
abbrev cX6_reckons : ByteArray := prog_10_method_8_code
def yX6_reckons : MethodName := ⟨RX6, "reckons", "(II)V"⟩
def dkwX6_reckons_6 : List UInt8 := [96, 46, 96, 184, 0, 110, 62, 42, 180, 0, 17, 27, 50, 28, 29, 79, 177]
abbrev dktX6_reckons_6 : List UInt8 := dkwX6_reckons_6 ++ []
def dkwX6_reckons_5 : List UInt8 := [180, 0, 46, 162, 0, 28, 29, 42, 42, 28, 182, 0, 57, 182, 0, 115, 42, 180, 0, 17, 27, 50, 28, 4]
abbrev dktX6_reckons_5 : List UInt8 := dkwX6_reckons_5 ++ dktX6_reckons_6
def dkwX6_reckons_4 : List UInt8 := [182, 0, 53, 182, 0, 115, 42, 180, 0, 17, 27, 4, 96, 50, 28, 46, 96, 184, 0, 110, 62, 28, 42]
abbrev dktX6_reckons_4 : List UInt8 := dkwX6_reckons_4 ++ dktX6_reckons_5
def dkwX6_reckons_3 : List UInt8 := [184, 0, 110, 62, 132, 4, 1, 167, 255, 205, 27, 42, 180, 0, 104, 162, 0, 28, 29, 42, 42, 27]
abbrev dktX6_reckons_3 : List UInt8 := dkwX6_reckons_3 ++ dktX6_reckons_4
def dkwX6_reckons_2 : List UInt8 := [29, 42, 27, 28, 21, 4, 182, 0, 107, 42, 180, 0, 17, 27, 4, 96, 50, 28, 4, 96, 46, 96]
abbrev dktX6_reckons_2 : List UInt8 := dkwX6_reckons_2 ++ dktX6_reckons_3
def dkwX6_reckons_1 : List UInt8 := [54, 4, 21, 4, 7, 162, 0, 51, 27, 42, 180, 0, 104, 162, 0, 43, 28, 42, 180, 0, 46, 162, 0, 35]
abbrev dktX6_reckons_1 : List UInt8 := dkwX6_reckons_1 ++ dktX6_reckons_2
def dkwX6_reckons_0 : List UInt8 := [27, 42, 180, 0, 104, 160, 0, 15, 28, 42, 180, 0, 46, 160, 0, 7, 3, 167, 0, 5, 18, 100, 62, 3]
abbrev dktX6_reckons_0 : List UInt8 := dkwX6_reckons_0 ++ dktX6_reckons_1
theorem dksX6_reckons_0 : cX6_reckons.data.toList.drop 0 = dktX6_reckons_0 := by decide +kernel
theorem dksX6_reckons_1 : cX6_reckons.data.toList.drop 24 = dktX6_reckons_1 := dk_seg dksX6_reckons_0 24 rfl rfl
theorem dksX6_reckons_2 : cX6_reckons.data.toList.drop 48 = dktX6_reckons_2 := dk_seg dksX6_reckons_1 24 rfl rfl
theorem dksX6_reckons_3 : cX6_reckons.data.toList.drop 70 = dktX6_reckons_3 := dk_seg dksX6_reckons_2 22 rfl rfl
theorem dksX6_reckons_4 : cX6_reckons.data.toList.drop 92 = dktX6_reckons_4 := dk_seg dksX6_reckons_3 22 rfl rfl
theorem dksX6_reckons_5 : cX6_reckons.data.toList.drop 115 = dktX6_reckons_5 := dk_seg dksX6_reckons_4 23 rfl rfl
theorem dksX6_reckons_6 : cX6_reckons.data.toList.drop 139 = dktX6_reckons_6 := dk_seg dksX6_reckons_5 24 rfl rfl
theorem dX6_reckons_0 : decode cX6_reckons 0 = .ok (.iload_n 1, 1) := dk_27 (dk_at dksX6_reckons_0 0 rfl rfl)
theorem dX6_reckons_1 : decode cX6_reckons 1 = .ok (.aload_n 0, 1) := dk_42 (dk_at dksX6_reckons_0 1 rfl rfl)
theorem dX6_reckons_2 : decode cX6_reckons 2 = .ok (.getfield 104, 3) := dk_180 0 104 (dk_at dksX6_reckons_0 2 rfl rfl)
theorem dX6_reckons_5 : decode cX6_reckons 5 = .ok (.if_icmp .ne 15, 3) := dk_160 0 15 (dk_at dksX6_reckons_0 5 rfl rfl)
theorem dX6_reckons_8 : decode cX6_reckons 8 = .ok (.iload_n 2, 1) := dk_28 (dk_at dksX6_reckons_0 8 rfl rfl)
theorem dX6_reckons_9 : decode cX6_reckons 9 = .ok (.aload_n 0, 1) := dk_42 (dk_at dksX6_reckons_0 9 rfl rfl)
theorem dX6_reckons_10 : decode cX6_reckons 10 = .ok (.getfield 46, 3) := dk_180 0 46 (dk_at dksX6_reckons_0 10 rfl rfl)
theorem dX6_reckons_13 : decode cX6_reckons 13 = .ok (.if_icmp .ne 7, 3) := dk_160 0 7 (dk_at dksX6_reckons_0 13 rfl rfl)
theorem dX6_reckons_16 : decode cX6_reckons 16 = .ok (.iconst 0, 1) := dk_3 (dk_at dksX6_reckons_0 16 rfl rfl)
theorem dX6_reckons_17 : decode cX6_reckons 17 = .ok (.goto 5, 3) := dk_167 0 5 (dk_at dksX6_reckons_0 17 rfl rfl)
theorem dX6_reckons_20 : decode cX6_reckons 20 = .ok (.ldc 100, 2) := dk_18 100 (dk_at dksX6_reckons_0 20 rfl rfl)
theorem dX6_reckons_22 : decode cX6_reckons 22 = .ok (.istore_n 3, 1) := dk_62 (dk_at dksX6_reckons_0 22 rfl rfl)
theorem dX6_reckons_23 : decode cX6_reckons 23 = .ok (.iconst 0, 1) := dk_3 (dk_at dksX6_reckons_0 23 rfl rfl)
theorem dX6_reckons_24 : decode cX6_reckons 24 = .ok (.istore 4, 2) := dk_54 4 (dk_at dksX6_reckons_1 0 rfl rfl)
theorem dX6_reckons_26 : decode cX6_reckons 26 = .ok (.iload 4, 2) := dk_21 4 (dk_at dksX6_reckons_1 2 rfl rfl)
theorem dX6_reckons_28 : decode cX6_reckons 28 = .ok (.iconst 4, 1) := dk_7 (dk_at dksX6_reckons_1 4 rfl rfl)
theorem dX6_reckons_29 : decode cX6_reckons 29 = .ok (.if_icmp .ge 51, 3) := dk_162 0 51 (dk_at dksX6_reckons_1 5 rfl rfl)
theorem dX6_reckons_32 : decode cX6_reckons 32 = .ok (.iload_n 1, 1) := dk_27 (dk_at dksX6_reckons_1 8 rfl rfl)
theorem dX6_reckons_33 : decode cX6_reckons 33 = .ok (.aload_n 0, 1) := dk_42 (dk_at dksX6_reckons_1 9 rfl rfl)
theorem dX6_reckons_34 : decode cX6_reckons 34 = .ok (.getfield 104, 3) := dk_180 0 104 (dk_at dksX6_reckons_1 10 rfl rfl)
theorem dX6_reckons_37 : decode cX6_reckons 37 = .ok (.if_icmp .ge 43, 3) := dk_162 0 43 (dk_at dksX6_reckons_1 13 rfl rfl)
theorem dX6_reckons_40 : decode cX6_reckons 40 = .ok (.iload_n 2, 1) := dk_28 (dk_at dksX6_reckons_1 16 rfl rfl)
theorem dX6_reckons_41 : decode cX6_reckons 41 = .ok (.aload_n 0, 1) := dk_42 (dk_at dksX6_reckons_1 17 rfl rfl)
theorem dX6_reckons_42 : decode cX6_reckons 42 = .ok (.getfield 46, 3) := dk_180 0 46 (dk_at dksX6_reckons_1 18 rfl rfl)
theorem dX6_reckons_45 : decode cX6_reckons 45 = .ok (.if_icmp .ge 35, 3) := dk_162 0 35 (dk_at dksX6_reckons_1 21 rfl rfl)
theorem dX6_reckons_48 : decode cX6_reckons 48 = .ok (.iload_n 3, 1) := dk_29 (dk_at dksX6_reckons_2 0 rfl rfl)
theorem dX6_reckons_49 : decode cX6_reckons 49 = .ok (.aload_n 0, 1) := dk_42 (dk_at dksX6_reckons_2 1 rfl rfl)
theorem dX6_reckons_50 : decode cX6_reckons 50 = .ok (.iload_n 1, 1) := dk_27 (dk_at dksX6_reckons_2 2 rfl rfl)
theorem dX6_reckons_51 : decode cX6_reckons 51 = .ok (.iload_n 2, 1) := dk_28 (dk_at dksX6_reckons_2 3 rfl rfl)
theorem dX6_reckons_52 : decode cX6_reckons 52 = .ok (.iload 4, 2) := dk_21 4 (dk_at dksX6_reckons_2 4 rfl rfl)
theorem dX6_reckons_54 : decode cX6_reckons 54 = .ok (.invokevirtual 107, 3) := dk_182 0 107 (dk_at dksX6_reckons_2 6 rfl rfl)
theorem dX6_reckons_57 : decode cX6_reckons 57 = .ok (.aload_n 0, 1) := dk_42 (dk_at dksX6_reckons_2 9 rfl rfl)
theorem dX6_reckons_58 : decode cX6_reckons 58 = .ok (.getfield 17, 3) := dk_180 0 17 (dk_at dksX6_reckons_2 10 rfl rfl)
theorem dX6_reckons_61 : decode cX6_reckons 61 = .ok (.iload_n 1, 1) := dk_27 (dk_at dksX6_reckons_2 13 rfl rfl)
theorem dX6_reckons_62 : decode cX6_reckons 62 = .ok (.iconst 1, 1) := dk_4 (dk_at dksX6_reckons_2 14 rfl rfl)
theorem dX6_reckons_63 : decode cX6_reckons 63 = .ok (.iadd, 1) := dk_96 (dk_at dksX6_reckons_2 15 rfl rfl)
theorem dX6_reckons_64 : decode cX6_reckons 64 = .ok (.aaload, 1) := dk_50 (dk_at dksX6_reckons_2 16 rfl rfl)
theorem dX6_reckons_65 : decode cX6_reckons 65 = .ok (.iload_n 2, 1) := dk_28 (dk_at dksX6_reckons_2 17 rfl rfl)
theorem dX6_reckons_66 : decode cX6_reckons 66 = .ok (.iconst 1, 1) := dk_4 (dk_at dksX6_reckons_2 18 rfl rfl)
theorem dX6_reckons_67 : decode cX6_reckons 67 = .ok (.iadd, 1) := dk_96 (dk_at dksX6_reckons_2 19 rfl rfl)
theorem dX6_reckons_68 : decode cX6_reckons 68 = .ok (.iaload, 1) := dk_46 (dk_at dksX6_reckons_2 20 rfl rfl)
theorem dX6_reckons_69 : decode cX6_reckons 69 = .ok (.iadd, 1) := dk_96 (dk_at dksX6_reckons_2 21 rfl rfl)
theorem dX6_reckons_70 : decode cX6_reckons 70 = .ok (.invokestatic 110, 3) := dk_184 0 110 (dk_at dksX6_reckons_3 0 rfl rfl)
theorem dX6_reckons_73 : decode cX6_reckons 73 = .ok (.istore_n 3, 1) := dk_62 (dk_at dksX6_reckons_3 3 rfl rfl)
theorem dX6_reckons_74 : decode cX6_reckons 74 = .ok (.iinc 4 1, 3) := dk_132 4 1 (dk_at dksX6_reckons_3 4 rfl rfl)
theorem dX6_reckons_77 : decode cX6_reckons 77 = .ok (.goto (-51), 3) := dk_167 255 205 (dk_at dksX6_reckons_3 7 rfl rfl)
theorem dX6_reckons_80 : decode cX6_reckons 80 = .ok (.iload_n 1, 1) := dk_27 (dk_at dksX6_reckons_3 10 rfl rfl)
theorem dX6_reckons_81 : decode cX6_reckons 81 = .ok (.aload_n 0, 1) := dk_42 (dk_at dksX6_reckons_3 11 rfl rfl)
theorem dX6_reckons_82 : decode cX6_reckons 82 = .ok (.getfield 104, 3) := dk_180 0 104 (dk_at dksX6_reckons_3 12 rfl rfl)
theorem dX6_reckons_85 : decode cX6_reckons 85 = .ok (.if_icmp .ge 28, 3) := dk_162 0 28 (dk_at dksX6_reckons_3 15 rfl rfl)
theorem dX6_reckons_88 : decode cX6_reckons 88 = .ok (.iload_n 3, 1) := dk_29 (dk_at dksX6_reckons_3 18 rfl rfl)
theorem dX6_reckons_89 : decode cX6_reckons 89 = .ok (.aload_n 0, 1) := dk_42 (dk_at dksX6_reckons_3 19 rfl rfl)
theorem dX6_reckons_90 : decode cX6_reckons 90 = .ok (.aload_n 0, 1) := dk_42 (dk_at dksX6_reckons_3 20 rfl rfl)
theorem dX6_reckons_91 : decode cX6_reckons 91 = .ok (.iload_n 1, 1) := dk_27 (dk_at dksX6_reckons_3 21 rfl rfl)
theorem dX6_reckons_92 : decode cX6_reckons 92 = .ok (.invokevirtual 53, 3) := dk_182 0 53 (dk_at dksX6_reckons_4 0 rfl rfl)
theorem dX6_reckons_95 : decode cX6_reckons 95 = .ok (.invokevirtual 115, 3) := dk_182 0 115 (dk_at dksX6_reckons_4 3 rfl rfl)
theorem dX6_reckons_98 : decode cX6_reckons 98 = .ok (.aload_n 0, 1) := dk_42 (dk_at dksX6_reckons_4 6 rfl rfl)
theorem dX6_reckons_99 : decode cX6_reckons 99 = .ok (.getfield 17, 3) := dk_180 0 17 (dk_at dksX6_reckons_4 7 rfl rfl)
theorem dX6_reckons_102 : decode cX6_reckons 102 = .ok (.iload_n 1, 1) := dk_27 (dk_at dksX6_reckons_4 10 rfl rfl)
theorem dX6_reckons_103 : decode cX6_reckons 103 = .ok (.iconst 1, 1) := dk_4 (dk_at dksX6_reckons_4 11 rfl rfl)
theorem dX6_reckons_104 : decode cX6_reckons 104 = .ok (.iadd, 1) := dk_96 (dk_at dksX6_reckons_4 12 rfl rfl)
theorem dX6_reckons_105 : decode cX6_reckons 105 = .ok (.aaload, 1) := dk_50 (dk_at dksX6_reckons_4 13 rfl rfl)
theorem dX6_reckons_106 : decode cX6_reckons 106 = .ok (.iload_n 2, 1) := dk_28 (dk_at dksX6_reckons_4 14 rfl rfl)
theorem dX6_reckons_107 : decode cX6_reckons 107 = .ok (.iaload, 1) := dk_46 (dk_at dksX6_reckons_4 15 rfl rfl)
theorem dX6_reckons_108 : decode cX6_reckons 108 = .ok (.iadd, 1) := dk_96 (dk_at dksX6_reckons_4 16 rfl rfl)
theorem dX6_reckons_109 : decode cX6_reckons 109 = .ok (.invokestatic 110, 3) := dk_184 0 110 (dk_at dksX6_reckons_4 17 rfl rfl)
theorem dX6_reckons_112 : decode cX6_reckons 112 = .ok (.istore_n 3, 1) := dk_62 (dk_at dksX6_reckons_4 20 rfl rfl)
theorem dX6_reckons_113 : decode cX6_reckons 113 = .ok (.iload_n 2, 1) := dk_28 (dk_at dksX6_reckons_4 21 rfl rfl)
theorem dX6_reckons_114 : decode cX6_reckons 114 = .ok (.aload_n 0, 1) := dk_42 (dk_at dksX6_reckons_4 22 rfl rfl)
theorem dX6_reckons_115 : decode cX6_reckons 115 = .ok (.getfield 46, 3) := dk_180 0 46 (dk_at dksX6_reckons_5 0 rfl rfl)
theorem dX6_reckons_118 : decode cX6_reckons 118 = .ok (.if_icmp .ge 28, 3) := dk_162 0 28 (dk_at dksX6_reckons_5 3 rfl rfl)
theorem dX6_reckons_121 : decode cX6_reckons 121 = .ok (.iload_n 3, 1) := dk_29 (dk_at dksX6_reckons_5 6 rfl rfl)
theorem dX6_reckons_122 : decode cX6_reckons 122 = .ok (.aload_n 0, 1) := dk_42 (dk_at dksX6_reckons_5 7 rfl rfl)
theorem dX6_reckons_123 : decode cX6_reckons 123 = .ok (.aload_n 0, 1) := dk_42 (dk_at dksX6_reckons_5 8 rfl rfl)
theorem dX6_reckons_124 : decode cX6_reckons 124 = .ok (.iload_n 2, 1) := dk_28 (dk_at dksX6_reckons_5 9 rfl rfl)
theorem dX6_reckons_125 : decode cX6_reckons 125 = .ok (.invokevirtual 57, 3) := dk_182 0 57 (dk_at dksX6_reckons_5 10 rfl rfl)
theorem dX6_reckons_128 : decode cX6_reckons 128 = .ok (.invokevirtual 115, 3) := dk_182 0 115 (dk_at dksX6_reckons_5 13 rfl rfl)
theorem dX6_reckons_131 : decode cX6_reckons 131 = .ok (.aload_n 0, 1) := dk_42 (dk_at dksX6_reckons_5 16 rfl rfl)
theorem dX6_reckons_132 : decode cX6_reckons 132 = .ok (.getfield 17, 3) := dk_180 0 17 (dk_at dksX6_reckons_5 17 rfl rfl)
theorem dX6_reckons_135 : decode cX6_reckons 135 = .ok (.iload_n 1, 1) := dk_27 (dk_at dksX6_reckons_5 20 rfl rfl)
theorem dX6_reckons_136 : decode cX6_reckons 136 = .ok (.aaload, 1) := dk_50 (dk_at dksX6_reckons_5 21 rfl rfl)
theorem dX6_reckons_137 : decode cX6_reckons 137 = .ok (.iload_n 2, 1) := dk_28 (dk_at dksX6_reckons_5 22 rfl rfl)
theorem dX6_reckons_138 : decode cX6_reckons 138 = .ok (.iconst 1, 1) := dk_4 (dk_at dksX6_reckons_5 23 rfl rfl)
theorem dX6_reckons_139 : decode cX6_reckons 139 = .ok (.iadd, 1) := dk_96 (dk_at dksX6_reckons_6 0 rfl rfl)
theorem dX6_reckons_140 : decode cX6_reckons 140 = .ok (.iaload, 1) := dk_46 (dk_at dksX6_reckons_6 1 rfl rfl)
theorem dX6_reckons_141 : decode cX6_reckons 141 = .ok (.iadd, 1) := dk_96 (dk_at dksX6_reckons_6 2 rfl rfl)
theorem dX6_reckons_142 : decode cX6_reckons 142 = .ok (.invokestatic 110, 3) := dk_184 0 110 (dk_at dksX6_reckons_6 3 rfl rfl)
theorem dX6_reckons_145 : decode cX6_reckons 145 = .ok (.istore_n 3, 1) := dk_62 (dk_at dksX6_reckons_6 6 rfl rfl)
theorem dX6_reckons_146 : decode cX6_reckons 146 = .ok (.aload_n 0, 1) := dk_42 (dk_at dksX6_reckons_6 7 rfl rfl)
theorem dX6_reckons_147 : decode cX6_reckons 147 = .ok (.getfield 17, 3) := dk_180 0 17 (dk_at dksX6_reckons_6 8 rfl rfl)
theorem dX6_reckons_150 : decode cX6_reckons 150 = .ok (.iload_n 1, 1) := dk_27 (dk_at dksX6_reckons_6 11 rfl rfl)
theorem dX6_reckons_151 : decode cX6_reckons 151 = .ok (.aaload, 1) := dk_50 (dk_at dksX6_reckons_6 12 rfl rfl)
theorem dX6_reckons_152 : decode cX6_reckons 152 = .ok (.iload_n 2, 1) := dk_28 (dk_at dksX6_reckons_6 13 rfl rfl)
theorem dX6_reckons_153 : decode cX6_reckons 153 = .ok (.iload_n 3, 1) := dk_29 (dk_at dksX6_reckons_6 14 rfl rfl)
theorem dX6_reckons_154 : decode cX6_reckons 154 = .ok (.iastore, 1) := dk_79 (dk_at dksX6_reckons_6 15 rfl rfl)
theorem dX6_reckons_155 : decode cX6_reckons 155 = .ok (.return_, 1) := dk_177 (dk_at dksX6_reckons_6 16 rfl rfl)
abbrev cX6_both : ByteArray := prog_10_method_6_code
def yX6_both : MethodName := ⟨RX6, "both", "(III)I"⟩
def dkwX6_both_4 : List UInt8 := [104, 21, 4, 184, 0, 95, 96, 167, 0, 5, 18, 100, 172]
abbrev dktX6_both_4 : List UInt8 := dkwX6_both_4 ++ []
def dkwX6_both_3 : List UInt8 := [153, 0, 34, 42, 180, 0, 3, 22, 7, 182, 0, 91, 153, 0, 22, 22, 5, 22, 7, 97, 136, 17, 3, 232]
abbrev dktX6_both_3 : List UInt8 := dkwX6_both_3 ++ dktX6_both_4
def dkwX6_both_2 : List UInt8 := [182, 0, 85, 21, 4, 4, 184, 0, 49, 182, 0, 87, 55, 7, 42, 180, 0, 3, 22, 5, 182, 0, 91]
abbrev dktX6_both_2 : List UInt8 := dkwX6_both_2 ++ dktX6_both_3
def dkwX6_both_1 : List UInt8 := [182, 0, 87, 55, 5, 42, 180, 0, 3, 42, 42, 180, 0, 43, 42, 180, 0, 46, 4, 100, 28, 100]
abbrev dktX6_both_1 : List UInt8 := dkwX6_both_1 ++ dktX6_both_2
def dkwX6_both_0 : List UInt8 := [42, 27, 28, 29, 182, 0, 82, 54, 4, 42, 180, 0, 3, 42, 42, 180, 0, 35, 27, 182, 0, 85, 21, 4]
abbrev dktX6_both_0 : List UInt8 := dkwX6_both_0 ++ dktX6_both_1
theorem dksX6_both_0 : cX6_both.data.toList.drop 0 = dktX6_both_0 := by decide +kernel
theorem dksX6_both_1 : cX6_both.data.toList.drop 24 = dktX6_both_1 := dk_seg dksX6_both_0 24 rfl rfl
theorem dksX6_both_2 : cX6_both.data.toList.drop 46 = dktX6_both_2 := dk_seg dksX6_both_1 22 rfl rfl
theorem dksX6_both_3 : cX6_both.data.toList.drop 69 = dktX6_both_3 := dk_seg dksX6_both_2 23 rfl rfl
theorem dksX6_both_4 : cX6_both.data.toList.drop 93 = dktX6_both_4 := dk_seg dksX6_both_3 24 rfl rfl
theorem dX6_both_0 : decode cX6_both 0 = .ok (.aload_n 0, 1) := dk_42 (dk_at dksX6_both_0 0 rfl rfl)
theorem dX6_both_1 : decode cX6_both 1 = .ok (.iload_n 1, 1) := dk_27 (dk_at dksX6_both_0 1 rfl rfl)
theorem dX6_both_2 : decode cX6_both 2 = .ok (.iload_n 2, 1) := dk_28 (dk_at dksX6_both_0 2 rfl rfl)
theorem dX6_both_3 : decode cX6_both 3 = .ok (.iload_n 3, 1) := dk_29 (dk_at dksX6_both_0 3 rfl rfl)
theorem dX6_both_4 : decode cX6_both 4 = .ok (.invokevirtual 82, 3) := dk_182 0 82 (dk_at dksX6_both_0 4 rfl rfl)
theorem dX6_both_7 : decode cX6_both 7 = .ok (.istore 4, 2) := dk_54 4 (dk_at dksX6_both_0 7 rfl rfl)
theorem dX6_both_9 : decode cX6_both 9 = .ok (.aload_n 0, 1) := dk_42 (dk_at dksX6_both_0 9 rfl rfl)
theorem dX6_both_10 : decode cX6_both 10 = .ok (.getfield 3, 3) := dk_180 0 3 (dk_at dksX6_both_0 10 rfl rfl)
theorem dX6_both_13 : decode cX6_both 13 = .ok (.aload_n 0, 1) := dk_42 (dk_at dksX6_both_0 13 rfl rfl)
theorem dX6_both_14 : decode cX6_both 14 = .ok (.aload_n 0, 1) := dk_42 (dk_at dksX6_both_0 14 rfl rfl)
theorem dX6_both_15 : decode cX6_both 15 = .ok (.getfield 35, 3) := dk_180 0 35 (dk_at dksX6_both_0 15 rfl rfl)
theorem dX6_both_18 : decode cX6_both 18 = .ok (.iload_n 1, 1) := dk_27 (dk_at dksX6_both_0 18 rfl rfl)
theorem dX6_both_19 : decode cX6_both 19 = .ok (.invokevirtual 85, 3) := dk_182 0 85 (dk_at dksX6_both_0 19 rfl rfl)
theorem dX6_both_22 : decode cX6_both 22 = .ok (.iload 4, 2) := dk_21 4 (dk_at dksX6_both_0 22 rfl rfl)
theorem dX6_both_24 : decode cX6_both 24 = .ok (.invokevirtual 87, 3) := dk_182 0 87 (dk_at dksX6_both_1 0 rfl rfl)
theorem dX6_both_27 : decode cX6_both 27 = .ok (.lstore 5, 2) := dk_55 5 (dk_at dksX6_both_1 3 rfl rfl)
theorem dX6_both_29 : decode cX6_both 29 = .ok (.aload_n 0, 1) := dk_42 (dk_at dksX6_both_1 5 rfl rfl)
theorem dX6_both_30 : decode cX6_both 30 = .ok (.getfield 3, 3) := dk_180 0 3 (dk_at dksX6_both_1 6 rfl rfl)
theorem dX6_both_33 : decode cX6_both 33 = .ok (.aload_n 0, 1) := dk_42 (dk_at dksX6_both_1 9 rfl rfl)
theorem dX6_both_34 : decode cX6_both 34 = .ok (.aload_n 0, 1) := dk_42 (dk_at dksX6_both_1 10 rfl rfl)
theorem dX6_both_35 : decode cX6_both 35 = .ok (.getfield 43, 3) := dk_180 0 43 (dk_at dksX6_both_1 11 rfl rfl)
theorem dX6_both_38 : decode cX6_both 38 = .ok (.aload_n 0, 1) := dk_42 (dk_at dksX6_both_1 14 rfl rfl)
theorem dX6_both_39 : decode cX6_both 39 = .ok (.getfield 46, 3) := dk_180 0 46 (dk_at dksX6_both_1 15 rfl rfl)
theorem dX6_both_42 : decode cX6_both 42 = .ok (.iconst 1, 1) := dk_4 (dk_at dksX6_both_1 18 rfl rfl)
theorem dX6_both_43 : decode cX6_both 43 = .ok (.isub, 1) := dk_100 (dk_at dksX6_both_1 19 rfl rfl)
theorem dX6_both_44 : decode cX6_both 44 = .ok (.iload_n 2, 1) := dk_28 (dk_at dksX6_both_1 20 rfl rfl)
theorem dX6_both_45 : decode cX6_both 45 = .ok (.isub, 1) := dk_100 (dk_at dksX6_both_1 21 rfl rfl)
theorem dX6_both_46 : decode cX6_both 46 = .ok (.invokevirtual 85, 3) := dk_182 0 85 (dk_at dksX6_both_2 0 rfl rfl)
theorem dX6_both_49 : decode cX6_both 49 = .ok (.iload 4, 2) := dk_21 4 (dk_at dksX6_both_2 3 rfl rfl)
theorem dX6_both_51 : decode cX6_both 51 = .ok (.iconst 1, 1) := dk_4 (dk_at dksX6_both_2 5 rfl rfl)
theorem dX6_both_52 : decode cX6_both 52 = .ok (.invokestatic 49, 3) := dk_184 0 49 (dk_at dksX6_both_2 6 rfl rfl)
theorem dX6_both_55 : decode cX6_both 55 = .ok (.invokevirtual 87, 3) := dk_182 0 87 (dk_at dksX6_both_2 9 rfl rfl)
theorem dX6_both_58 : decode cX6_both 58 = .ok (.lstore 7, 2) := dk_55 7 (dk_at dksX6_both_2 12 rfl rfl)
theorem dX6_both_60 : decode cX6_both 60 = .ok (.aload_n 0, 1) := dk_42 (dk_at dksX6_both_2 14 rfl rfl)
theorem dX6_both_61 : decode cX6_both 61 = .ok (.getfield 3, 3) := dk_180 0 3 (dk_at dksX6_both_2 15 rfl rfl)
theorem dX6_both_64 : decode cX6_both 64 = .ok (.lload 5, 2) := dk_22 5 (dk_at dksX6_both_2 18 rfl rfl)
theorem dX6_both_66 : decode cX6_both 66 = .ok (.invokevirtual 91, 3) := dk_182 0 91 (dk_at dksX6_both_2 20 rfl rfl)
theorem dX6_both_69 : decode cX6_both 69 = .ok (.ifCond .eq 34, 3) := dk_153 0 34 (dk_at dksX6_both_3 0 rfl rfl)
theorem dX6_both_72 : decode cX6_both 72 = .ok (.aload_n 0, 1) := dk_42 (dk_at dksX6_both_3 3 rfl rfl)
theorem dX6_both_73 : decode cX6_both 73 = .ok (.getfield 3, 3) := dk_180 0 3 (dk_at dksX6_both_3 4 rfl rfl)
theorem dX6_both_76 : decode cX6_both 76 = .ok (.lload 7, 2) := dk_22 7 (dk_at dksX6_both_3 7 rfl rfl)
theorem dX6_both_78 : decode cX6_both 78 = .ok (.invokevirtual 91, 3) := dk_182 0 91 (dk_at dksX6_both_3 9 rfl rfl)
theorem dX6_both_81 : decode cX6_both 81 = .ok (.ifCond .eq 22, 3) := dk_153 0 22 (dk_at dksX6_both_3 12 rfl rfl)
theorem dX6_both_84 : decode cX6_both 84 = .ok (.lload 5, 2) := dk_22 5 (dk_at dksX6_both_3 15 rfl rfl)
theorem dX6_both_86 : decode cX6_both 86 = .ok (.lload 7, 2) := dk_22 7 (dk_at dksX6_both_3 17 rfl rfl)
theorem dX6_both_88 : decode cX6_both 88 = .ok (.ladd, 1) := dk_97 (dk_at dksX6_both_3 19 rfl rfl)
theorem dX6_both_89 : decode cX6_both 89 = .ok (.l2i, 1) := dk_136 (dk_at dksX6_both_3 20 rfl rfl)
theorem dX6_both_90 : decode cX6_both 90 = .ok (.sipush 1000, 3) := dk_17 3 232 (dk_at dksX6_both_3 21 rfl rfl)
theorem dX6_both_93 : decode cX6_both 93 = .ok (.imul, 1) := dk_104 (dk_at dksX6_both_4 0 rfl rfl)
theorem dX6_both_94 : decode cX6_both 94 = .ok (.iload 4, 2) := dk_21 4 (dk_at dksX6_both_4 1 rfl rfl)
theorem dX6_both_96 : decode cX6_both 96 = .ok (.invokestatic 95, 3) := dk_184 0 95 (dk_at dksX6_both_4 3 rfl rfl)
theorem dX6_both_99 : decode cX6_both 99 = .ok (.iadd, 1) := dk_96 (dk_at dksX6_both_4 6 rfl rfl)
theorem dX6_both_100 : decode cX6_both 100 = .ok (.goto 5, 3) := dk_167 0 5 (dk_at dksX6_both_4 7 rfl rfl)
theorem dX6_both_103 : decode cX6_both 103 = .ok (.ldc 100, 2) := dk_18 100 (dk_at dksX6_both_4 10 rfl rfl)
theorem dX6_both_105 : decode cX6_both 105 = .ok (.ireturn, 1) := dk_172 (dk_at dksX6_both_4 12 rfl rfl)
abbrev cX6_choice : ByteArray := prog_10_method_4_code
def yX6_choice : MethodName := ⟨RX6, "choice", "(III)I"⟩
def dkwX6_choice_2 : List UInt8 := [21, 5, 126, 172]
abbrev dktX6_choice_2 : List UInt8 := dkwX6_choice_2 ++ []
def dkwX6_choice_1 : List UInt8 := [4, 160, 0, 8, 21, 5, 167, 0, 21, 29, 5, 160, 0, 11, 21, 4, 21, 5, 128, 167, 0, 8, 21, 4]
abbrev dktX6_choice_1 : List UInt8 := dkwX6_choice_1 ++ dktX6_choice_2
def dkwX6_choice_0 : List UInt8 := [42, 27, 182, 0, 53, 54, 4, 42, 28, 182, 0, 57, 54, 5, 29, 154, 0, 8, 21, 4, 167, 0, 31, 29]
abbrev dktX6_choice_0 : List UInt8 := dkwX6_choice_0 ++ dktX6_choice_1
theorem dksX6_choice_0 : cX6_choice.data.toList.drop 0 = dktX6_choice_0 := by decide +kernel
theorem dksX6_choice_1 : cX6_choice.data.toList.drop 24 = dktX6_choice_1 := dk_seg dksX6_choice_0 24 rfl rfl
theorem dksX6_choice_2 : cX6_choice.data.toList.drop 48 = dktX6_choice_2 := dk_seg dksX6_choice_1 24 rfl rfl
theorem dX6_choice_0 : decode cX6_choice 0 = .ok (.aload_n 0, 1) := dk_42 (dk_at dksX6_choice_0 0 rfl rfl)
theorem dX6_choice_1 : decode cX6_choice 1 = .ok (.iload_n 1, 1) := dk_27 (dk_at dksX6_choice_0 1 rfl rfl)
theorem dX6_choice_2 : decode cX6_choice 2 = .ok (.invokevirtual 53, 3) := dk_182 0 53 (dk_at dksX6_choice_0 2 rfl rfl)
theorem dX6_choice_5 : decode cX6_choice 5 = .ok (.istore 4, 2) := dk_54 4 (dk_at dksX6_choice_0 5 rfl rfl)
theorem dX6_choice_7 : decode cX6_choice 7 = .ok (.aload_n 0, 1) := dk_42 (dk_at dksX6_choice_0 7 rfl rfl)
theorem dX6_choice_8 : decode cX6_choice 8 = .ok (.iload_n 2, 1) := dk_28 (dk_at dksX6_choice_0 8 rfl rfl)
theorem dX6_choice_9 : decode cX6_choice 9 = .ok (.invokevirtual 57, 3) := dk_182 0 57 (dk_at dksX6_choice_0 9 rfl rfl)
theorem dX6_choice_12 : decode cX6_choice 12 = .ok (.istore 5, 2) := dk_54 5 (dk_at dksX6_choice_0 12 rfl rfl)
theorem dX6_choice_14 : decode cX6_choice 14 = .ok (.iload_n 3, 1) := dk_29 (dk_at dksX6_choice_0 14 rfl rfl)
theorem dX6_choice_15 : decode cX6_choice 15 = .ok (.ifCond .ne 8, 3) := dk_154 0 8 (dk_at dksX6_choice_0 15 rfl rfl)
theorem dX6_choice_18 : decode cX6_choice 18 = .ok (.iload 4, 2) := dk_21 4 (dk_at dksX6_choice_0 18 rfl rfl)
theorem dX6_choice_20 : decode cX6_choice 20 = .ok (.goto 31, 3) := dk_167 0 31 (dk_at dksX6_choice_0 20 rfl rfl)
theorem dX6_choice_23 : decode cX6_choice 23 = .ok (.iload_n 3, 1) := dk_29 (dk_at dksX6_choice_0 23 rfl rfl)
theorem dX6_choice_24 : decode cX6_choice 24 = .ok (.iconst 1, 1) := dk_4 (dk_at dksX6_choice_1 0 rfl rfl)
theorem dX6_choice_25 : decode cX6_choice 25 = .ok (.if_icmp .ne 8, 3) := dk_160 0 8 (dk_at dksX6_choice_1 1 rfl rfl)
theorem dX6_choice_28 : decode cX6_choice 28 = .ok (.iload 5, 2) := dk_21 5 (dk_at dksX6_choice_1 4 rfl rfl)
theorem dX6_choice_30 : decode cX6_choice 30 = .ok (.goto 21, 3) := dk_167 0 21 (dk_at dksX6_choice_1 6 rfl rfl)
theorem dX6_choice_33 : decode cX6_choice 33 = .ok (.iload_n 3, 1) := dk_29 (dk_at dksX6_choice_1 9 rfl rfl)
theorem dX6_choice_34 : decode cX6_choice 34 = .ok (.iconst 2, 1) := dk_5 (dk_at dksX6_choice_1 10 rfl rfl)
theorem dX6_choice_35 : decode cX6_choice 35 = .ok (.if_icmp .ne 11, 3) := dk_160 0 11 (dk_at dksX6_choice_1 11 rfl rfl)
theorem dX6_choice_38 : decode cX6_choice 38 = .ok (.iload 4, 2) := dk_21 4 (dk_at dksX6_choice_1 14 rfl rfl)
theorem dX6_choice_40 : decode cX6_choice 40 = .ok (.iload 5, 2) := dk_21 5 (dk_at dksX6_choice_1 16 rfl rfl)
theorem dX6_choice_42 : decode cX6_choice 42 = .ok (.ior, 1) := dk_128 (dk_at dksX6_choice_1 18 rfl rfl)
theorem dX6_choice_43 : decode cX6_choice 43 = .ok (.goto 8, 3) := dk_167 0 8 (dk_at dksX6_choice_1 19 rfl rfl)
theorem dX6_choice_46 : decode cX6_choice 46 = .ok (.iload 4, 2) := dk_21 4 (dk_at dksX6_choice_1 22 rfl rfl)
theorem dX6_choice_48 : decode cX6_choice 48 = .ok (.iload 5, 2) := dk_21 5 (dk_at dksX6_choice_2 0 rfl rfl)
theorem dX6_choice_50 : decode cX6_choice 50 = .ok (.iand, 1) := dk_126 (dk_at dksX6_choice_2 2 rfl rfl)
theorem dX6_choice_51 : decode cX6_choice 51 = .ok (.ireturn, 1) := dk_172 (dk_at dksX6_choice_2 3 rfl rfl)
abbrev cX6_first : ByteArray := prog_10_method_2_code
def yX6_first : MethodName := ⟨RX6, "first", "(I)I"⟩
def dkwX6_first_0 : List UInt8 := [42, 180, 0, 3, 180, 0, 27, 42, 180, 0, 31, 42, 180, 0, 35, 27, 182, 0, 38, 172]
abbrev dktX6_first_0 : List UInt8 := dkwX6_first_0 ++ []
theorem dksX6_first_0 : cX6_first.data.toList.drop 0 = dktX6_first_0 := by decide +kernel
theorem dX6_first_0 : decode cX6_first 0 = .ok (.aload_n 0, 1) := dk_42 (dk_at dksX6_first_0 0 rfl rfl)
theorem dX6_first_1 : decode cX6_first 1 = .ok (.getfield 3, 3) := dk_180 0 3 (dk_at dksX6_first_0 1 rfl rfl)
theorem dX6_first_4 : decode cX6_first 4 = .ok (.getfield 27, 3) := dk_180 0 27 (dk_at dksX6_first_0 4 rfl rfl)
theorem dX6_first_7 : decode cX6_first 7 = .ok (.aload_n 0, 1) := dk_42 (dk_at dksX6_first_0 7 rfl rfl)
theorem dX6_first_8 : decode cX6_first 8 = .ok (.getfield 31, 3) := dk_180 0 31 (dk_at dksX6_first_0 8 rfl rfl)
theorem dX6_first_11 : decode cX6_first 11 = .ok (.aload_n 0, 1) := dk_42 (dk_at dksX6_first_0 11 rfl rfl)
theorem dX6_first_12 : decode cX6_first 12 = .ok (.getfield 35, 3) := dk_180 0 35 (dk_at dksX6_first_0 12 rfl rfl)
theorem dX6_first_15 : decode cX6_first 15 = .ok (.iload_n 1, 1) := dk_27 (dk_at dksX6_first_0 15 rfl rfl)
theorem dX6_first_16 : decode cX6_first 16 = .ok (.invokevirtual 38, 3) := dk_182 0 38 (dk_at dksX6_first_0 16 rfl rfl)
theorem dX6_first_19 : decode cX6_first 19 = .ok (.ireturn, 1) := dk_172 (dk_at dksX6_first_0 19 rfl rfl)
abbrev cX6_second : ByteArray := prog_10_method_3_code
def yX6_second : MethodName := ⟨RX6, "second", "(I)I"⟩
def dkwX6_second_1 : List UInt8 := [182, 0, 38, 4, 184, 0, 49, 172]
abbrev dktX6_second_1 : List UInt8 := dkwX6_second_1 ++ []
def dkwX6_second_0 : List UInt8 := [42, 180, 0, 3, 180, 0, 27, 42, 180, 0, 31, 42, 180, 0, 43, 42, 180, 0, 46, 4, 100, 27, 100]
abbrev dktX6_second_0 : List UInt8 := dkwX6_second_0 ++ dktX6_second_1
theorem dksX6_second_0 : cX6_second.data.toList.drop 0 = dktX6_second_0 := by decide +kernel
theorem dksX6_second_1 : cX6_second.data.toList.drop 23 = dktX6_second_1 := dk_seg dksX6_second_0 23 rfl rfl
theorem dX6_second_0 : decode cX6_second 0 = .ok (.aload_n 0, 1) := dk_42 (dk_at dksX6_second_0 0 rfl rfl)
theorem dX6_second_1 : decode cX6_second 1 = .ok (.getfield 3, 3) := dk_180 0 3 (dk_at dksX6_second_0 1 rfl rfl)
theorem dX6_second_4 : decode cX6_second 4 = .ok (.getfield 27, 3) := dk_180 0 27 (dk_at dksX6_second_0 4 rfl rfl)
theorem dX6_second_7 : decode cX6_second 7 = .ok (.aload_n 0, 1) := dk_42 (dk_at dksX6_second_0 7 rfl rfl)
theorem dX6_second_8 : decode cX6_second 8 = .ok (.getfield 31, 3) := dk_180 0 31 (dk_at dksX6_second_0 8 rfl rfl)
theorem dX6_second_11 : decode cX6_second 11 = .ok (.aload_n 0, 1) := dk_42 (dk_at dksX6_second_0 11 rfl rfl)
theorem dX6_second_12 : decode cX6_second 12 = .ok (.getfield 43, 3) := dk_180 0 43 (dk_at dksX6_second_0 12 rfl rfl)
theorem dX6_second_15 : decode cX6_second 15 = .ok (.aload_n 0, 1) := dk_42 (dk_at dksX6_second_0 15 rfl rfl)
theorem dX6_second_16 : decode cX6_second 16 = .ok (.getfield 46, 3) := dk_180 0 46 (dk_at dksX6_second_0 16 rfl rfl)
theorem dX6_second_19 : decode cX6_second 19 = .ok (.iconst 1, 1) := dk_4 (dk_at dksX6_second_0 19 rfl rfl)
theorem dX6_second_20 : decode cX6_second 20 = .ok (.isub, 1) := dk_100 (dk_at dksX6_second_0 20 rfl rfl)
theorem dX6_second_21 : decode cX6_second 21 = .ok (.iload_n 1, 1) := dk_27 (dk_at dksX6_second_0 21 rfl rfl)
theorem dX6_second_22 : decode cX6_second 22 = .ok (.isub, 1) := dk_100 (dk_at dksX6_second_0 22 rfl rfl)
theorem dX6_second_23 : decode cX6_second 23 = .ok (.invokevirtual 38, 3) := dk_182 0 38 (dk_at dksX6_second_1 0 rfl rfl)
theorem dX6_second_26 : decode cX6_second 26 = .ok (.iconst 1, 1) := dk_4 (dk_at dksX6_second_1 3 rfl rfl)
theorem dX6_second_27 : decode cX6_second 27 = .ok (.invokestatic 49, 3) := dk_184 0 49 (dk_at dksX6_second_1 4 rfl rfl)
theorem dX6_second_30 : decode cX6_second 30 = .ok (.ireturn, 1) := dk_172 (dk_at dksX6_second_1 7 rfl rfl)
abbrev cX6_letter : ByteArray := prog_10_method_5_code
def yX6_letter : MethodName := ⟨RX6, "letter", "(II)LTurnedBoards$Letter;"⟩
def dkwX6_letter_2 : List UInt8 := [182, 0, 78, 176]
abbrev dktX6_letter_2 : List UInt8 := dkwX6_letter_2 ++ []
def dkwX6_letter_1 : List UInt8 := [180, 0, 27, 180, 0, 60, 27, 185, 0, 64, 2, 0, 192, 0, 70, 28, 182, 0, 72, 182, 0, 75]
abbrev dktX6_letter_1 : List UInt8 := dkwX6_letter_1 ++ dktX6_letter_2
def dkwX6_letter_0 : List UInt8 := [42, 180, 0, 3, 42, 180, 0, 31, 42, 180, 0, 3, 180, 0, 27, 42, 180, 0, 31, 42, 180, 0, 3]
abbrev dktX6_letter_0 : List UInt8 := dkwX6_letter_0 ++ dktX6_letter_1
theorem dksX6_letter_0 : cX6_letter.data.toList.drop 0 = dktX6_letter_0 := by decide +kernel
theorem dksX6_letter_1 : cX6_letter.data.toList.drop 23 = dktX6_letter_1 := dk_seg dksX6_letter_0 23 rfl rfl
theorem dksX6_letter_2 : cX6_letter.data.toList.drop 45 = dktX6_letter_2 := dk_seg dksX6_letter_1 22 rfl rfl
theorem dX6_letter_0 : decode cX6_letter 0 = .ok (.aload_n 0, 1) := dk_42 (dk_at dksX6_letter_0 0 rfl rfl)
theorem dX6_letter_1 : decode cX6_letter 1 = .ok (.getfield 3, 3) := dk_180 0 3 (dk_at dksX6_letter_0 1 rfl rfl)
theorem dX6_letter_4 : decode cX6_letter 4 = .ok (.aload_n 0, 1) := dk_42 (dk_at dksX6_letter_0 4 rfl rfl)
theorem dX6_letter_5 : decode cX6_letter 5 = .ok (.getfield 31, 3) := dk_180 0 31 (dk_at dksX6_letter_0 5 rfl rfl)
theorem dX6_letter_8 : decode cX6_letter 8 = .ok (.aload_n 0, 1) := dk_42 (dk_at dksX6_letter_0 8 rfl rfl)
theorem dX6_letter_9 : decode cX6_letter 9 = .ok (.getfield 3, 3) := dk_180 0 3 (dk_at dksX6_letter_0 9 rfl rfl)
theorem dX6_letter_12 : decode cX6_letter 12 = .ok (.getfield 27, 3) := dk_180 0 27 (dk_at dksX6_letter_0 12 rfl rfl)
theorem dX6_letter_15 : decode cX6_letter 15 = .ok (.aload_n 0, 1) := dk_42 (dk_at dksX6_letter_0 15 rfl rfl)
theorem dX6_letter_16 : decode cX6_letter 16 = .ok (.getfield 31, 3) := dk_180 0 31 (dk_at dksX6_letter_0 16 rfl rfl)
theorem dX6_letter_19 : decode cX6_letter 19 = .ok (.aload_n 0, 1) := dk_42 (dk_at dksX6_letter_0 19 rfl rfl)
theorem dX6_letter_20 : decode cX6_letter 20 = .ok (.getfield 3, 3) := dk_180 0 3 (dk_at dksX6_letter_0 20 rfl rfl)
theorem dX6_letter_23 : decode cX6_letter 23 = .ok (.getfield 27, 3) := dk_180 0 27 (dk_at dksX6_letter_1 0 rfl rfl)
theorem dX6_letter_26 : decode cX6_letter 26 = .ok (.getfield 60, 3) := dk_180 0 60 (dk_at dksX6_letter_1 3 rfl rfl)
theorem dX6_letter_29 : decode cX6_letter 29 = .ok (.iload_n 1, 1) := dk_27 (dk_at dksX6_letter_1 6 rfl rfl)
theorem dX6_letter_30 : decode cX6_letter 30 = .ok (.invokeinterface 64 2, 5) := by decide +kernel
theorem dX6_letter_35 : decode cX6_letter 35 = .ok (.checkcast 70, 3) := dk_192 0 70 (dk_at dksX6_letter_1 12 rfl rfl)
theorem dX6_letter_38 : decode cX6_letter 38 = .ok (.iload_n 2, 1) := dk_28 (dk_at dksX6_letter_1 15 rfl rfl)
theorem dX6_letter_39 : decode cX6_letter 39 = .ok (.invokevirtual 72, 3) := dk_182 0 72 (dk_at dksX6_letter_1 16 rfl rfl)
theorem dX6_letter_42 : decode cX6_letter 42 = .ok (.invokevirtual 75, 3) := dk_182 0 75 (dk_at dksX6_letter_1 19 rfl rfl)
theorem dX6_letter_45 : decode cX6_letter 45 = .ok (.invokevirtual 78, 3) := dk_182 0 78 (dk_at dksX6_letter_2 0 rfl rfl)
theorem dX6_letter_48 : decode cX6_letter 48 = .ok (.areturn, 1) := dk_176 (dk_at dksX6_letter_2 3 rfl rfl)
abbrev cX6_alone : ByteArray := prog_10_method_7_code
def yX6_alone : MethodName := ⟨RX6, "alone", "(I)I"⟩
def dkwX6_alone_0 : List UInt8 := [42, 180, 0, 3, 180, 0, 27, 180, 0, 101, 17, 3, 232, 104, 27, 184, 0, 95, 96, 172]
abbrev dktX6_alone_0 : List UInt8 := dkwX6_alone_0 ++ []
theorem dksX6_alone_0 : cX6_alone.data.toList.drop 0 = dktX6_alone_0 := by decide +kernel
theorem dX6_alone_0 : decode cX6_alone 0 = .ok (.aload_n 0, 1) := dk_42 (dk_at dksX6_alone_0 0 rfl rfl)
theorem dX6_alone_1 : decode cX6_alone 1 = .ok (.getfield 3, 3) := dk_180 0 3 (dk_at dksX6_alone_0 1 rfl rfl)
theorem dX6_alone_4 : decode cX6_alone 4 = .ok (.getfield 27, 3) := dk_180 0 27 (dk_at dksX6_alone_0 4 rfl rfl)
theorem dX6_alone_7 : decode cX6_alone 7 = .ok (.getfield 101, 3) := dk_180 0 101 (dk_at dksX6_alone_0 7 rfl rfl)
theorem dX6_alone_10 : decode cX6_alone 10 = .ok (.sipush 1000, 3) := dk_17 3 232 (dk_at dksX6_alone_0 10 rfl rfl)
theorem dX6_alone_13 : decode cX6_alone 13 = .ok (.imul, 1) := dk_104 (dk_at dksX6_alone_0 13 rfl rfl)
theorem dX6_alone_14 : decode cX6_alone 14 = .ok (.iload_n 1, 1) := dk_27 (dk_at dksX6_alone_0 14 rfl rfl)
theorem dX6_alone_15 : decode cX6_alone 15 = .ok (.invokestatic 95, 3) := dk_184 0 95 (dk_at dksX6_alone_0 15 rfl rfl)
theorem dX6_alone_18 : decode cX6_alone 18 = .ok (.iadd, 1) := dk_96 (dk_at dksX6_alone_0 18 rfl rfl)
theorem dX6_alone_19 : decode cX6_alone 19 = .ok (.ireturn, 1) := dk_172 (dk_at dksX6_alone_0 19 rfl rfl)
abbrev cX6_doubt : ByteArray := prog_10_method_13_code
def yX6_doubt : MethodName := ⟨RX6, "doubt", "()I"⟩
def dkwX6_doubt_0 : List UInt8 := [42, 180, 0, 17, 3, 50, 3, 46, 17, 3, 232, 108, 172]
abbrev dktX6_doubt_0 : List UInt8 := dkwX6_doubt_0 ++ []
theorem dksX6_doubt_0 : cX6_doubt.data.toList.drop 0 = dktX6_doubt_0 := by decide +kernel
theorem dX6_doubt_0 : decode cX6_doubt 0 = .ok (.aload_n 0, 1) := dk_42 (dk_at dksX6_doubt_0 0 rfl rfl)
theorem dX6_doubt_1 : decode cX6_doubt 1 = .ok (.getfield 17, 3) := dk_180 0 17 (dk_at dksX6_doubt_0 1 rfl rfl)
theorem dX6_doubt_4 : decode cX6_doubt 4 = .ok (.iconst 0, 1) := dk_3 (dk_at dksX6_doubt_0 4 rfl rfl)
theorem dX6_doubt_5 : decode cX6_doubt 5 = .ok (.aaload, 1) := dk_50 (dk_at dksX6_doubt_0 5 rfl rfl)
theorem dX6_doubt_6 : decode cX6_doubt 6 = .ok (.iconst 0, 1) := dk_3 (dk_at dksX6_doubt_0 6 rfl rfl)
theorem dX6_doubt_7 : decode cX6_doubt 7 = .ok (.iaload, 1) := dk_46 (dk_at dksX6_doubt_0 7 rfl rfl)
theorem dX6_doubt_8 : decode cX6_doubt 8 = .ok (.sipush 1000, 3) := dk_17 3 232 (dk_at dksX6_doubt_0 8 rfl rfl)
theorem dX6_doubt_11 : decode cX6_doubt 11 = .ok (.idiv, 1) := dk_108 (dk_at dksX6_doubt_0 11 rfl rfl)
theorem dX6_doubt_12 : decode cX6_doubt 12 = .ok (.ireturn, 1) := dk_172 (dk_at dksX6_doubt_0 12 rfl rfl)
abbrev cX6_strokes : ByteArray := prog_10_method_14_code
def yX6_strokes : MethodName := ⟨RX6, "strokes", "()I"⟩
def dkwX6_strokes_0 : List UInt8 := [42, 180, 0, 17, 3, 50, 3, 46, 17, 3, 232, 112, 172]
abbrev dktX6_strokes_0 : List UInt8 := dkwX6_strokes_0 ++ []
theorem dksX6_strokes_0 : cX6_strokes.data.toList.drop 0 = dktX6_strokes_0 := by decide +kernel
theorem dX6_strokes_0 : decode cX6_strokes 0 = .ok (.aload_n 0, 1) := dk_42 (dk_at dksX6_strokes_0 0 rfl rfl)
theorem dX6_strokes_1 : decode cX6_strokes 1 = .ok (.getfield 17, 3) := dk_180 0 17 (dk_at dksX6_strokes_0 1 rfl rfl)
theorem dX6_strokes_4 : decode cX6_strokes 4 = .ok (.iconst 0, 1) := dk_3 (dk_at dksX6_strokes_0 4 rfl rfl)
theorem dX6_strokes_5 : decode cX6_strokes 5 = .ok (.aaload, 1) := dk_50 (dk_at dksX6_strokes_0 5 rfl rfl)
theorem dX6_strokes_6 : decode cX6_strokes 6 = .ok (.iconst 0, 1) := dk_3 (dk_at dksX6_strokes_0 6 rfl rfl)
theorem dX6_strokes_7 : decode cX6_strokes 7 = .ok (.iaload, 1) := dk_46 (dk_at dksX6_strokes_0 7 rfl rfl)
theorem dX6_strokes_8 : decode cX6_strokes 8 = .ok (.sipush 1000, 3) := dk_17 3 232 (dk_at dksX6_strokes_0 8 rfl rfl)
theorem dX6_strokes_11 : decode cX6_strokes 11 = .ok (.irem, 1) := dk_112 (dk_at dksX6_strokes_0 11 rfl rfl)
theorem dX6_strokes_12 : decode cX6_strokes 12 = .ok (.ireturn, 1) := dk_172 (dk_at dksX6_strokes_0 12 rfl rfl)
abbrev cX6_laid : ByteArray := prog_10_method_12_code
def yX6_laid : MethodName := ⟨RX6, "laid", "()LTurnedBoards$Line;"⟩
def dkwX6_laid_2 : List UInt8 := [29, 4, 160, 0, 7, 3, 167, 0, 4, 4, 96, 61, 167, 255, 207, 42, 176]
abbrev dktX6_laid_2 : List UInt8 := dkwX6_laid_2 ++ []
def dkwX6_laid_1 : List UInt8 := [162, 0, 39, 42, 27, 28, 182, 0, 132, 62, 27, 29, 5, 160, 0, 7, 3, 167, 0, 4, 4, 96, 60, 28]
abbrev dktX6_laid_1 : List UInt8 := dkwX6_laid_1 ++ dktX6_laid_2
def dkwX6_laid_0 : List UInt8 := [42, 3, 181, 0, 118, 3, 60, 3, 61, 27, 42, 180, 0, 104, 161, 0, 11, 28, 42, 180, 0, 46]
abbrev dktX6_laid_0 : List UInt8 := dkwX6_laid_0 ++ dktX6_laid_1
theorem dksX6_laid_0 : cX6_laid.data.toList.drop 0 = dktX6_laid_0 := by decide +kernel
theorem dksX6_laid_1 : cX6_laid.data.toList.drop 22 = dktX6_laid_1 := dk_seg dksX6_laid_0 22 rfl rfl
theorem dksX6_laid_2 : cX6_laid.data.toList.drop 46 = dktX6_laid_2 := dk_seg dksX6_laid_1 24 rfl rfl
theorem dX6_laid_0 : decode cX6_laid 0 = .ok (.aload_n 0, 1) := dk_42 (dk_at dksX6_laid_0 0 rfl rfl)
theorem dX6_laid_1 : decode cX6_laid 1 = .ok (.iconst 0, 1) := dk_3 (dk_at dksX6_laid_0 1 rfl rfl)
theorem dX6_laid_2 : decode cX6_laid 2 = .ok (.putfield 118, 3) := dk_181 0 118 (dk_at dksX6_laid_0 2 rfl rfl)
theorem dX6_laid_5 : decode cX6_laid 5 = .ok (.iconst 0, 1) := dk_3 (dk_at dksX6_laid_0 5 rfl rfl)
theorem dX6_laid_6 : decode cX6_laid 6 = .ok (.istore_n 1, 1) := dk_60 (dk_at dksX6_laid_0 6 rfl rfl)
theorem dX6_laid_7 : decode cX6_laid 7 = .ok (.iconst 0, 1) := dk_3 (dk_at dksX6_laid_0 7 rfl rfl)
theorem dX6_laid_8 : decode cX6_laid 8 = .ok (.istore_n 2, 1) := dk_61 (dk_at dksX6_laid_0 8 rfl rfl)
theorem dX6_laid_9 : decode cX6_laid 9 = .ok (.iload_n 1, 1) := dk_27 (dk_at dksX6_laid_0 9 rfl rfl)
theorem dX6_laid_10 : decode cX6_laid 10 = .ok (.aload_n 0, 1) := dk_42 (dk_at dksX6_laid_0 10 rfl rfl)
theorem dX6_laid_11 : decode cX6_laid 11 = .ok (.getfield 104, 3) := dk_180 0 104 (dk_at dksX6_laid_0 11 rfl rfl)
theorem dX6_laid_14 : decode cX6_laid 14 = .ok (.if_icmp .lt 11, 3) := dk_161 0 11 (dk_at dksX6_laid_0 14 rfl rfl)
theorem dX6_laid_17 : decode cX6_laid 17 = .ok (.iload_n 2, 1) := dk_28 (dk_at dksX6_laid_0 17 rfl rfl)
theorem dX6_laid_18 : decode cX6_laid 18 = .ok (.aload_n 0, 1) := dk_42 (dk_at dksX6_laid_0 18 rfl rfl)
theorem dX6_laid_19 : decode cX6_laid 19 = .ok (.getfield 46, 3) := dk_180 0 46 (dk_at dksX6_laid_0 19 rfl rfl)
theorem dX6_laid_22 : decode cX6_laid 22 = .ok (.if_icmp .ge 39, 3) := dk_162 0 39 (dk_at dksX6_laid_1 0 rfl rfl)
theorem dX6_laid_25 : decode cX6_laid 25 = .ok (.aload_n 0, 1) := dk_42 (dk_at dksX6_laid_1 3 rfl rfl)
theorem dX6_laid_26 : decode cX6_laid 26 = .ok (.iload_n 1, 1) := dk_27 (dk_at dksX6_laid_1 4 rfl rfl)
theorem dX6_laid_27 : decode cX6_laid 27 = .ok (.iload_n 2, 1) := dk_28 (dk_at dksX6_laid_1 5 rfl rfl)
theorem dX6_laid_28 : decode cX6_laid 28 = .ok (.invokevirtual 132, 3) := dk_182 0 132 (dk_at dksX6_laid_1 6 rfl rfl)
theorem dX6_laid_31 : decode cX6_laid 31 = .ok (.istore_n 3, 1) := dk_62 (dk_at dksX6_laid_1 9 rfl rfl)
theorem dX6_laid_32 : decode cX6_laid 32 = .ok (.iload_n 1, 1) := dk_27 (dk_at dksX6_laid_1 10 rfl rfl)
theorem dX6_laid_33 : decode cX6_laid 33 = .ok (.iload_n 3, 1) := dk_29 (dk_at dksX6_laid_1 11 rfl rfl)
theorem dX6_laid_34 : decode cX6_laid 34 = .ok (.iconst 2, 1) := dk_5 (dk_at dksX6_laid_1 12 rfl rfl)
theorem dX6_laid_35 : decode cX6_laid 35 = .ok (.if_icmp .ne 7, 3) := dk_160 0 7 (dk_at dksX6_laid_1 13 rfl rfl)
theorem dX6_laid_38 : decode cX6_laid 38 = .ok (.iconst 0, 1) := dk_3 (dk_at dksX6_laid_1 16 rfl rfl)
theorem dX6_laid_39 : decode cX6_laid 39 = .ok (.goto 4, 3) := dk_167 0 4 (dk_at dksX6_laid_1 17 rfl rfl)
theorem dX6_laid_42 : decode cX6_laid 42 = .ok (.iconst 1, 1) := dk_4 (dk_at dksX6_laid_1 20 rfl rfl)
theorem dX6_laid_43 : decode cX6_laid 43 = .ok (.iadd, 1) := dk_96 (dk_at dksX6_laid_1 21 rfl rfl)
theorem dX6_laid_44 : decode cX6_laid 44 = .ok (.istore_n 1, 1) := dk_60 (dk_at dksX6_laid_1 22 rfl rfl)
theorem dX6_laid_45 : decode cX6_laid 45 = .ok (.iload_n 2, 1) := dk_28 (dk_at dksX6_laid_1 23 rfl rfl)
theorem dX6_laid_46 : decode cX6_laid 46 = .ok (.iload_n 3, 1) := dk_29 (dk_at dksX6_laid_2 0 rfl rfl)
theorem dX6_laid_47 : decode cX6_laid 47 = .ok (.iconst 1, 1) := dk_4 (dk_at dksX6_laid_2 1 rfl rfl)
theorem dX6_laid_48 : decode cX6_laid 48 = .ok (.if_icmp .ne 7, 3) := dk_160 0 7 (dk_at dksX6_laid_2 2 rfl rfl)
theorem dX6_laid_51 : decode cX6_laid 51 = .ok (.iconst 0, 1) := dk_3 (dk_at dksX6_laid_2 5 rfl rfl)
theorem dX6_laid_52 : decode cX6_laid 52 = .ok (.goto 4, 3) := dk_167 0 4 (dk_at dksX6_laid_2 6 rfl rfl)
theorem dX6_laid_55 : decode cX6_laid 55 = .ok (.iconst 1, 1) := dk_4 (dk_at dksX6_laid_2 9 rfl rfl)
theorem dX6_laid_56 : decode cX6_laid 56 = .ok (.iadd, 1) := dk_96 (dk_at dksX6_laid_2 10 rfl rfl)
theorem dX6_laid_57 : decode cX6_laid 57 = .ok (.istore_n 2, 1) := dk_61 (dk_at dksX6_laid_2 11 rfl rfl)
theorem dX6_laid_58 : decode cX6_laid 58 = .ok (.goto (-49), 3) := dk_167 255 207 (dk_at dksX6_laid_2 12 rfl rfl)
theorem dX6_laid_61 : decode cX6_laid 61 = .ok (.aload_n 0, 1) := dk_42 (dk_at dksX6_laid_2 15 rfl rfl)
theorem dX6_laid_62 : decode cX6_laid 62 = .ok (.areturn, 1) := dk_176 (dk_at dksX6_laid_2 16 rfl rfl)
abbrev cX6_goes : ByteArray := prog_10_method_10_code
def yX6_goes : MethodName := ⟨RX6, "goes", "(II)I"⟩
def dkwX6_goes_6 : List UInt8 := [167, 0, 8, 42, 28, 182, 0, 57, 182, 0, 121, 29, 153, 0, 7, 4, 167, 0, 4, 5, 172]
abbrev dktX6_goes_6 : List UInt8 := dkwX6_goes_6 ++ []
def dkwX6_goes_5 : List UInt8 := [167, 0, 4, 3, 62, 42, 29, 153, 0, 7, 4, 167, 0, 4, 5, 29, 153, 0, 11, 42, 27, 182, 0, 53]
abbrev dktX6_goes_5 : List UInt8 := dkwX6_goes_5 ++ dktX6_goes_6
def dkwX6_goes_4 : List UInt8 := [180, 0, 17, 27, 4, 96, 50, 28, 46, 96, 42, 180, 0, 17, 27, 50, 28, 46, 160, 0, 7, 4]
abbrev dktX6_goes_4 : List UInt8 := dkwX6_goes_4 ++ dktX6_goes_5
def dkwX6_goes_3 : List UInt8 := [132, 3, 1, 167, 255, 184, 27, 42, 180, 0, 104, 162, 0, 38, 42, 42, 27, 182, 0, 53, 182, 0, 115, 42]
abbrev dktX6_goes_3 : List UInt8 := dkwX6_goes_3 ++ dktX6_goes_4
def dkwX6_goes_2 : List UInt8 := [50, 28, 46, 159, 0, 6, 167, 0, 17, 42, 3, 42, 27, 28, 29, 182, 0, 82, 182, 0, 121, 3, 172]
abbrev dktX6_goes_2 : List UInt8 := dkwX6_goes_2 ++ dktX6_goes_3
def dkwX6_goes_1 : List UInt8 := [27, 28, 29, 182, 0, 107, 42, 180, 0, 17, 27, 4, 96, 50, 28, 4, 96, 46, 96, 42, 180, 0, 17, 27]
abbrev dktX6_goes_1 : List UInt8 := dkwX6_goes_1 ++ dktX6_goes_2
def dkwX6_goes_0 : List UInt8 := [3, 62, 29, 7, 162, 0, 73, 27, 42, 180, 0, 104, 162, 0, 65, 28, 42, 180, 0, 46, 162, 0, 57, 42]
abbrev dktX6_goes_0 : List UInt8 := dkwX6_goes_0 ++ dktX6_goes_1
theorem dksX6_goes_0 : cX6_goes.data.toList.drop 0 = dktX6_goes_0 := by decide +kernel
theorem dksX6_goes_1 : cX6_goes.data.toList.drop 24 = dktX6_goes_1 := dk_seg dksX6_goes_0 24 rfl rfl
theorem dksX6_goes_2 : cX6_goes.data.toList.drop 48 = dktX6_goes_2 := dk_seg dksX6_goes_1 24 rfl rfl
theorem dksX6_goes_3 : cX6_goes.data.toList.drop 71 = dktX6_goes_3 := dk_seg dksX6_goes_2 23 rfl rfl
theorem dksX6_goes_4 : cX6_goes.data.toList.drop 95 = dktX6_goes_4 := dk_seg dksX6_goes_3 24 rfl rfl
theorem dksX6_goes_5 : cX6_goes.data.toList.drop 117 = dktX6_goes_5 := dk_seg dksX6_goes_4 22 rfl rfl
theorem dksX6_goes_6 : cX6_goes.data.toList.drop 141 = dktX6_goes_6 := dk_seg dksX6_goes_5 24 rfl rfl
theorem dX6_goes_0 : decode cX6_goes 0 = .ok (.iconst 0, 1) := dk_3 (dk_at dksX6_goes_0 0 rfl rfl)
theorem dX6_goes_1 : decode cX6_goes 1 = .ok (.istore_n 3, 1) := dk_62 (dk_at dksX6_goes_0 1 rfl rfl)
theorem dX6_goes_2 : decode cX6_goes 2 = .ok (.iload_n 3, 1) := dk_29 (dk_at dksX6_goes_0 2 rfl rfl)
theorem dX6_goes_3 : decode cX6_goes 3 = .ok (.iconst 4, 1) := dk_7 (dk_at dksX6_goes_0 3 rfl rfl)
theorem dX6_goes_4 : decode cX6_goes 4 = .ok (.if_icmp .ge 73, 3) := dk_162 0 73 (dk_at dksX6_goes_0 4 rfl rfl)
theorem dX6_goes_7 : decode cX6_goes 7 = .ok (.iload_n 1, 1) := dk_27 (dk_at dksX6_goes_0 7 rfl rfl)
theorem dX6_goes_8 : decode cX6_goes 8 = .ok (.aload_n 0, 1) := dk_42 (dk_at dksX6_goes_0 8 rfl rfl)
theorem dX6_goes_9 : decode cX6_goes 9 = .ok (.getfield 104, 3) := dk_180 0 104 (dk_at dksX6_goes_0 9 rfl rfl)
theorem dX6_goes_12 : decode cX6_goes 12 = .ok (.if_icmp .ge 65, 3) := dk_162 0 65 (dk_at dksX6_goes_0 12 rfl rfl)
theorem dX6_goes_15 : decode cX6_goes 15 = .ok (.iload_n 2, 1) := dk_28 (dk_at dksX6_goes_0 15 rfl rfl)
theorem dX6_goes_16 : decode cX6_goes 16 = .ok (.aload_n 0, 1) := dk_42 (dk_at dksX6_goes_0 16 rfl rfl)
theorem dX6_goes_17 : decode cX6_goes 17 = .ok (.getfield 46, 3) := dk_180 0 46 (dk_at dksX6_goes_0 17 rfl rfl)
theorem dX6_goes_20 : decode cX6_goes 20 = .ok (.if_icmp .ge 57, 3) := dk_162 0 57 (dk_at dksX6_goes_0 20 rfl rfl)
theorem dX6_goes_23 : decode cX6_goes 23 = .ok (.aload_n 0, 1) := dk_42 (dk_at dksX6_goes_0 23 rfl rfl)
theorem dX6_goes_24 : decode cX6_goes 24 = .ok (.iload_n 1, 1) := dk_27 (dk_at dksX6_goes_1 0 rfl rfl)
theorem dX6_goes_25 : decode cX6_goes 25 = .ok (.iload_n 2, 1) := dk_28 (dk_at dksX6_goes_1 1 rfl rfl)
theorem dX6_goes_26 : decode cX6_goes 26 = .ok (.iload_n 3, 1) := dk_29 (dk_at dksX6_goes_1 2 rfl rfl)
theorem dX6_goes_27 : decode cX6_goes 27 = .ok (.invokevirtual 107, 3) := dk_182 0 107 (dk_at dksX6_goes_1 3 rfl rfl)
theorem dX6_goes_30 : decode cX6_goes 30 = .ok (.aload_n 0, 1) := dk_42 (dk_at dksX6_goes_1 6 rfl rfl)
theorem dX6_goes_31 : decode cX6_goes 31 = .ok (.getfield 17, 3) := dk_180 0 17 (dk_at dksX6_goes_1 7 rfl rfl)
theorem dX6_goes_34 : decode cX6_goes 34 = .ok (.iload_n 1, 1) := dk_27 (dk_at dksX6_goes_1 10 rfl rfl)
theorem dX6_goes_35 : decode cX6_goes 35 = .ok (.iconst 1, 1) := dk_4 (dk_at dksX6_goes_1 11 rfl rfl)
theorem dX6_goes_36 : decode cX6_goes 36 = .ok (.iadd, 1) := dk_96 (dk_at dksX6_goes_1 12 rfl rfl)
theorem dX6_goes_37 : decode cX6_goes 37 = .ok (.aaload, 1) := dk_50 (dk_at dksX6_goes_1 13 rfl rfl)
theorem dX6_goes_38 : decode cX6_goes 38 = .ok (.iload_n 2, 1) := dk_28 (dk_at dksX6_goes_1 14 rfl rfl)
theorem dX6_goes_39 : decode cX6_goes 39 = .ok (.iconst 1, 1) := dk_4 (dk_at dksX6_goes_1 15 rfl rfl)
theorem dX6_goes_40 : decode cX6_goes 40 = .ok (.iadd, 1) := dk_96 (dk_at dksX6_goes_1 16 rfl rfl)
theorem dX6_goes_41 : decode cX6_goes 41 = .ok (.iaload, 1) := dk_46 (dk_at dksX6_goes_1 17 rfl rfl)
theorem dX6_goes_42 : decode cX6_goes 42 = .ok (.iadd, 1) := dk_96 (dk_at dksX6_goes_1 18 rfl rfl)
theorem dX6_goes_43 : decode cX6_goes 43 = .ok (.aload_n 0, 1) := dk_42 (dk_at dksX6_goes_1 19 rfl rfl)
theorem dX6_goes_44 : decode cX6_goes 44 = .ok (.getfield 17, 3) := dk_180 0 17 (dk_at dksX6_goes_1 20 rfl rfl)
theorem dX6_goes_47 : decode cX6_goes 47 = .ok (.iload_n 1, 1) := dk_27 (dk_at dksX6_goes_1 23 rfl rfl)
theorem dX6_goes_48 : decode cX6_goes 48 = .ok (.aaload, 1) := dk_50 (dk_at dksX6_goes_2 0 rfl rfl)
theorem dX6_goes_49 : decode cX6_goes 49 = .ok (.iload_n 2, 1) := dk_28 (dk_at dksX6_goes_2 1 rfl rfl)
theorem dX6_goes_50 : decode cX6_goes 50 = .ok (.iaload, 1) := dk_46 (dk_at dksX6_goes_2 2 rfl rfl)
theorem dX6_goes_51 : decode cX6_goes 51 = .ok (.if_icmp .eq 6, 3) := dk_159 0 6 (dk_at dksX6_goes_2 3 rfl rfl)
theorem dX6_goes_54 : decode cX6_goes 54 = .ok (.goto 17, 3) := dk_167 0 17 (dk_at dksX6_goes_2 6 rfl rfl)
theorem dX6_goes_57 : decode cX6_goes 57 = .ok (.aload_n 0, 1) := dk_42 (dk_at dksX6_goes_2 9 rfl rfl)
theorem dX6_goes_58 : decode cX6_goes 58 = .ok (.iconst 0, 1) := dk_3 (dk_at dksX6_goes_2 10 rfl rfl)
theorem dX6_goes_59 : decode cX6_goes 59 = .ok (.aload_n 0, 1) := dk_42 (dk_at dksX6_goes_2 11 rfl rfl)
theorem dX6_goes_60 : decode cX6_goes 60 = .ok (.iload_n 1, 1) := dk_27 (dk_at dksX6_goes_2 12 rfl rfl)
theorem dX6_goes_61 : decode cX6_goes 61 = .ok (.iload_n 2, 1) := dk_28 (dk_at dksX6_goes_2 13 rfl rfl)
theorem dX6_goes_62 : decode cX6_goes 62 = .ok (.iload_n 3, 1) := dk_29 (dk_at dksX6_goes_2 14 rfl rfl)
theorem dX6_goes_63 : decode cX6_goes 63 = .ok (.invokevirtual 82, 3) := dk_182 0 82 (dk_at dksX6_goes_2 15 rfl rfl)
theorem dX6_goes_66 : decode cX6_goes 66 = .ok (.invokevirtual 121, 3) := dk_182 0 121 (dk_at dksX6_goes_2 18 rfl rfl)
theorem dX6_goes_69 : decode cX6_goes 69 = .ok (.iconst 0, 1) := dk_3 (dk_at dksX6_goes_2 21 rfl rfl)
theorem dX6_goes_70 : decode cX6_goes 70 = .ok (.ireturn, 1) := dk_172 (dk_at dksX6_goes_2 22 rfl rfl)
theorem dX6_goes_71 : decode cX6_goes 71 = .ok (.iinc 3 1, 3) := dk_132 3 1 (dk_at dksX6_goes_3 0 rfl rfl)
theorem dX6_goes_74 : decode cX6_goes 74 = .ok (.goto (-72), 3) := dk_167 255 184 (dk_at dksX6_goes_3 3 rfl rfl)
theorem dX6_goes_77 : decode cX6_goes 77 = .ok (.iload_n 1, 1) := dk_27 (dk_at dksX6_goes_3 6 rfl rfl)
theorem dX6_goes_78 : decode cX6_goes 78 = .ok (.aload_n 0, 1) := dk_42 (dk_at dksX6_goes_3 7 rfl rfl)
theorem dX6_goes_79 : decode cX6_goes 79 = .ok (.getfield 104, 3) := dk_180 0 104 (dk_at dksX6_goes_3 8 rfl rfl)
theorem dX6_goes_82 : decode cX6_goes 82 = .ok (.if_icmp .ge 38, 3) := dk_162 0 38 (dk_at dksX6_goes_3 11 rfl rfl)
theorem dX6_goes_85 : decode cX6_goes 85 = .ok (.aload_n 0, 1) := dk_42 (dk_at dksX6_goes_3 14 rfl rfl)
theorem dX6_goes_86 : decode cX6_goes 86 = .ok (.aload_n 0, 1) := dk_42 (dk_at dksX6_goes_3 15 rfl rfl)
theorem dX6_goes_87 : decode cX6_goes 87 = .ok (.iload_n 1, 1) := dk_27 (dk_at dksX6_goes_3 16 rfl rfl)
theorem dX6_goes_88 : decode cX6_goes 88 = .ok (.invokevirtual 53, 3) := dk_182 0 53 (dk_at dksX6_goes_3 17 rfl rfl)
theorem dX6_goes_91 : decode cX6_goes 91 = .ok (.invokevirtual 115, 3) := dk_182 0 115 (dk_at dksX6_goes_3 20 rfl rfl)
theorem dX6_goes_94 : decode cX6_goes 94 = .ok (.aload_n 0, 1) := dk_42 (dk_at dksX6_goes_3 23 rfl rfl)
theorem dX6_goes_95 : decode cX6_goes 95 = .ok (.getfield 17, 3) := dk_180 0 17 (dk_at dksX6_goes_4 0 rfl rfl)
theorem dX6_goes_98 : decode cX6_goes 98 = .ok (.iload_n 1, 1) := dk_27 (dk_at dksX6_goes_4 3 rfl rfl)
theorem dX6_goes_99 : decode cX6_goes 99 = .ok (.iconst 1, 1) := dk_4 (dk_at dksX6_goes_4 4 rfl rfl)
theorem dX6_goes_100 : decode cX6_goes 100 = .ok (.iadd, 1) := dk_96 (dk_at dksX6_goes_4 5 rfl rfl)
theorem dX6_goes_101 : decode cX6_goes 101 = .ok (.aaload, 1) := dk_50 (dk_at dksX6_goes_4 6 rfl rfl)
theorem dX6_goes_102 : decode cX6_goes 102 = .ok (.iload_n 2, 1) := dk_28 (dk_at dksX6_goes_4 7 rfl rfl)
theorem dX6_goes_103 : decode cX6_goes 103 = .ok (.iaload, 1) := dk_46 (dk_at dksX6_goes_4 8 rfl rfl)
theorem dX6_goes_104 : decode cX6_goes 104 = .ok (.iadd, 1) := dk_96 (dk_at dksX6_goes_4 9 rfl rfl)
theorem dX6_goes_105 : decode cX6_goes 105 = .ok (.aload_n 0, 1) := dk_42 (dk_at dksX6_goes_4 10 rfl rfl)
theorem dX6_goes_106 : decode cX6_goes 106 = .ok (.getfield 17, 3) := dk_180 0 17 (dk_at dksX6_goes_4 11 rfl rfl)
theorem dX6_goes_109 : decode cX6_goes 109 = .ok (.iload_n 1, 1) := dk_27 (dk_at dksX6_goes_4 14 rfl rfl)
theorem dX6_goes_110 : decode cX6_goes 110 = .ok (.aaload, 1) := dk_50 (dk_at dksX6_goes_4 15 rfl rfl)
theorem dX6_goes_111 : decode cX6_goes 111 = .ok (.iload_n 2, 1) := dk_28 (dk_at dksX6_goes_4 16 rfl rfl)
theorem dX6_goes_112 : decode cX6_goes 112 = .ok (.iaload, 1) := dk_46 (dk_at dksX6_goes_4 17 rfl rfl)
theorem dX6_goes_113 : decode cX6_goes 113 = .ok (.if_icmp .ne 7, 3) := dk_160 0 7 (dk_at dksX6_goes_4 18 rfl rfl)
theorem dX6_goes_116 : decode cX6_goes 116 = .ok (.iconst 1, 1) := dk_4 (dk_at dksX6_goes_4 21 rfl rfl)
theorem dX6_goes_117 : decode cX6_goes 117 = .ok (.goto 4, 3) := dk_167 0 4 (dk_at dksX6_goes_5 0 rfl rfl)
theorem dX6_goes_120 : decode cX6_goes 120 = .ok (.iconst 0, 1) := dk_3 (dk_at dksX6_goes_5 3 rfl rfl)
theorem dX6_goes_121 : decode cX6_goes 121 = .ok (.istore_n 3, 1) := dk_62 (dk_at dksX6_goes_5 4 rfl rfl)
theorem dX6_goes_122 : decode cX6_goes 122 = .ok (.aload_n 0, 1) := dk_42 (dk_at dksX6_goes_5 5 rfl rfl)
theorem dX6_goes_123 : decode cX6_goes 123 = .ok (.iload_n 3, 1) := dk_29 (dk_at dksX6_goes_5 6 rfl rfl)
theorem dX6_goes_124 : decode cX6_goes 124 = .ok (.ifCond .eq 7, 3) := dk_153 0 7 (dk_at dksX6_goes_5 7 rfl rfl)
theorem dX6_goes_127 : decode cX6_goes 127 = .ok (.iconst 1, 1) := dk_4 (dk_at dksX6_goes_5 10 rfl rfl)
theorem dX6_goes_128 : decode cX6_goes 128 = .ok (.goto 4, 3) := dk_167 0 4 (dk_at dksX6_goes_5 11 rfl rfl)
theorem dX6_goes_131 : decode cX6_goes 131 = .ok (.iconst 2, 1) := dk_5 (dk_at dksX6_goes_5 14 rfl rfl)
theorem dX6_goes_132 : decode cX6_goes 132 = .ok (.iload_n 3, 1) := dk_29 (dk_at dksX6_goes_5 15 rfl rfl)
theorem dX6_goes_133 : decode cX6_goes 133 = .ok (.ifCond .eq 11, 3) := dk_153 0 11 (dk_at dksX6_goes_5 16 rfl rfl)
theorem dX6_goes_136 : decode cX6_goes 136 = .ok (.aload_n 0, 1) := dk_42 (dk_at dksX6_goes_5 19 rfl rfl)
theorem dX6_goes_137 : decode cX6_goes 137 = .ok (.iload_n 1, 1) := dk_27 (dk_at dksX6_goes_5 20 rfl rfl)
theorem dX6_goes_138 : decode cX6_goes 138 = .ok (.invokevirtual 53, 3) := dk_182 0 53 (dk_at dksX6_goes_5 21 rfl rfl)
theorem dX6_goes_141 : decode cX6_goes 141 = .ok (.goto 8, 3) := dk_167 0 8 (dk_at dksX6_goes_6 0 rfl rfl)
theorem dX6_goes_144 : decode cX6_goes 144 = .ok (.aload_n 0, 1) := dk_42 (dk_at dksX6_goes_6 3 rfl rfl)
theorem dX6_goes_145 : decode cX6_goes 145 = .ok (.iload_n 2, 1) := dk_28 (dk_at dksX6_goes_6 4 rfl rfl)
theorem dX6_goes_146 : decode cX6_goes 146 = .ok (.invokevirtual 57, 3) := dk_182 0 57 (dk_at dksX6_goes_6 5 rfl rfl)
theorem dX6_goes_149 : decode cX6_goes 149 = .ok (.invokevirtual 121, 3) := dk_182 0 121 (dk_at dksX6_goes_6 8 rfl rfl)
theorem dX6_goes_152 : decode cX6_goes 152 = .ok (.iload_n 3, 1) := dk_29 (dk_at dksX6_goes_6 11 rfl rfl)
theorem dX6_goes_153 : decode cX6_goes 153 = .ok (.ifCond .eq 7, 3) := dk_153 0 7 (dk_at dksX6_goes_6 12 rfl rfl)
theorem dX6_goes_156 : decode cX6_goes 156 = .ok (.iconst 1, 1) := dk_4 (dk_at dksX6_goes_6 15 rfl rfl)
theorem dX6_goes_157 : decode cX6_goes 157 = .ok (.goto 4, 3) := dk_167 0 4 (dk_at dksX6_goes_6 16 rfl rfl)
theorem dX6_goes_160 : decode cX6_goes 160 = .ok (.iconst 2, 1) := dk_5 (dk_at dksX6_goes_6 19 rfl rfl)
theorem dX6_goes_161 : decode cX6_goes 161 = .ok (.ireturn, 1) := dk_172 (dk_at dksX6_goes_6 20 rfl rfl)
abbrev cX6_piece : ByteArray := prog_10_method_9_code
def yX6_piece : MethodName := ⟨RX6, "piece", "(II)V"⟩
def dkwX6_piece_1 : List UInt8 := [180, 0, 118, 4, 96, 181, 0, 118, 177]
abbrev dktX6_piece_1 : List UInt8 := dkwX6_piece_1 ++ []
def dkwX6_piece_0 : List UInt8 := [42, 180, 0, 20, 42, 180, 0, 118, 27, 79, 42, 180, 0, 24, 42, 180, 0, 118, 28, 79, 42, 89]
abbrev dktX6_piece_0 : List UInt8 := dkwX6_piece_0 ++ dktX6_piece_1
theorem dksX6_piece_0 : cX6_piece.data.toList.drop 0 = dktX6_piece_0 := by decide +kernel
theorem dksX6_piece_1 : cX6_piece.data.toList.drop 22 = dktX6_piece_1 := dk_seg dksX6_piece_0 22 rfl rfl
theorem dX6_piece_0 : decode cX6_piece 0 = .ok (.aload_n 0, 1) := dk_42 (dk_at dksX6_piece_0 0 rfl rfl)
theorem dX6_piece_1 : decode cX6_piece 1 = .ok (.getfield 20, 3) := dk_180 0 20 (dk_at dksX6_piece_0 1 rfl rfl)
theorem dX6_piece_4 : decode cX6_piece 4 = .ok (.aload_n 0, 1) := dk_42 (dk_at dksX6_piece_0 4 rfl rfl)
theorem dX6_piece_5 : decode cX6_piece 5 = .ok (.getfield 118, 3) := dk_180 0 118 (dk_at dksX6_piece_0 5 rfl rfl)
theorem dX6_piece_8 : decode cX6_piece 8 = .ok (.iload_n 1, 1) := dk_27 (dk_at dksX6_piece_0 8 rfl rfl)
theorem dX6_piece_9 : decode cX6_piece 9 = .ok (.iastore, 1) := dk_79 (dk_at dksX6_piece_0 9 rfl rfl)
theorem dX6_piece_10 : decode cX6_piece 10 = .ok (.aload_n 0, 1) := dk_42 (dk_at dksX6_piece_0 10 rfl rfl)
theorem dX6_piece_11 : decode cX6_piece 11 = .ok (.getfield 24, 3) := dk_180 0 24 (dk_at dksX6_piece_0 11 rfl rfl)
theorem dX6_piece_14 : decode cX6_piece 14 = .ok (.aload_n 0, 1) := dk_42 (dk_at dksX6_piece_0 14 rfl rfl)
theorem dX6_piece_15 : decode cX6_piece 15 = .ok (.getfield 118, 3) := dk_180 0 118 (dk_at dksX6_piece_0 15 rfl rfl)
theorem dX6_piece_18 : decode cX6_piece 18 = .ok (.iload_n 2, 1) := dk_28 (dk_at dksX6_piece_0 18 rfl rfl)
theorem dX6_piece_19 : decode cX6_piece 19 = .ok (.iastore, 1) := dk_79 (dk_at dksX6_piece_0 19 rfl rfl)
theorem dX6_piece_20 : decode cX6_piece 20 = .ok (.aload_n 0, 1) := dk_42 (dk_at dksX6_piece_0 20 rfl rfl)
theorem dX6_piece_21 : decode cX6_piece 21 = .ok (.dup, 1) := dk_89 (dk_at dksX6_piece_0 21 rfl rfl)
theorem dX6_piece_22 : decode cX6_piece 22 = .ok (.getfield 118, 3) := dk_180 0 118 (dk_at dksX6_piece_1 0 rfl rfl)
theorem dX6_piece_25 : decode cX6_piece 25 = .ok (.iconst 1, 1) := dk_4 (dk_at dksX6_piece_1 3 rfl rfl)
theorem dX6_piece_26 : decode cX6_piece 26 = .ok (.iadd, 1) := dk_96 (dk_at dksX6_piece_1 4 rfl rfl)
theorem dX6_piece_27 : decode cX6_piece 27 = .ok (.putfield 118, 3) := dk_181 0 118 (dk_at dksX6_piece_1 5 rfl rfl)
theorem dX6_piece_30 : decode cX6_piece 30 = .ok (.return_, 1) := dk_177 (dk_at dksX6_piece_1 8 rfl rfl)
theorem q184 : (Jvm.Cond.initialized "TurnedBoards$Line") ∈ lw_all := lw_g (lw_at lw_m1 17 rfl) rfl
theorem q300 : (Jvm.Cond.selects "TurnedBoards$Line" ({ cls := "java/lang/Object", name := "getClass", desc := "()Ljava/lang/Class;" } : Jvm.MethodName) ({ cls := "java/lang/Object", name := "getClass", desc := "()Ljava/lang/Class;" } : Jvm.MethodName)) ∈ lw_all := lw_g (lw_at lw_m1 133 rfl) rfl
theorem q335 : (Jvm.Cond.fieldLinkNest "TurnedBoards$Line" (101 : Nat) "TurnedBoards$Shop" "blank" "I" "TurnedBoards") ∈ lw_tbl := lw_at lw_m1 168 rfl
theorem q344 : (Jvm.Cond.fieldLinkNest "TurnedBoards$Line" (60 : Nat) "TurnedBoards$Shop" "words" "Ljava/util/List;" "TurnedBoards") ∈ lw_tbl := lw_at lw_m1 177 rfl
theorem q541 : (Jvm.Cond.instantiable "TurnedBoards$Line" (10 : Nat)) ∈ lw_all := lw_g (lw_at lw_m2 134 rfl) rfl
theorem q543 : (Jvm.Cond.instanceMethod ({ cls := "TurnedBoards$Line", name := "<init>", desc := "(LTurnedBoards;)V" } : Jvm.MethodName)) ∈ lw_all := lw_g (lw_at lw_m2 136 rfl) rfl
theorem q544 : (Jvm.Cond.code ({ cls := "TurnedBoards$Line", name := "<init>", desc := "(LTurnedBoards;)V" } : Jvm.MethodName) prog_10_method_1_code (2 : Nat) (Option.none : Option Jvm.ClassFile.FieldType)) ∈ lw_all := lw_g (lw_at lw_m2 137 rfl) rfl
theorem q545 : (Jvm.Cond.methodLink "TurnedBoards$Line" (9 : Nat) ({ cls := "java/lang/Object", name := "<init>", desc := "()V" } : Jvm.MethodName)) ∈ lw_all := lw_g (lw_at lw_m2 138 rfl) rfl
theorem q546 : (Jvm.Cond.classLink "TurnedBoards$Line" (15 : Nat) "[[I") ∈ lw_all := lw_g (lw_at lw_m2 139 rfl) rfl
theorem q547 : (Jvm.Cond.fieldLink "TurnedBoards$Line" (35 : Nat) "TurnedBoards$Line" "one" "I") ∈ lw_all := lw_g (lw_at lw_m2 140 rfl) rfl
theorem q548 : (Jvm.Cond.fieldLink "TurnedBoards$Line" (43 : Nat) "TurnedBoards$Line" "other" "I") ∈ lw_all := lw_g (lw_at lw_m2 141 rfl) rfl
theorem q549 : (Jvm.Cond.fieldLink "TurnedBoards$Line" (31 : Nat) "TurnedBoards$Line" "hand" "I") ∈ lw_all := lw_g (lw_at lw_m2 142 rfl) rfl
theorem q550 : (Jvm.Cond.fieldLink "TurnedBoards$Line" (104 : Nat) "TurnedBoards$Line" "sizeOne" "I") ∈ lw_all := lw_g (lw_at lw_m2 143 rfl) rfl
theorem q551 : (Jvm.Cond.fieldLink "TurnedBoards$Line" (46 : Nat) "TurnedBoards$Line" "sizeOther" "I") ∈ lw_all := lw_g (lw_at lw_m2 144 rfl) rfl
theorem q552 : (Jvm.Cond.fieldLink "TurnedBoards$Line" (118 : Nat) "TurnedBoards$Line" "pieces" "I") ∈ lw_all := lw_g (lw_at lw_m2 145 rfl) rfl
theorem q554 : (Jvm.Cond.fieldLink "TurnedBoards$Line" (17 : Nat) "TurnedBoards$Line" "least" "[[I") ∈ lw_all := lw_g (lw_at lw_m2 147 rfl) rfl
theorem q555 : (Jvm.Cond.fieldLink "TurnedBoards$Line" (20 : Nat) "TurnedBoards$Line" "forWhom" "[I") ∈ lw_all := lw_g (lw_at lw_m2 148 rfl) rfl
theorem q557 : (Jvm.Cond.fieldLink "TurnedBoards$Line" (24 : Nat) "TurnedBoards$Line" "glyph" "[I") ∈ lw_all := lw_g (lw_at lw_m2 150 rfl) rfl
theorem q559 : (Jvm.Cond.fieldLink "TurnedBoards$Line" (3 : Nat) "TurnedBoards$Line" "this$0" "LTurnedBoards;") ∈ lw_all := lw_g (lw_at lw_m2 152 rfl) rfl
theorem q560 : (Jvm.Cond.lays "TurnedBoards$Line" "TurnedBoards$Line" "one" "I") ∈ lw_all := lw_g (lw_at lw_m2 153 rfl) rfl
theorem q561 : (Jvm.Cond.soleField "TurnedBoards$Line" "one") ∈ lw_all := lw_g (lw_at lw_m2 154 rfl) rfl
theorem q562 : (Jvm.Cond.lays "TurnedBoards$Line" "TurnedBoards$Line" "other" "I") ∈ lw_all := lw_g (lw_at lw_m2 155 rfl) rfl
theorem q563 : (Jvm.Cond.soleField "TurnedBoards$Line" "other") ∈ lw_all := lw_g (lw_at lw_m2 156 rfl) rfl
theorem q564 : (Jvm.Cond.lays "TurnedBoards$Line" "TurnedBoards$Line" "hand" "I") ∈ lw_all := lw_g (lw_at lw_m2 157 rfl) rfl
theorem q565 : (Jvm.Cond.soleField "TurnedBoards$Line" "hand") ∈ lw_all := lw_g (lw_at lw_m2 158 rfl) rfl
theorem q566 : (Jvm.Cond.lays "TurnedBoards$Line" "TurnedBoards$Line" "sizeOne" "I") ∈ lw_all := lw_g (lw_at lw_m2 159 rfl) rfl
theorem q567 : (Jvm.Cond.soleField "TurnedBoards$Line" "sizeOne") ∈ lw_all := lw_g (lw_at lw_m2 160 rfl) rfl
theorem q568 : (Jvm.Cond.lays "TurnedBoards$Line" "TurnedBoards$Line" "sizeOther" "I") ∈ lw_all := lw_g (lw_at lw_m2 161 rfl) rfl
theorem q569 : (Jvm.Cond.soleField "TurnedBoards$Line" "sizeOther") ∈ lw_all := lw_g (lw_at lw_m2 162 rfl) rfl
theorem q570 : (Jvm.Cond.lays "TurnedBoards$Line" "TurnedBoards$Line" "pieces" "I") ∈ lw_all := lw_g (lw_at lw_m2 163 rfl) rfl
theorem q571 : (Jvm.Cond.soleField "TurnedBoards$Line" "pieces") ∈ lw_all := lw_g (lw_at lw_m2 164 rfl) rfl
theorem q572 : (Jvm.Cond.laysFinal "TurnedBoards$Line" "TurnedBoards$Line" "least" "[[I") ∈ lw_all := lw_g (lw_at lw_m2 165 rfl) rfl
theorem q573 : (Jvm.Cond.soleField "TurnedBoards$Line" "least") ∈ lw_all := lw_g (lw_at lw_m2 166 rfl) rfl
theorem q574 : (Jvm.Cond.laysFinal "TurnedBoards$Line" "TurnedBoards$Line" "forWhom" "[I") ∈ lw_all := lw_g (lw_at lw_m2 167 rfl) rfl
theorem q575 : (Jvm.Cond.soleField "TurnedBoards$Line" "forWhom") ∈ lw_all := lw_g (lw_at lw_m2 168 rfl) rfl
theorem q576 : (Jvm.Cond.laysFinal "TurnedBoards$Line" "TurnedBoards$Line" "glyph" "[I") ∈ lw_all := lw_g (lw_at lw_m2 169 rfl) rfl
theorem q577 : (Jvm.Cond.soleField "TurnedBoards$Line" "glyph") ∈ lw_all := lw_g (lw_at lw_m2 170 rfl) rfl
theorem q578 : (Jvm.Cond.laysFinal "TurnedBoards$Line" "TurnedBoards$Line" "this$0" "LTurnedBoards;") ∈ lw_all := lw_g (lw_at lw_m2 171 rfl) rfl
theorem q579 : (Jvm.Cond.soleField "TurnedBoards$Line" "this$0") ∈ lw_all := lw_g (lw_at lw_m2 172 rfl) rfl
theorem q580 : (Jvm.Cond.superclass "TurnedBoards$Line" "java/lang/Object") ∈ lw_all := lw_g (lw_at lw_m2 173 rfl) rfl
theorem q582 : (Jvm.Cond.fieldLinkNest "TurnedBoards$Line" (27 : Nat) "TurnedBoards" "shop" "LTurnedBoards$Shop;" "TurnedBoards") ∈ lw_tbl := lw_at lw_m2 175 rfl
theorem q1454 : (Jvm.Cond.instanceMethod ({ cls := "TurnedBoards$Line", name := "by", desc := "(III)LTurnedBoards$Line;" } : Jvm.MethodName)) ∈ lw_all := lw_g (lw_at lw_m6 87 rfl) rfl
theorem q1455 : (Jvm.Cond.selects "TurnedBoards$Line" ({ cls := "TurnedBoards$Line", name := "by", desc := "(III)LTurnedBoards$Line;" } : Jvm.MethodName) ({ cls := "TurnedBoards$Line", name := "by", desc := "(III)LTurnedBoards$Line;" } : Jvm.MethodName)) ∈ lw_all := lw_g (lw_at lw_m6 88 rfl) rfl
theorem q1456 : (Jvm.Cond.code ({ cls := "TurnedBoards$Line", name := "by", desc := "(III)LTurnedBoards$Line;" } : Jvm.MethodName) prog_10_method_11_code (6 : Nat) (Option.some (Jvm.ClassFile.FieldType.object "TurnedBoards$Line"))) ∈ lw_all := lw_g (lw_at lw_m6 89 rfl) rfl
theorem q1457 : (Jvm.Cond.interfaceEntry "TurnedBoards$Line" (64 : Nat)) ∈ lw_tbl := lw_at lw_m6 90 rfl
theorem q1458 : (Jvm.Cond.methodLink "TurnedBoards$Line" (64 : Nat) ({ cls := "java/util/List", name := "get", desc := "(I)Ljava/lang/Object;" } : Jvm.MethodName)) ∈ lw_all := lw_g (lw_at lw_m6 91 rfl) rfl
theorem q1459 : (Jvm.Cond.classLink "TurnedBoards$Line" (70 : Nat) "TurnedBoards$Word") ∈ lw_all := lw_g (lw_at lw_m6 92 rfl) rfl
theorem q1460 : (Jvm.Cond.methodLink "TurnedBoards$Line" (125 : Nat) ({ cls := "TurnedBoards$Word", name := "size", desc := "()I" } : Jvm.MethodName)) ∈ lw_all := lw_g (lw_at lw_m6 93 rfl) rfl
theorem q1461 : (Jvm.Cond.methodLink "TurnedBoards$Line" (129 : Nat) ({ cls := "TurnedBoards$Line", name := "reckons", desc := "(II)V" } : Jvm.MethodName)) ∈ lw_all := lw_g (lw_at lw_m6 94 rfl) rfl
theorem q1462 : (Jvm.Cond.privateMethod ({ cls := "TurnedBoards$Line", name := "reckons", desc := "(II)V" } : Jvm.MethodName)) ∈ lw_tbl := lw_at lw_m6 95 rfl
theorem q1463 : (Jvm.Cond.instanceMethod ({ cls := "TurnedBoards$Line", name := "reckons", desc := "(II)V" } : Jvm.MethodName)) ∈ lw_all := lw_g (lw_at lw_m6 96 rfl) rfl
theorem q1464 : (Jvm.Cond.code ({ cls := "TurnedBoards$Line", name := "reckons", desc := "(II)V" } : Jvm.MethodName) prog_10_method_8_code (5 : Nat) (Option.none : Option Jvm.ClassFile.FieldType)) ∈ lw_all := lw_g (lw_at lw_m6 97 rfl) rfl
theorem q1465 : (Jvm.Cond.constant "TurnedBoards$Line" (100 : Nat) (100000000 : Int32)) ∈ lw_all := lw_g (lw_at lw_m6 98 rfl) rfl
theorem q1466 : (Jvm.Cond.methodLink "TurnedBoards$Line" (107 : Nat) ({ cls := "TurnedBoards$Line", name := "both", desc := "(III)I" } : Jvm.MethodName)) ∈ lw_all := lw_g (lw_at lw_m6 99 rfl) rfl
theorem q1467 : (Jvm.Cond.privateMethod ({ cls := "TurnedBoards$Line", name := "both", desc := "(III)I" } : Jvm.MethodName)) ∈ lw_tbl := lw_at lw_m6 100 rfl
theorem q1468 : (Jvm.Cond.instanceMethod ({ cls := "TurnedBoards$Line", name := "both", desc := "(III)I" } : Jvm.MethodName)) ∈ lw_all := lw_g (lw_at lw_m6 101 rfl) rfl
theorem q1469 : (Jvm.Cond.code ({ cls := "TurnedBoards$Line", name := "both", desc := "(III)I" } : Jvm.MethodName) prog_10_method_6_code (9 : Nat) (Option.some Jvm.ClassFile.FieldType.int)) ∈ lw_all := lw_g (lw_at lw_m6 102 rfl) rfl
theorem q1470 : (Jvm.Cond.methodLink "TurnedBoards$Line" (82 : Nat) ({ cls := "TurnedBoards$Line", name := "choice", desc := "(III)I" } : Jvm.MethodName)) ∈ lw_all := lw_g (lw_at lw_m6 103 rfl) rfl
theorem q1471 : (Jvm.Cond.privateMethod ({ cls := "TurnedBoards$Line", name := "choice", desc := "(III)I" } : Jvm.MethodName)) ∈ lw_tbl := lw_at lw_m6 104 rfl
theorem q1472 : (Jvm.Cond.instanceMethod ({ cls := "TurnedBoards$Line", name := "choice", desc := "(III)I" } : Jvm.MethodName)) ∈ lw_all := lw_g (lw_at lw_m6 105 rfl) rfl
theorem q1473 : (Jvm.Cond.code ({ cls := "TurnedBoards$Line", name := "choice", desc := "(III)I" } : Jvm.MethodName) prog_10_method_4_code (6 : Nat) (Option.some Jvm.ClassFile.FieldType.int)) ∈ lw_all := lw_g (lw_at lw_m6 106 rfl) rfl
theorem q1474 : (Jvm.Cond.methodLink "TurnedBoards$Line" (53 : Nat) ({ cls := "TurnedBoards$Line", name := "first", desc := "(I)I" } : Jvm.MethodName)) ∈ lw_all := lw_g (lw_at lw_m6 107 rfl) rfl
theorem q1475 : (Jvm.Cond.privateMethod ({ cls := "TurnedBoards$Line", name := "first", desc := "(I)I" } : Jvm.MethodName)) ∈ lw_tbl := lw_at lw_m6 108 rfl
theorem q1476 : (Jvm.Cond.instanceMethod ({ cls := "TurnedBoards$Line", name := "first", desc := "(I)I" } : Jvm.MethodName)) ∈ lw_all := lw_g (lw_at lw_m6 109 rfl) rfl
theorem q1477 : (Jvm.Cond.code ({ cls := "TurnedBoards$Line", name := "first", desc := "(I)I" } : Jvm.MethodName) prog_10_method_2_code (2 : Nat) (Option.some Jvm.ClassFile.FieldType.int)) ∈ lw_all := lw_g (lw_at lw_m6 110 rfl) rfl
theorem q1478 : (Jvm.Cond.methodLink "TurnedBoards$Line" (38 : Nat) ({ cls := "TurnedBoards$Shop", name := "glyph", desc := "(III)I" } : Jvm.MethodName)) ∈ lw_all := lw_g (lw_at lw_m6 111 rfl) rfl
theorem q1479 : (Jvm.Cond.methodLink "TurnedBoards$Line" (57 : Nat) ({ cls := "TurnedBoards$Line", name := "second", desc := "(I)I" } : Jvm.MethodName)) ∈ lw_all := lw_g (lw_at lw_m6 112 rfl) rfl
theorem q1480 : (Jvm.Cond.privateMethod ({ cls := "TurnedBoards$Line", name := "second", desc := "(I)I" } : Jvm.MethodName)) ∈ lw_tbl := lw_at lw_m6 113 rfl
theorem q1481 : (Jvm.Cond.instanceMethod ({ cls := "TurnedBoards$Line", name := "second", desc := "(I)I" } : Jvm.MethodName)) ∈ lw_all := lw_g (lw_at lw_m6 114 rfl) rfl
theorem q1482 : (Jvm.Cond.code ({ cls := "TurnedBoards$Line", name := "second", desc := "(I)I" } : Jvm.MethodName) prog_10_method_3_code (2 : Nat) (Option.some Jvm.ClassFile.FieldType.int)) ∈ lw_all := lw_g (lw_at lw_m6 115 rfl) rfl
theorem q1483 : (Jvm.Cond.methodLinkNest "TurnedBoards$Line" (49 : Nat) ({ cls := "TurnedBoards", name := "turned", desc := "(II)I" } : Jvm.MethodName) "TurnedBoards") ∈ lw_tbl := lw_at lw_m6 116 rfl
theorem q1484 : (Jvm.Cond.methodLink "TurnedBoards$Line" (85 : Nat) ({ cls := "TurnedBoards$Line", name := "letter", desc := "(II)LTurnedBoards$Letter;" } : Jvm.MethodName)) ∈ lw_all := lw_g (lw_at lw_m6 117 rfl) rfl
theorem q1485 : (Jvm.Cond.privateMethod ({ cls := "TurnedBoards$Line", name := "letter", desc := "(II)LTurnedBoards$Letter;" } : Jvm.MethodName)) ∈ lw_tbl := lw_at lw_m6 118 rfl
theorem q1486 : (Jvm.Cond.instanceMethod ({ cls := "TurnedBoards$Line", name := "letter", desc := "(II)LTurnedBoards$Letter;" } : Jvm.MethodName)) ∈ lw_all := lw_g (lw_at lw_m6 119 rfl) rfl
theorem q1487 : (Jvm.Cond.code ({ cls := "TurnedBoards$Line", name := "letter", desc := "(II)LTurnedBoards$Letter;" } : Jvm.MethodName) prog_10_method_5_code (3 : Nat) (Option.some (Jvm.ClassFile.FieldType.object "TurnedBoards$Letter"))) ∈ lw_all := lw_g (lw_at lw_m6 120 rfl) rfl
theorem q1488 : (Jvm.Cond.methodLink "TurnedBoards$Line" (72 : Nat) ({ cls := "TurnedBoards$Word", name := "at", desc := "(I)I" } : Jvm.MethodName)) ∈ lw_all := lw_g (lw_at lw_m6 121 rfl) rfl
theorem q1489 : (Jvm.Cond.methodLink "TurnedBoards$Line" (75 : Nat) ({ cls := "TurnedBoards$Shop", name := "letter", desc := "(II)I" } : Jvm.MethodName)) ∈ lw_all := lw_g (lw_at lw_m6 122 rfl) rfl
theorem q1490 : (Jvm.Cond.methodLinkNest "TurnedBoards$Line" (78 : Nat) ({ cls := "TurnedBoards", name := "letterOf", desc := "(II)LTurnedBoards$Letter;" } : Jvm.MethodName) "TurnedBoards") ∈ lw_tbl := lw_at lw_m6 123 rfl
theorem q1491 : (Jvm.Cond.methodLinkNest "TurnedBoards$Line" (87 : Nat) ({ cls := "TurnedBoards", name := "doubtOf", desc := "(LTurnedBoards$Letter;I)J" } : Jvm.MethodName) "TurnedBoards") ∈ lw_tbl := lw_at lw_m6 124 rfl
theorem q1492 : (Jvm.Cond.methodLinkNest "TurnedBoards$Line" (91 : Nat) ({ cls := "TurnedBoards", name := "isForgiven", desc := "(J)Z" } : Jvm.MethodName) "TurnedBoards") ∈ lw_tbl := lw_at lw_m6 125 rfl
theorem q1496 : (Jvm.Cond.methodLink "TurnedBoards$Line" (95 : Nat) ({ cls := "java/lang/Integer", name := "bitCount", desc := "(I)I" } : Jvm.MethodName)) ∈ lw_all := lw_g (lw_at lw_m6 129 rfl) rfl
theorem q1497 : (Jvm.Cond.methodLink "TurnedBoards$Line" (110 : Nat) ({ cls := "java/lang/Math", name := "min", desc := "(II)I" } : Jvm.MethodName)) ∈ lw_all := lw_g (lw_at lw_m6 130 rfl) rfl
theorem q1498 : (Jvm.Cond.methodLink "TurnedBoards$Line" (115 : Nat) ({ cls := "TurnedBoards$Line", name := "alone", desc := "(I)I" } : Jvm.MethodName)) ∈ lw_all := lw_g (lw_at lw_m6 131 rfl) rfl
theorem q1499 : (Jvm.Cond.privateMethod ({ cls := "TurnedBoards$Line", name := "alone", desc := "(I)I" } : Jvm.MethodName)) ∈ lw_tbl := lw_at lw_m6 132 rfl
theorem q1500 : (Jvm.Cond.instanceMethod ({ cls := "TurnedBoards$Line", name := "alone", desc := "(I)I" } : Jvm.MethodName)) ∈ lw_all := lw_g (lw_at lw_m6 133 rfl) rfl
theorem q1501 : (Jvm.Cond.code ({ cls := "TurnedBoards$Line", name := "alone", desc := "(I)I" } : Jvm.MethodName) prog_10_method_7_code (2 : Nat) (Option.some Jvm.ClassFile.FieldType.int)) ∈ lw_all := lw_g (lw_at lw_m6 134 rfl) rfl
theorem q1503 : (Jvm.Cond.instanceMethod ({ cls := "TurnedBoards$Line", name := "doubt", desc := "()I" } : Jvm.MethodName)) ∈ lw_all := lw_g (lw_at lw_m6 136 rfl) rfl
theorem q1504 : (Jvm.Cond.selects "TurnedBoards$Line" ({ cls := "TurnedBoards$Line", name := "doubt", desc := "()I" } : Jvm.MethodName) ({ cls := "TurnedBoards$Line", name := "doubt", desc := "()I" } : Jvm.MethodName)) ∈ lw_all := lw_g (lw_at lw_m6 137 rfl) rfl
theorem q1505 : (Jvm.Cond.code ({ cls := "TurnedBoards$Line", name := "doubt", desc := "()I" } : Jvm.MethodName) prog_10_method_13_code (1 : Nat) (Option.some Jvm.ClassFile.FieldType.int)) ∈ lw_all := lw_g (lw_at lw_m6 138 rfl) rfl
theorem q1630 : (Jvm.Cond.instanceMethod ({ cls := "TurnedBoards$Line", name := "strokes", desc := "()I" } : Jvm.MethodName)) ∈ lw_all := lw_g (lw_at lw_m7 23 rfl) rfl
theorem q1631 : (Jvm.Cond.selects "TurnedBoards$Line" ({ cls := "TurnedBoards$Line", name := "strokes", desc := "()I" } : Jvm.MethodName) ({ cls := "TurnedBoards$Line", name := "strokes", desc := "()I" } : Jvm.MethodName)) ∈ lw_all := lw_g (lw_at lw_m7 24 rfl) rfl
theorem q1632 : (Jvm.Cond.code ({ cls := "TurnedBoards$Line", name := "strokes", desc := "()I" } : Jvm.MethodName) prog_10_method_14_code (1 : Nat) (Option.some Jvm.ClassFile.FieldType.int)) ∈ lw_all := lw_g (lw_at lw_m7 25 rfl) rfl
theorem q1634 : (Jvm.Cond.instanceMethod ({ cls := "TurnedBoards$Line", name := "laid", desc := "()LTurnedBoards$Line;" } : Jvm.MethodName)) ∈ lw_all := lw_g (lw_at lw_m7 27 rfl) rfl
theorem q1635 : (Jvm.Cond.selects "TurnedBoards$Line" ({ cls := "TurnedBoards$Line", name := "laid", desc := "()LTurnedBoards$Line;" } : Jvm.MethodName) ({ cls := "TurnedBoards$Line", name := "laid", desc := "()LTurnedBoards$Line;" } : Jvm.MethodName)) ∈ lw_all := lw_g (lw_at lw_m7 28 rfl) rfl
theorem q1636 : (Jvm.Cond.code ({ cls := "TurnedBoards$Line", name := "laid", desc := "()LTurnedBoards$Line;" } : Jvm.MethodName) prog_10_method_12_code (4 : Nat) (Option.some (Jvm.ClassFile.FieldType.object "TurnedBoards$Line"))) ∈ lw_all := lw_g (lw_at lw_m7 29 rfl) rfl
theorem q1637 : (Jvm.Cond.methodLink "TurnedBoards$Line" (132 : Nat) ({ cls := "TurnedBoards$Line", name := "goes", desc := "(II)I" } : Jvm.MethodName)) ∈ lw_all := lw_g (lw_at lw_m7 30 rfl) rfl
theorem q1638 : (Jvm.Cond.privateMethod ({ cls := "TurnedBoards$Line", name := "goes", desc := "(II)I" } : Jvm.MethodName)) ∈ lw_tbl := lw_at lw_m7 31 rfl
theorem q1639 : (Jvm.Cond.instanceMethod ({ cls := "TurnedBoards$Line", name := "goes", desc := "(II)I" } : Jvm.MethodName)) ∈ lw_all := lw_g (lw_at lw_m7 32 rfl) rfl
theorem q1640 : (Jvm.Cond.code ({ cls := "TurnedBoards$Line", name := "goes", desc := "(II)I" } : Jvm.MethodName) prog_10_method_10_code (4 : Nat) (Option.some Jvm.ClassFile.FieldType.int)) ∈ lw_all := lw_g (lw_at lw_m7 33 rfl) rfl
theorem q1641 : (Jvm.Cond.methodLink "TurnedBoards$Line" (121 : Nat) ({ cls := "TurnedBoards$Line", name := "piece", desc := "(II)V" } : Jvm.MethodName)) ∈ lw_all := lw_g (lw_at lw_m7 34 rfl) rfl
theorem q1642 : (Jvm.Cond.privateMethod ({ cls := "TurnedBoards$Line", name := "piece", desc := "(II)V" } : Jvm.MethodName)) ∈ lw_tbl := lw_at lw_m7 35 rfl
theorem q1643 : (Jvm.Cond.instanceMethod ({ cls := "TurnedBoards$Line", name := "piece", desc := "(II)V" } : Jvm.MethodName)) ∈ lw_all := lw_g (lw_at lw_m7 36 rfl) rfl
theorem q1644 : (Jvm.Cond.code ({ cls := "TurnedBoards$Line", name := "piece", desc := "(II)V" } : Jvm.MethodName) prog_10_method_9_code (3 : Nat) (Option.none : Option Jvm.ClassFile.FieldType)) ∈ lw_all := lw_g (lw_at lw_m7 37 rfl) rfl
theorem q2744 : (Jvm.Cond.castable "TurnedBoards$Line" "java/lang/Object") ∈ lw_tbl := lw_at lw_m11 177 rfl
theorem in_X6 : ∀ w ∈ wsX60, w ∈ lw_all := lw_in wsX60 [560, 562, 564, 566, 568, 570, 572, 574, 576, 578] (by decide +kernel) (by decide +kernel)
