/-! TurnedBoards -/
set_option maxRecDepth 100000
def RX0 : String := "TurnedBoards"
def TX0 : u_T := fun k => match k with
  | 0 => ("TurnedBoards", "shop", "LTurnedBoards$Shop;", false)
  | 1 => ("TurnedBoards", "tape", "[B", true)
  | 2 => ("TurnedBoards", "taped", "I", false)
  | 3 => ("TurnedBoards", "faultKind", "I", false)
  | 4 => ("TurnedBoards", "faultPlace", "I", false)
  | 5 => ("TurnedBoards", "reader", "LTurnedBoards$Reader;", true)
  | 6 => ("TurnedBoards", "moment", "LTurnedBoards$Moment;", true)
  | 7 => ("TurnedBoards", "asked", "LTurnedBoards$Moment;", true)
  | 8 => ("TurnedBoards", "refused", "[I", true)
  | 9 => ("TurnedBoards", "now", "LTurnedBoards$State;", true)
  | 10 => ("TurnedBoards", "tried", "LTurnedBoards$State;", true)
  | 11 => ("TurnedBoards", "line", "LTurnedBoards$Line;", true)
  | 12 => ("TurnedBoards", "kept", "[LTurnedBoards$State;", true)
  | 13 => ("TurnedBoards", "undos", "I", false)
  | 14 => ("TurnedBoards", "seeds", "J", false)
  | 15 => ("TurnedBoards", "askedWord", "I", false)
  | 16 => ("TurnedBoards", "out", "[B", true)
  | _ => ("TurnedBoards", "outs", "I", false)
def tyX0 : Nat → FieldType := fun k => match k with
  | 0 => .object "TurnedBoards$Shop"
  | 1 => .array .byte
  | 2 => .int
  | 3 => .int
  | 4 => .int
  | 5 => .object "TurnedBoards$Reader"
  | 6 => .object "TurnedBoards$Moment"
  | 7 => .object "TurnedBoards$Moment"
  | 8 => .array .int
  | 9 => .object "TurnedBoards$State"
  | 10 => .object "TurnedBoards$State"
  | 11 => .object "TurnedBoards$Line"
  | 12 => .array (.object "TurnedBoards$State")
  | 13 => .int
  | 14 => .long
  | 15 => .int
  | 16 => .array .byte
  | _ => .int
abbrev wsX00 : List Cond := u_ws RX0 TX0 18
set_option maxRecDepth 100000 in
theorem nmX0 : ∀ a, a < 18 → ∀ b, b < 18 → a ≠ b → (TX0 a).2.1 ≠ (TX0 b).2.1 := by decide +kernel
set_option maxRecDepth 100000 in
theorem tyX0_ok : ∀ k, k < 18 → parseFieldDescriptor (TX0 k).2.2.1 = some (tyX0 k) := by decide +kernel
abbrev cX0_init : ByteArray := prog_1_method_7_code
def yX0_init : MethodName := ⟨RX0, "<init>", "()V"⟩
def dkwX0_init_6 : List UInt8 := [132, 1, 1, 167, 255, 233, 42, 10, 181, 0, 87, 42, 16, 59, 188, 8, 181, 0, 91, 177]
abbrev dktX0_init_6 : List UInt8 := dkwX0_init_6 ++ []
def dkwX0_init_5 : List UInt8 := [3, 60, 27, 16, 20, 162, 0, 23, 42, 180, 0, 83, 27, 187, 0, 66, 89, 42, 183, 0, 68, 83]
abbrev dktX0_init_5 : List UInt8 := dkwX0_init_5 ++ dktX0_init_6
def dkwX0_init_4 : List UInt8 := [181, 0, 73, 42, 187, 0, 76, 89, 42, 183, 0, 78, 181, 0, 79, 42, 16, 20, 189, 0, 66, 181, 0, 83]
abbrev dktX0_init_4 : List UInt8 := dkwX0_init_4 ++ dktX0_init_5
def dkwX0_init_3 : List UInt8 := [181, 0, 62, 42, 187, 0, 66, 89, 42, 183, 0, 68, 181, 0, 69, 42, 187, 0, 66, 89, 42, 183, 0, 68]
abbrev dktX0_init_3 : List UInt8 := dkwX0_init_3 ++ dktX0_init_4
def dkwX0_init_2 : List UInt8 := [183, 0, 54, 181, 0, 55, 42, 187, 0, 52, 89, 183, 0, 54, 181, 0, 59, 42, 16, 6, 188, 10]
abbrev dktX0_init_2 : List UInt8 := dkwX0_init_2 ++ dktX0_init_3
def dkwX0_init_1 : List UInt8 := [42, 2, 181, 0, 39, 42, 187, 0, 43, 89, 42, 183, 0, 45, 181, 0, 48, 42, 187, 0, 52, 89]
abbrev dktX0_init_1 : List UInt8 := dkwX0_init_1 ++ dktX0_init_2
def dkwX0_init_0 : List UInt8 := [42, 183, 0, 22, 42, 187, 0, 28, 89, 183, 0, 30, 181, 0, 31, 42, 17, 6, 64, 188, 8, 181, 0, 35]
abbrev dktX0_init_0 : List UInt8 := dkwX0_init_0 ++ dktX0_init_1
theorem dksX0_init_0 : cX0_init.data.toList.drop 0 = dktX0_init_0 := by decide +kernel
theorem dksX0_init_1 : cX0_init.data.toList.drop 24 = dktX0_init_1 := dk_seg dksX0_init_0 24 rfl rfl
theorem dksX0_init_2 : cX0_init.data.toList.drop 46 = dktX0_init_2 := dk_seg dksX0_init_1 22 rfl rfl
theorem dksX0_init_3 : cX0_init.data.toList.drop 68 = dktX0_init_3 := dk_seg dksX0_init_2 22 rfl rfl
theorem dksX0_init_4 : cX0_init.data.toList.drop 92 = dktX0_init_4 := dk_seg dksX0_init_3 24 rfl rfl
theorem dksX0_init_5 : cX0_init.data.toList.drop 116 = dktX0_init_5 := dk_seg dksX0_init_4 24 rfl rfl
theorem dksX0_init_6 : cX0_init.data.toList.drop 138 = dktX0_init_6 := dk_seg dksX0_init_5 22 rfl rfl
theorem dX0_init_0 : decode cX0_init 0 = .ok (.aload_n 0, 1) := dk_42 (dk_at dksX0_init_0 0 rfl rfl)
theorem dX0_init_1 : decode cX0_init 1 = .ok (.invokespecial 22, 3) := dk_183 0 22 (dk_at dksX0_init_0 1 rfl rfl)
theorem dX0_init_4 : decode cX0_init 4 = .ok (.aload_n 0, 1) := dk_42 (dk_at dksX0_init_0 4 rfl rfl)
theorem dX0_init_5 : decode cX0_init 5 = .ok (.new 28, 3) := dk_187 0 28 (dk_at dksX0_init_0 5 rfl rfl)
theorem dX0_init_8 : decode cX0_init 8 = .ok (.dup, 1) := dk_89 (dk_at dksX0_init_0 8 rfl rfl)
theorem dX0_init_9 : decode cX0_init 9 = .ok (.invokespecial 30, 3) := dk_183 0 30 (dk_at dksX0_init_0 9 rfl rfl)
theorem dX0_init_12 : decode cX0_init 12 = .ok (.putfield 31, 3) := dk_181 0 31 (dk_at dksX0_init_0 12 rfl rfl)
theorem dX0_init_15 : decode cX0_init 15 = .ok (.aload_n 0, 1) := dk_42 (dk_at dksX0_init_0 15 rfl rfl)
theorem dX0_init_16 : decode cX0_init 16 = .ok (.sipush 1600, 3) := dk_17 6 64 (dk_at dksX0_init_0 16 rfl rfl)
theorem dX0_init_19 : decode cX0_init 19 = .ok (.newarray .byte, 2) := dk_188_8 (dk_at dksX0_init_0 19 rfl rfl)
theorem dX0_init_21 : decode cX0_init 21 = .ok (.putfield 35, 3) := dk_181 0 35 (dk_at dksX0_init_0 21 rfl rfl)
theorem dX0_init_24 : decode cX0_init 24 = .ok (.aload_n 0, 1) := dk_42 (dk_at dksX0_init_1 0 rfl rfl)
theorem dX0_init_25 : decode cX0_init 25 = .ok (.iconst (-1), 1) := dk_2 (dk_at dksX0_init_1 1 rfl rfl)
theorem dX0_init_26 : decode cX0_init 26 = .ok (.putfield 39, 3) := dk_181 0 39 (dk_at dksX0_init_1 2 rfl rfl)
theorem dX0_init_29 : decode cX0_init 29 = .ok (.aload_n 0, 1) := dk_42 (dk_at dksX0_init_1 5 rfl rfl)
theorem dX0_init_30 : decode cX0_init 30 = .ok (.new 43, 3) := dk_187 0 43 (dk_at dksX0_init_1 6 rfl rfl)
theorem dX0_init_33 : decode cX0_init 33 = .ok (.dup, 1) := dk_89 (dk_at dksX0_init_1 9 rfl rfl)
theorem dX0_init_34 : decode cX0_init 34 = .ok (.aload_n 0, 1) := dk_42 (dk_at dksX0_init_1 10 rfl rfl)
theorem dX0_init_35 : decode cX0_init 35 = .ok (.invokespecial 45, 3) := dk_183 0 45 (dk_at dksX0_init_1 11 rfl rfl)
theorem dX0_init_38 : decode cX0_init 38 = .ok (.putfield 48, 3) := dk_181 0 48 (dk_at dksX0_init_1 14 rfl rfl)
theorem dX0_init_41 : decode cX0_init 41 = .ok (.aload_n 0, 1) := dk_42 (dk_at dksX0_init_1 17 rfl rfl)
theorem dX0_init_42 : decode cX0_init 42 = .ok (.new 52, 3) := dk_187 0 52 (dk_at dksX0_init_1 18 rfl rfl)
theorem dX0_init_45 : decode cX0_init 45 = .ok (.dup, 1) := dk_89 (dk_at dksX0_init_1 21 rfl rfl)
theorem dX0_init_46 : decode cX0_init 46 = .ok (.invokespecial 54, 3) := dk_183 0 54 (dk_at dksX0_init_2 0 rfl rfl)
theorem dX0_init_49 : decode cX0_init 49 = .ok (.putfield 55, 3) := dk_181 0 55 (dk_at dksX0_init_2 3 rfl rfl)
theorem dX0_init_52 : decode cX0_init 52 = .ok (.aload_n 0, 1) := dk_42 (dk_at dksX0_init_2 6 rfl rfl)
theorem dX0_init_53 : decode cX0_init 53 = .ok (.new 52, 3) := dk_187 0 52 (dk_at dksX0_init_2 7 rfl rfl)
theorem dX0_init_56 : decode cX0_init 56 = .ok (.dup, 1) := dk_89 (dk_at dksX0_init_2 10 rfl rfl)
theorem dX0_init_57 : decode cX0_init 57 = .ok (.invokespecial 54, 3) := dk_183 0 54 (dk_at dksX0_init_2 11 rfl rfl)
theorem dX0_init_60 : decode cX0_init 60 = .ok (.putfield 59, 3) := dk_181 0 59 (dk_at dksX0_init_2 14 rfl rfl)
theorem dX0_init_63 : decode cX0_init 63 = .ok (.aload_n 0, 1) := dk_42 (dk_at dksX0_init_2 17 rfl rfl)
theorem dX0_init_64 : decode cX0_init 64 = .ok (.bipush 6, 2) := dk_16 6 (dk_at dksX0_init_2 18 rfl rfl)
theorem dX0_init_66 : decode cX0_init 66 = .ok (.newarray .int, 2) := dk_188_10 (dk_at dksX0_init_2 20 rfl rfl)
theorem dX0_init_68 : decode cX0_init 68 = .ok (.putfield 62, 3) := dk_181 0 62 (dk_at dksX0_init_3 0 rfl rfl)
theorem dX0_init_71 : decode cX0_init 71 = .ok (.aload_n 0, 1) := dk_42 (dk_at dksX0_init_3 3 rfl rfl)
theorem dX0_init_72 : decode cX0_init 72 = .ok (.new 66, 3) := dk_187 0 66 (dk_at dksX0_init_3 4 rfl rfl)
theorem dX0_init_75 : decode cX0_init 75 = .ok (.dup, 1) := dk_89 (dk_at dksX0_init_3 7 rfl rfl)
theorem dX0_init_76 : decode cX0_init 76 = .ok (.aload_n 0, 1) := dk_42 (dk_at dksX0_init_3 8 rfl rfl)
theorem dX0_init_77 : decode cX0_init 77 = .ok (.invokespecial 68, 3) := dk_183 0 68 (dk_at dksX0_init_3 9 rfl rfl)
theorem dX0_init_80 : decode cX0_init 80 = .ok (.putfield 69, 3) := dk_181 0 69 (dk_at dksX0_init_3 12 rfl rfl)
theorem dX0_init_83 : decode cX0_init 83 = .ok (.aload_n 0, 1) := dk_42 (dk_at dksX0_init_3 15 rfl rfl)
theorem dX0_init_84 : decode cX0_init 84 = .ok (.new 66, 3) := dk_187 0 66 (dk_at dksX0_init_3 16 rfl rfl)
theorem dX0_init_87 : decode cX0_init 87 = .ok (.dup, 1) := dk_89 (dk_at dksX0_init_3 19 rfl rfl)
theorem dX0_init_88 : decode cX0_init 88 = .ok (.aload_n 0, 1) := dk_42 (dk_at dksX0_init_3 20 rfl rfl)
theorem dX0_init_89 : decode cX0_init 89 = .ok (.invokespecial 68, 3) := dk_183 0 68 (dk_at dksX0_init_3 21 rfl rfl)
theorem dX0_init_92 : decode cX0_init 92 = .ok (.putfield 73, 3) := dk_181 0 73 (dk_at dksX0_init_4 0 rfl rfl)
theorem dX0_init_95 : decode cX0_init 95 = .ok (.aload_n 0, 1) := dk_42 (dk_at dksX0_init_4 3 rfl rfl)
theorem dX0_init_96 : decode cX0_init 96 = .ok (.new 76, 3) := dk_187 0 76 (dk_at dksX0_init_4 4 rfl rfl)
theorem dX0_init_99 : decode cX0_init 99 = .ok (.dup, 1) := dk_89 (dk_at dksX0_init_4 7 rfl rfl)
theorem dX0_init_100 : decode cX0_init 100 = .ok (.aload_n 0, 1) := dk_42 (dk_at dksX0_init_4 8 rfl rfl)
theorem dX0_init_101 : decode cX0_init 101 = .ok (.invokespecial 78, 3) := dk_183 0 78 (dk_at dksX0_init_4 9 rfl rfl)
theorem dX0_init_104 : decode cX0_init 104 = .ok (.putfield 79, 3) := dk_181 0 79 (dk_at dksX0_init_4 12 rfl rfl)
theorem dX0_init_107 : decode cX0_init 107 = .ok (.aload_n 0, 1) := dk_42 (dk_at dksX0_init_4 15 rfl rfl)
theorem dX0_init_108 : decode cX0_init 108 = .ok (.bipush 20, 2) := dk_16 20 (dk_at dksX0_init_4 16 rfl rfl)
theorem dX0_init_110 : decode cX0_init 110 = .ok (.anewarray 66, 3) := dk_189 0 66 (dk_at dksX0_init_4 18 rfl rfl)
theorem dX0_init_113 : decode cX0_init 113 = .ok (.putfield 83, 3) := dk_181 0 83 (dk_at dksX0_init_4 21 rfl rfl)
theorem dX0_init_116 : decode cX0_init 116 = .ok (.iconst 0, 1) := dk_3 (dk_at dksX0_init_5 0 rfl rfl)
theorem dX0_init_117 : decode cX0_init 117 = .ok (.istore_n 1, 1) := dk_60 (dk_at dksX0_init_5 1 rfl rfl)
theorem dX0_init_118 : decode cX0_init 118 = .ok (.iload_n 1, 1) := dk_27 (dk_at dksX0_init_5 2 rfl rfl)
theorem dX0_init_119 : decode cX0_init 119 = .ok (.bipush 20, 2) := dk_16 20 (dk_at dksX0_init_5 3 rfl rfl)
theorem dX0_init_121 : decode cX0_init 121 = .ok (.if_icmp .ge 23, 3) := dk_162 0 23 (dk_at dksX0_init_5 5 rfl rfl)
theorem dX0_init_124 : decode cX0_init 124 = .ok (.aload_n 0, 1) := dk_42 (dk_at dksX0_init_5 8 rfl rfl)
theorem dX0_init_125 : decode cX0_init 125 = .ok (.getfield 83, 3) := dk_180 0 83 (dk_at dksX0_init_5 9 rfl rfl)
theorem dX0_init_128 : decode cX0_init 128 = .ok (.iload_n 1, 1) := dk_27 (dk_at dksX0_init_5 12 rfl rfl)
theorem dX0_init_129 : decode cX0_init 129 = .ok (.new 66, 3) := dk_187 0 66 (dk_at dksX0_init_5 13 rfl rfl)
theorem dX0_init_132 : decode cX0_init 132 = .ok (.dup, 1) := dk_89 (dk_at dksX0_init_5 16 rfl rfl)
theorem dX0_init_133 : decode cX0_init 133 = .ok (.aload_n 0, 1) := dk_42 (dk_at dksX0_init_5 17 rfl rfl)
theorem dX0_init_134 : decode cX0_init 134 = .ok (.invokespecial 68, 3) := dk_183 0 68 (dk_at dksX0_init_5 18 rfl rfl)
theorem dX0_init_137 : decode cX0_init 137 = .ok (.aastore, 1) := dk_83 (dk_at dksX0_init_5 21 rfl rfl)
theorem dX0_init_138 : decode cX0_init 138 = .ok (.iinc 1 1, 3) := dk_132 1 1 (dk_at dksX0_init_6 0 rfl rfl)
theorem dX0_init_141 : decode cX0_init 141 = .ok (.goto (-23), 3) := dk_167 255 233 (dk_at dksX0_init_6 3 rfl rfl)
theorem dX0_init_144 : decode cX0_init 144 = .ok (.aload_n 0, 1) := dk_42 (dk_at dksX0_init_6 6 rfl rfl)
theorem dX0_init_145 : decode cX0_init 145 = .ok (.lconst 1, 1) := dk_10 (dk_at dksX0_init_6 7 rfl rfl)
theorem dX0_init_146 : decode cX0_init 146 = .ok (.putfield 87, 3) := dk_181 0 87 (dk_at dksX0_init_6 8 rfl rfl)
theorem dX0_init_149 : decode cX0_init 149 = .ok (.aload_n 0, 1) := dk_42 (dk_at dksX0_init_6 11 rfl rfl)
theorem dX0_init_150 : decode cX0_init 150 = .ok (.bipush 59, 2) := dk_16 59 (dk_at dksX0_init_6 12 rfl rfl)
theorem dX0_init_152 : decode cX0_init 152 = .ok (.newarray .byte, 2) := dk_188_8 (dk_at dksX0_init_6 14 rfl rfl)
theorem dX0_init_154 : decode cX0_init 154 = .ok (.putfield 91, 3) := dk_181 0 91 (dk_at dksX0_init_6 16 rfl rfl)
theorem dX0_init_157 : decode cX0_init 157 = .ok (.return_, 1) := dk_177 (dk_at dksX0_init_6 19 rfl rfl)
abbrev cX0_feed : ByteArray := prog_1_method_10_code
def yX0_feed : MethodName := ⟨RX0, "feed", "(IIIII)I"⟩
def dkwX0_feed_2 : List UInt8 := [180, 0, 94, 172]
abbrev dktX0_feed_2 : List UInt8 := dkwX0_feed_2 ++ []
def dkwX0_feed_1 : List UInt8 := [42, 28, 182, 0, 101, 42, 29, 182, 0, 101, 42, 21, 4, 182, 0, 101, 42, 21, 5, 182, 0, 101, 42]
abbrev dktX0_feed_1 : List UInt8 := dkwX0_feed_1 ++ dktX0_feed_2
def dkwX0_feed_0 : List UInt8 := [42, 180, 0, 94, 16, 20, 96, 17, 6, 64, 164, 0, 9, 42, 3, 182, 0, 97, 172, 42, 27, 182, 0, 101]
abbrev dktX0_feed_0 : List UInt8 := dkwX0_feed_0 ++ dktX0_feed_1
theorem dksX0_feed_0 : cX0_feed.data.toList.drop 0 = dktX0_feed_0 := by decide +kernel
theorem dksX0_feed_1 : cX0_feed.data.toList.drop 24 = dktX0_feed_1 := dk_seg dksX0_feed_0 24 rfl rfl
theorem dksX0_feed_2 : cX0_feed.data.toList.drop 47 = dktX0_feed_2 := dk_seg dksX0_feed_1 23 rfl rfl
theorem dX0_feed_0 : decode cX0_feed 0 = .ok (.aload_n 0, 1) := dk_42 (dk_at dksX0_feed_0 0 rfl rfl)
theorem dX0_feed_1 : decode cX0_feed 1 = .ok (.getfield 94, 3) := dk_180 0 94 (dk_at dksX0_feed_0 1 rfl rfl)
theorem dX0_feed_4 : decode cX0_feed 4 = .ok (.bipush 20, 2) := dk_16 20 (dk_at dksX0_feed_0 4 rfl rfl)
theorem dX0_feed_6 : decode cX0_feed 6 = .ok (.iadd, 1) := dk_96 (dk_at dksX0_feed_0 6 rfl rfl)
theorem dX0_feed_7 : decode cX0_feed 7 = .ok (.sipush 1600, 3) := dk_17 6 64 (dk_at dksX0_feed_0 7 rfl rfl)
theorem dX0_feed_10 : decode cX0_feed 10 = .ok (.if_icmp .le 9, 3) := dk_164 0 9 (dk_at dksX0_feed_0 10 rfl rfl)
theorem dX0_feed_13 : decode cX0_feed 13 = .ok (.aload_n 0, 1) := dk_42 (dk_at dksX0_feed_0 13 rfl rfl)
theorem dX0_feed_14 : decode cX0_feed 14 = .ok (.iconst 0, 1) := dk_3 (dk_at dksX0_feed_0 14 rfl rfl)
theorem dX0_feed_15 : decode cX0_feed 15 = .ok (.invokevirtual 97, 3) := dk_182 0 97 (dk_at dksX0_feed_0 15 rfl rfl)
theorem dX0_feed_18 : decode cX0_feed 18 = .ok (.ireturn, 1) := dk_172 (dk_at dksX0_feed_0 18 rfl rfl)
theorem dX0_feed_19 : decode cX0_feed 19 = .ok (.aload_n 0, 1) := dk_42 (dk_at dksX0_feed_0 19 rfl rfl)
theorem dX0_feed_20 : decode cX0_feed 20 = .ok (.iload_n 1, 1) := dk_27 (dk_at dksX0_feed_0 20 rfl rfl)
theorem dX0_feed_21 : decode cX0_feed 21 = .ok (.invokevirtual 101, 3) := dk_182 0 101 (dk_at dksX0_feed_0 21 rfl rfl)
theorem dX0_feed_24 : decode cX0_feed 24 = .ok (.aload_n 0, 1) := dk_42 (dk_at dksX0_feed_1 0 rfl rfl)
theorem dX0_feed_25 : decode cX0_feed 25 = .ok (.iload_n 2, 1) := dk_28 (dk_at dksX0_feed_1 1 rfl rfl)
theorem dX0_feed_26 : decode cX0_feed 26 = .ok (.invokevirtual 101, 3) := dk_182 0 101 (dk_at dksX0_feed_1 2 rfl rfl)
theorem dX0_feed_29 : decode cX0_feed 29 = .ok (.aload_n 0, 1) := dk_42 (dk_at dksX0_feed_1 5 rfl rfl)
theorem dX0_feed_30 : decode cX0_feed 30 = .ok (.iload_n 3, 1) := dk_29 (dk_at dksX0_feed_1 6 rfl rfl)
theorem dX0_feed_31 : decode cX0_feed 31 = .ok (.invokevirtual 101, 3) := dk_182 0 101 (dk_at dksX0_feed_1 7 rfl rfl)
theorem dX0_feed_34 : decode cX0_feed 34 = .ok (.aload_n 0, 1) := dk_42 (dk_at dksX0_feed_1 10 rfl rfl)
theorem dX0_feed_35 : decode cX0_feed 35 = .ok (.iload 4, 2) := dk_21 4 (dk_at dksX0_feed_1 11 rfl rfl)
theorem dX0_feed_37 : decode cX0_feed 37 = .ok (.invokevirtual 101, 3) := dk_182 0 101 (dk_at dksX0_feed_1 13 rfl rfl)
theorem dX0_feed_40 : decode cX0_feed 40 = .ok (.aload_n 0, 1) := dk_42 (dk_at dksX0_feed_1 16 rfl rfl)
theorem dX0_feed_41 : decode cX0_feed 41 = .ok (.iload 5, 2) := dk_21 5 (dk_at dksX0_feed_1 17 rfl rfl)
theorem dX0_feed_43 : decode cX0_feed 43 = .ok (.invokevirtual 101, 3) := dk_182 0 101 (dk_at dksX0_feed_1 19 rfl rfl)
theorem dX0_feed_46 : decode cX0_feed 46 = .ok (.aload_n 0, 1) := dk_42 (dk_at dksX0_feed_1 22 rfl rfl)
theorem dX0_feed_47 : decode cX0_feed 47 = .ok (.getfield 94, 3) := dk_180 0 94 (dk_at dksX0_feed_2 0 rfl rfl)
theorem dX0_feed_50 : decode cX0_feed 50 = .ok (.ireturn, 1) := dk_172 (dk_at dksX0_feed_2 3 rfl rfl)
abbrev cX0_refuses : ByteArray := prog_1_method_8_code
def yX0_refuses : MethodName := ⟨RX0, "refuses", "(I)I"⟩
def dkwX0_refuses_0 : List UInt8 := [42, 180, 0, 62, 27, 92, 46, 4, 96, 79, 2, 172]
abbrev dktX0_refuses_0 : List UInt8 := dkwX0_refuses_0 ++ []
theorem dksX0_refuses_0 : cX0_refuses.data.toList.drop 0 = dktX0_refuses_0 := by decide +kernel
theorem dX0_refuses_0 : decode cX0_refuses 0 = .ok (.aload_n 0, 1) := dk_42 (dk_at dksX0_refuses_0 0 rfl rfl)
theorem dX0_refuses_1 : decode cX0_refuses 1 = .ok (.getfield 62, 3) := dk_180 0 62 (dk_at dksX0_refuses_0 1 rfl rfl)
theorem dX0_refuses_4 : decode cX0_refuses 4 = .ok (.iload_n 1, 1) := dk_27 (dk_at dksX0_refuses_0 4 rfl rfl)
theorem dX0_refuses_5 : decode cX0_refuses 5 = .ok (.dup2, 1) := dk_92 (dk_at dksX0_refuses_0 5 rfl rfl)
theorem dX0_refuses_6 : decode cX0_refuses 6 = .ok (.iaload, 1) := dk_46 (dk_at dksX0_refuses_0 6 rfl rfl)
theorem dX0_refuses_7 : decode cX0_refuses 7 = .ok (.iconst 1, 1) := dk_4 (dk_at dksX0_refuses_0 7 rfl rfl)
theorem dX0_refuses_8 : decode cX0_refuses 8 = .ok (.iadd, 1) := dk_96 (dk_at dksX0_refuses_0 8 rfl rfl)
theorem dX0_refuses_9 : decode cX0_refuses 9 = .ok (.iastore, 1) := dk_79 (dk_at dksX0_refuses_0 9 rfl rfl)
theorem dX0_refuses_10 : decode cX0_refuses 10 = .ok (.iconst (-1), 1) := dk_2 (dk_at dksX0_refuses_0 10 rfl rfl)
theorem dX0_refuses_11 : decode cX0_refuses 11 = .ok (.ireturn, 1) := dk_172 (dk_at dksX0_refuses_0 11 rfl rfl)
abbrev cX0_put : ByteArray := prog_1_method_9_code
def yX0_put : MethodName := ⟨RX0, "put", "(I)V"⟩
def dkwX0_put_1 : List UInt8 := [122, 145, 84, 132, 2, 248, 167, 255, 229, 177]
abbrev dktX0_put_1 : List UInt8 := dkwX0_put_1 ++ []
def dkwX0_put_0 : List UInt8 := [16, 24, 61, 28, 155, 0, 29, 42, 180, 0, 35, 42, 89, 180, 0, 94, 90, 4, 96, 181, 0, 94, 27, 28]
abbrev dktX0_put_0 : List UInt8 := dkwX0_put_0 ++ dktX0_put_1
theorem dksX0_put_0 : cX0_put.data.toList.drop 0 = dktX0_put_0 := by decide +kernel
theorem dksX0_put_1 : cX0_put.data.toList.drop 24 = dktX0_put_1 := dk_seg dksX0_put_0 24 rfl rfl
theorem dX0_put_0 : decode cX0_put 0 = .ok (.bipush 24, 2) := dk_16 24 (dk_at dksX0_put_0 0 rfl rfl)
theorem dX0_put_2 : decode cX0_put 2 = .ok (.istore_n 2, 1) := dk_61 (dk_at dksX0_put_0 2 rfl rfl)
theorem dX0_put_3 : decode cX0_put 3 = .ok (.iload_n 2, 1) := dk_28 (dk_at dksX0_put_0 3 rfl rfl)
theorem dX0_put_4 : decode cX0_put 4 = .ok (.ifCond .lt 29, 3) := dk_155 0 29 (dk_at dksX0_put_0 4 rfl rfl)
theorem dX0_put_7 : decode cX0_put 7 = .ok (.aload_n 0, 1) := dk_42 (dk_at dksX0_put_0 7 rfl rfl)
theorem dX0_put_8 : decode cX0_put 8 = .ok (.getfield 35, 3) := dk_180 0 35 (dk_at dksX0_put_0 8 rfl rfl)
theorem dX0_put_11 : decode cX0_put 11 = .ok (.aload_n 0, 1) := dk_42 (dk_at dksX0_put_0 11 rfl rfl)
theorem dX0_put_12 : decode cX0_put 12 = .ok (.dup, 1) := dk_89 (dk_at dksX0_put_0 12 rfl rfl)
theorem dX0_put_13 : decode cX0_put 13 = .ok (.getfield 94, 3) := dk_180 0 94 (dk_at dksX0_put_0 13 rfl rfl)
theorem dX0_put_16 : decode cX0_put 16 = .ok (.dup_x1, 1) := dk_90 (dk_at dksX0_put_0 16 rfl rfl)
theorem dX0_put_17 : decode cX0_put 17 = .ok (.iconst 1, 1) := dk_4 (dk_at dksX0_put_0 17 rfl rfl)
theorem dX0_put_18 : decode cX0_put 18 = .ok (.iadd, 1) := dk_96 (dk_at dksX0_put_0 18 rfl rfl)
theorem dX0_put_19 : decode cX0_put 19 = .ok (.putfield 94, 3) := dk_181 0 94 (dk_at dksX0_put_0 19 rfl rfl)
theorem dX0_put_22 : decode cX0_put 22 = .ok (.iload_n 1, 1) := dk_27 (dk_at dksX0_put_0 22 rfl rfl)
theorem dX0_put_23 : decode cX0_put 23 = .ok (.iload_n 2, 1) := dk_28 (dk_at dksX0_put_0 23 rfl rfl)
theorem dX0_put_24 : decode cX0_put 24 = .ok (.ishr, 1) := dk_122 (dk_at dksX0_put_1 0 rfl rfl)
theorem dX0_put_25 : decode cX0_put 25 = .ok (.i2b, 1) := dk_145 (dk_at dksX0_put_1 1 rfl rfl)
theorem dX0_put_26 : decode cX0_put 26 = .ok (.bastore, 1) := dk_84 (dk_at dksX0_put_1 2 rfl rfl)
theorem dX0_put_27 : decode cX0_put 27 = .ok (.iinc 2 (-8), 3) := dk_132 2 248 (dk_at dksX0_put_1 3 rfl rfl)
theorem dX0_put_30 : decode cX0_put 30 = .ok (.goto (-27), 3) := dk_167 255 229 (dk_at dksX0_put_1 6 rfl rfl)
theorem dX0_put_33 : decode cX0_put 33 = .ok (.return_, 1) := dk_177 (dk_at dksX0_put_1 9 rfl rfl)
abbrev cX0_end : ByteArray := prog_1_method_11_code
def yX0_end : MethodName := ⟨RX0, "end", "(I)Z"⟩
def dkwX0_end_1 : List UInt8 := [3, 172, 42, 27, 181, 0, 94, 4, 172]
abbrev dktX0_end_1 : List UInt8 := dkwX0_end_1 ++ []
def dkwX0_end_0 : List UInt8 := [27, 155, 0, 11, 27, 42, 180, 0, 94, 164, 0, 17, 42, 3, 182, 0, 97, 155, 0, 7, 4, 167, 0, 4]
abbrev dktX0_end_0 : List UInt8 := dkwX0_end_0 ++ dktX0_end_1
theorem dksX0_end_0 : cX0_end.data.toList.drop 0 = dktX0_end_0 := by decide +kernel
theorem dksX0_end_1 : cX0_end.data.toList.drop 24 = dktX0_end_1 := dk_seg dksX0_end_0 24 rfl rfl
theorem dX0_end_0 : decode cX0_end 0 = .ok (.iload_n 1, 1) := dk_27 (dk_at dksX0_end_0 0 rfl rfl)
theorem dX0_end_1 : decode cX0_end 1 = .ok (.ifCond .lt 11, 3) := dk_155 0 11 (dk_at dksX0_end_0 1 rfl rfl)
theorem dX0_end_4 : decode cX0_end 4 = .ok (.iload_n 1, 1) := dk_27 (dk_at dksX0_end_0 4 rfl rfl)
theorem dX0_end_5 : decode cX0_end 5 = .ok (.aload_n 0, 1) := dk_42 (dk_at dksX0_end_0 5 rfl rfl)
theorem dX0_end_6 : decode cX0_end 6 = .ok (.getfield 94, 3) := dk_180 0 94 (dk_at dksX0_end_0 6 rfl rfl)
theorem dX0_end_9 : decode cX0_end 9 = .ok (.if_icmp .le 17, 3) := dk_164 0 17 (dk_at dksX0_end_0 9 rfl rfl)
theorem dX0_end_12 : decode cX0_end 12 = .ok (.aload_n 0, 1) := dk_42 (dk_at dksX0_end_0 12 rfl rfl)
theorem dX0_end_13 : decode cX0_end 13 = .ok (.iconst 0, 1) := dk_3 (dk_at dksX0_end_0 13 rfl rfl)
theorem dX0_end_14 : decode cX0_end 14 = .ok (.invokevirtual 97, 3) := dk_182 0 97 (dk_at dksX0_end_0 14 rfl rfl)
theorem dX0_end_17 : decode cX0_end 17 = .ok (.ifCond .lt 7, 3) := dk_155 0 7 (dk_at dksX0_end_0 17 rfl rfl)
theorem dX0_end_20 : decode cX0_end 20 = .ok (.iconst 1, 1) := dk_4 (dk_at dksX0_end_0 20 rfl rfl)
theorem dX0_end_21 : decode cX0_end 21 = .ok (.goto 4, 3) := dk_167 0 4 (dk_at dksX0_end_0 21 rfl rfl)
theorem dX0_end_24 : decode cX0_end 24 = .ok (.iconst 0, 1) := dk_3 (dk_at dksX0_end_1 0 rfl rfl)
theorem dX0_end_25 : decode cX0_end 25 = .ok (.ireturn, 1) := dk_172 (dk_at dksX0_end_1 1 rfl rfl)
theorem dX0_end_26 : decode cX0_end 26 = .ok (.aload_n 0, 1) := dk_42 (dk_at dksX0_end_1 2 rfl rfl)
theorem dX0_end_27 : decode cX0_end 27 = .ok (.iload_n 1, 1) := dk_27 (dk_at dksX0_end_1 3 rfl rfl)
theorem dX0_end_28 : decode cX0_end 28 = .ok (.putfield 94, 3) := dk_181 0 94 (dk_at dksX0_end_1 4 rfl rfl)
theorem dX0_end_31 : decode cX0_end 31 = .ok (.iconst 1, 1) := dk_4 (dk_at dksX0_end_1 7 rfl rfl)
theorem dX0_end_32 : decode cX0_end 32 = .ok (.ireturn, 1) := dk_172 (dk_at dksX0_end_1 8 rfl rfl)
abbrev cX0_shop : ByteArray := prog_1_method_13_code
def yX0_shop : MethodName := ⟨RX0, "shop", "()I"⟩
def dkwX0_shop_3 : List UInt8 := [172]
abbrev dktX0_shop_3 : List UInt8 := dkwX0_shop_3 ++ []
def dkwX0_shop_2 : List UInt8 := [4, 182, 0, 97, 172, 42, 180, 0, 69, 182, 0, 124, 42, 3, 181, 0, 127, 42, 180, 0, 31, 180, 0, 130]
abbrev dktX0_shop_2 : List UInt8 := dkwX0_shop_2 ++ dktX0_shop_3
def dkwX0_shop_1 : List UInt8 := [181, 0, 31, 167, 0, 26, 76, 42, 43, 180, 0, 118, 181, 0, 105, 42, 43, 180, 0, 121, 181, 0, 39, 42]
abbrev dktX0_shop_1 : List UInt8 := dkwX0_shop_1 ++ dktX0_shop_2
def dkwX0_shop_0 : List UInt8 := [42, 3, 181, 0, 105, 42, 2, 181, 0, 39, 42, 42, 180, 0, 48, 42, 182, 0, 108, 182, 0, 112]
abbrev dktX0_shop_0 : List UInt8 := dkwX0_shop_0 ++ dktX0_shop_1
theorem dksX0_shop_0 : cX0_shop.data.toList.drop 0 = dktX0_shop_0 := by decide +kernel
theorem dksX0_shop_1 : cX0_shop.data.toList.drop 22 = dktX0_shop_1 := dk_seg dksX0_shop_0 22 rfl rfl
theorem dksX0_shop_2 : cX0_shop.data.toList.drop 46 = dktX0_shop_2 := dk_seg dksX0_shop_1 24 rfl rfl
theorem dksX0_shop_3 : cX0_shop.data.toList.drop 70 = dktX0_shop_3 := dk_seg dksX0_shop_2 24 rfl rfl
theorem dX0_shop_0 : decode cX0_shop 0 = .ok (.aload_n 0, 1) := dk_42 (dk_at dksX0_shop_0 0 rfl rfl)
theorem dX0_shop_1 : decode cX0_shop 1 = .ok (.iconst 0, 1) := dk_3 (dk_at dksX0_shop_0 1 rfl rfl)
theorem dX0_shop_2 : decode cX0_shop 2 = .ok (.putfield 105, 3) := dk_181 0 105 (dk_at dksX0_shop_0 2 rfl rfl)
theorem dX0_shop_5 : decode cX0_shop 5 = .ok (.aload_n 0, 1) := dk_42 (dk_at dksX0_shop_0 5 rfl rfl)
theorem dX0_shop_6 : decode cX0_shop 6 = .ok (.iconst (-1), 1) := dk_2 (dk_at dksX0_shop_0 6 rfl rfl)
theorem dX0_shop_7 : decode cX0_shop 7 = .ok (.putfield 39, 3) := dk_181 0 39 (dk_at dksX0_shop_0 7 rfl rfl)
theorem dX0_shop_10 : decode cX0_shop 10 = .ok (.aload_n 0, 1) := dk_42 (dk_at dksX0_shop_0 10 rfl rfl)
theorem dX0_shop_11 : decode cX0_shop 11 = .ok (.aload_n 0, 1) := dk_42 (dk_at dksX0_shop_0 11 rfl rfl)
theorem dX0_shop_12 : decode cX0_shop 12 = .ok (.getfield 48, 3) := dk_180 0 48 (dk_at dksX0_shop_0 12 rfl rfl)
theorem dX0_shop_15 : decode cX0_shop 15 = .ok (.aload_n 0, 1) := dk_42 (dk_at dksX0_shop_0 15 rfl rfl)
theorem dX0_shop_16 : decode cX0_shop 16 = .ok (.invokevirtual 108, 3) := dk_182 0 108 (dk_at dksX0_shop_0 16 rfl rfl)
theorem dX0_shop_19 : decode cX0_shop 19 = .ok (.invokevirtual 112, 3) := dk_182 0 112 (dk_at dksX0_shop_0 19 rfl rfl)
theorem dX0_shop_22 : decode cX0_shop 22 = .ok (.putfield 31, 3) := dk_181 0 31 (dk_at dksX0_shop_1 0 rfl rfl)
theorem dX0_shop_25 : decode cX0_shop 25 = .ok (.goto 26, 3) := dk_167 0 26 (dk_at dksX0_shop_1 3 rfl rfl)
theorem dX0_shop_28 : decode cX0_shop 28 = .ok (.astore_n 1, 1) := dk_76 (dk_at dksX0_shop_1 6 rfl rfl)
theorem dX0_shop_29 : decode cX0_shop 29 = .ok (.aload_n 0, 1) := dk_42 (dk_at dksX0_shop_1 7 rfl rfl)
theorem dX0_shop_30 : decode cX0_shop 30 = .ok (.aload_n 1, 1) := dk_43 (dk_at dksX0_shop_1 8 rfl rfl)
theorem dX0_shop_31 : decode cX0_shop 31 = .ok (.getfield 118, 3) := dk_180 0 118 (dk_at dksX0_shop_1 9 rfl rfl)
theorem dX0_shop_34 : decode cX0_shop 34 = .ok (.putfield 105, 3) := dk_181 0 105 (dk_at dksX0_shop_1 12 rfl rfl)
theorem dX0_shop_37 : decode cX0_shop 37 = .ok (.aload_n 0, 1) := dk_42 (dk_at dksX0_shop_1 15 rfl rfl)
theorem dX0_shop_38 : decode cX0_shop 38 = .ok (.aload_n 1, 1) := dk_43 (dk_at dksX0_shop_1 16 rfl rfl)
theorem dX0_shop_39 : decode cX0_shop 39 = .ok (.getfield 121, 3) := dk_180 0 121 (dk_at dksX0_shop_1 17 rfl rfl)
theorem dX0_shop_42 : decode cX0_shop 42 = .ok (.putfield 39, 3) := dk_181 0 39 (dk_at dksX0_shop_1 20 rfl rfl)
theorem dX0_shop_45 : decode cX0_shop 45 = .ok (.aload_n 0, 1) := dk_42 (dk_at dksX0_shop_1 23 rfl rfl)
theorem dX0_shop_46 : decode cX0_shop 46 = .ok (.iconst 1, 1) := dk_4 (dk_at dksX0_shop_2 0 rfl rfl)
theorem dX0_shop_47 : decode cX0_shop 47 = .ok (.invokevirtual 97, 3) := dk_182 0 97 (dk_at dksX0_shop_2 1 rfl rfl)
theorem dX0_shop_50 : decode cX0_shop 50 = .ok (.ireturn, 1) := dk_172 (dk_at dksX0_shop_2 4 rfl rfl)
theorem dX0_shop_51 : decode cX0_shop 51 = .ok (.aload_n 0, 1) := dk_42 (dk_at dksX0_shop_2 5 rfl rfl)
theorem dX0_shop_52 : decode cX0_shop 52 = .ok (.getfield 69, 3) := dk_180 0 69 (dk_at dksX0_shop_2 6 rfl rfl)
theorem dX0_shop_55 : decode cX0_shop 55 = .ok (.invokevirtual 124, 3) := dk_182 0 124 (dk_at dksX0_shop_2 9 rfl rfl)
theorem dX0_shop_58 : decode cX0_shop 58 = .ok (.aload_n 0, 1) := dk_42 (dk_at dksX0_shop_2 12 rfl rfl)
theorem dX0_shop_59 : decode cX0_shop 59 = .ok (.iconst 0, 1) := dk_3 (dk_at dksX0_shop_2 13 rfl rfl)
theorem dX0_shop_60 : decode cX0_shop 60 = .ok (.putfield 127, 3) := dk_181 0 127 (dk_at dksX0_shop_2 14 rfl rfl)
theorem dX0_shop_63 : decode cX0_shop 63 = .ok (.aload_n 0, 1) := dk_42 (dk_at dksX0_shop_2 17 rfl rfl)
theorem dX0_shop_64 : decode cX0_shop 64 = .ok (.getfield 31, 3) := dk_180 0 31 (dk_at dksX0_shop_2 18 rfl rfl)
theorem dX0_shop_67 : decode cX0_shop 67 = .ok (.getfield 130, 3) := dk_180 0 130 (dk_at dksX0_shop_2 21 rfl rfl)
theorem dX0_shop_70 : decode cX0_shop 70 = .ok (.ireturn, 1) := dk_172 (dk_at dksX0_shop_3 0 rfl rfl)
abbrev cX0_taken : ByteArray := prog_1_method_12_code
def yX0_taken : MethodName := ⟨RX0, "taken", "()I"⟩
def dkwX0_taken_0 : List UInt8 := [42, 180, 0, 94, 60, 42, 3, 181, 0, 94, 27, 172]
abbrev dktX0_taken_0 : List UInt8 := dkwX0_taken_0 ++ []
theorem dksX0_taken_0 : cX0_taken.data.toList.drop 0 = dktX0_taken_0 := by decide +kernel
theorem dX0_taken_0 : decode cX0_taken 0 = .ok (.aload_n 0, 1) := dk_42 (dk_at dksX0_taken_0 0 rfl rfl)
theorem dX0_taken_1 : decode cX0_taken 1 = .ok (.getfield 94, 3) := dk_180 0 94 (dk_at dksX0_taken_0 1 rfl rfl)
theorem dX0_taken_4 : decode cX0_taken 4 = .ok (.istore_n 1, 1) := dk_60 (dk_at dksX0_taken_0 4 rfl rfl)
theorem dX0_taken_5 : decode cX0_taken 5 = .ok (.aload_n 0, 1) := dk_42 (dk_at dksX0_taken_0 5 rfl rfl)
theorem dX0_taken_6 : decode cX0_taken 6 = .ok (.iconst 0, 1) := dk_3 (dk_at dksX0_taken_0 6 rfl rfl)
theorem dX0_taken_7 : decode cX0_taken 7 = .ok (.putfield 94, 3) := dk_181 0 94 (dk_at dksX0_taken_0 7 rfl rfl)
theorem dX0_taken_10 : decode cX0_taken 10 = .ok (.iload_n 1, 1) := dk_27 (dk_at dksX0_taken_0 10 rfl rfl)
theorem dX0_taken_11 : decode cX0_taken 11 = .ok (.ireturn, 1) := dk_172 (dk_at dksX0_taken_0 11 rfl rfl)
abbrev cX0_isLetter : ByteArray := prog_1_method_4_code
def yX0_isLetter : MethodName := ⟨RX0, "isLetter", "(I)Z"⟩
def dkwX0_isLetter_0 : List UInt8 := [26, 16, 97, 161, 0, 13, 26, 16, 122, 163, 0, 7, 4, 167, 0, 4, 3, 172]
abbrev dktX0_isLetter_0 : List UInt8 := dkwX0_isLetter_0 ++ []
theorem dksX0_isLetter_0 : cX0_isLetter.data.toList.drop 0 = dktX0_isLetter_0 := by decide +kernel
theorem dX0_isLetter_0 : decode cX0_isLetter 0 = .ok (.iload_n 0, 1) := dk_26 (dk_at dksX0_isLetter_0 0 rfl rfl)
theorem dX0_isLetter_1 : decode cX0_isLetter 1 = .ok (.bipush 97, 2) := dk_16 97 (dk_at dksX0_isLetter_0 1 rfl rfl)
theorem dX0_isLetter_3 : decode cX0_isLetter 3 = .ok (.if_icmp .lt 13, 3) := dk_161 0 13 (dk_at dksX0_isLetter_0 3 rfl rfl)
theorem dX0_isLetter_6 : decode cX0_isLetter 6 = .ok (.iload_n 0, 1) := dk_26 (dk_at dksX0_isLetter_0 6 rfl rfl)
theorem dX0_isLetter_7 : decode cX0_isLetter 7 = .ok (.bipush 122, 2) := dk_16 122 (dk_at dksX0_isLetter_0 7 rfl rfl)
theorem dX0_isLetter_9 : decode cX0_isLetter 9 = .ok (.if_icmp .gt 7, 3) := dk_163 0 7 (dk_at dksX0_isLetter_0 9 rfl rfl)
theorem dX0_isLetter_12 : decode cX0_isLetter 12 = .ok (.iconst 1, 1) := dk_4 (dk_at dksX0_isLetter_0 12 rfl rfl)
theorem dX0_isLetter_13 : decode cX0_isLetter 13 = .ok (.goto 4, 3) := dk_167 0 4 (dk_at dksX0_isLetter_0 13 rfl rfl)
theorem dX0_isLetter_16 : decode cX0_isLetter 16 = .ok (.iconst 0, 1) := dk_3 (dk_at dksX0_isLetter_0 16 rfl rfl)
theorem dX0_isLetter_17 : decode cX0_isLetter 17 = .ok (.ireturn, 1) := dk_172 (dk_at dksX0_isLetter_0 17 rfl rfl)
abbrev cX0_isDigit : ByteArray := prog_1_method_5_code
def yX0_isDigit : MethodName := ⟨RX0, "isDigit", "(I)Z"⟩
def dkwX0_isDigit_0 : List UInt8 := [26, 16, 48, 161, 0, 13, 26, 16, 57, 163, 0, 7, 4, 167, 0, 4, 3, 172]
abbrev dktX0_isDigit_0 : List UInt8 := dkwX0_isDigit_0 ++ []
theorem dksX0_isDigit_0 : cX0_isDigit.data.toList.drop 0 = dktX0_isDigit_0 := by decide +kernel
theorem dX0_isDigit_0 : decode cX0_isDigit 0 = .ok (.iload_n 0, 1) := dk_26 (dk_at dksX0_isDigit_0 0 rfl rfl)
theorem dX0_isDigit_1 : decode cX0_isDigit 1 = .ok (.bipush 48, 2) := dk_16 48 (dk_at dksX0_isDigit_0 1 rfl rfl)
theorem dX0_isDigit_3 : decode cX0_isDigit 3 = .ok (.if_icmp .lt 13, 3) := dk_161 0 13 (dk_at dksX0_isDigit_0 3 rfl rfl)
theorem dX0_isDigit_6 : decode cX0_isDigit 6 = .ok (.iload_n 0, 1) := dk_26 (dk_at dksX0_isDigit_0 6 rfl rfl)
theorem dX0_isDigit_7 : decode cX0_isDigit 7 = .ok (.bipush 57, 2) := dk_16 57 (dk_at dksX0_isDigit_0 7 rfl rfl)
theorem dX0_isDigit_9 : decode cX0_isDigit 9 = .ok (.if_icmp .gt 7, 3) := dk_163 0 7 (dk_at dksX0_isDigit_0 9 rfl rfl)
theorem dX0_isDigit_12 : decode cX0_isDigit 12 = .ok (.iconst 1, 1) := dk_4 (dk_at dksX0_isDigit_0 12 rfl rfl)
theorem dX0_isDigit_13 : decode cX0_isDigit 13 = .ok (.goto 4, 3) := dk_167 0 4 (dk_at dksX0_isDigit_0 13 rfl rfl)
theorem dX0_isDigit_16 : decode cX0_isDigit 16 = .ok (.iconst 0, 1) := dk_3 (dk_at dksX0_isDigit_0 16 rfl rfl)
theorem dX0_isDigit_17 : decode cX0_isDigit 17 = .ok (.ireturn, 1) := dk_172 (dk_at dksX0_isDigit_0 17 rfl rfl)
abbrev cX0_find : ByteArray := prog_1_method_6_code
def yX0_find : MethodName := ⟨RX0, "find", "(Ljava/lang/String;[Ljava/lang/String;)I"⟩
def dkwX0_find_1 : List UInt8 := [167, 255, 235, 2, 172]
abbrev dktX0_find_1 : List UInt8 := dkwX0_find_1 ++ []
def dkwX0_find_0 : List UInt8 := [3, 61, 28, 43, 190, 162, 0, 21, 43, 28, 50, 42, 182, 0, 16, 153, 0, 5, 28, 172, 132, 2, 1]
abbrev dktX0_find_0 : List UInt8 := dkwX0_find_0 ++ dktX0_find_1
theorem dksX0_find_0 : cX0_find.data.toList.drop 0 = dktX0_find_0 := by decide +kernel
theorem dksX0_find_1 : cX0_find.data.toList.drop 23 = dktX0_find_1 := dk_seg dksX0_find_0 23 rfl rfl
theorem dX0_find_0 : decode cX0_find 0 = .ok (.iconst 0, 1) := dk_3 (dk_at dksX0_find_0 0 rfl rfl)
theorem dX0_find_1 : decode cX0_find 1 = .ok (.istore_n 2, 1) := dk_61 (dk_at dksX0_find_0 1 rfl rfl)
theorem dX0_find_2 : decode cX0_find 2 = .ok (.iload_n 2, 1) := dk_28 (dk_at dksX0_find_0 2 rfl rfl)
theorem dX0_find_3 : decode cX0_find 3 = .ok (.aload_n 1, 1) := dk_43 (dk_at dksX0_find_0 3 rfl rfl)
theorem dX0_find_4 : decode cX0_find 4 = .ok (.arraylength, 1) := dk_190 (dk_at dksX0_find_0 4 rfl rfl)
theorem dX0_find_5 : decode cX0_find 5 = .ok (.if_icmp .ge 21, 3) := dk_162 0 21 (dk_at dksX0_find_0 5 rfl rfl)
theorem dX0_find_8 : decode cX0_find 8 = .ok (.aload_n 1, 1) := dk_43 (dk_at dksX0_find_0 8 rfl rfl)
theorem dX0_find_9 : decode cX0_find 9 = .ok (.iload_n 2, 1) := dk_28 (dk_at dksX0_find_0 9 rfl rfl)
theorem dX0_find_10 : decode cX0_find 10 = .ok (.aaload, 1) := dk_50 (dk_at dksX0_find_0 10 rfl rfl)
theorem dX0_find_11 : decode cX0_find 11 = .ok (.aload_n 0, 1) := dk_42 (dk_at dksX0_find_0 11 rfl rfl)
theorem dX0_find_12 : decode cX0_find 12 = .ok (.invokevirtual 16, 3) := dk_182 0 16 (dk_at dksX0_find_0 12 rfl rfl)
theorem dX0_find_15 : decode cX0_find 15 = .ok (.ifCond .eq 5, 3) := dk_153 0 5 (dk_at dksX0_find_0 15 rfl rfl)
theorem dX0_find_18 : decode cX0_find 18 = .ok (.iload_n 2, 1) := dk_28 (dk_at dksX0_find_0 18 rfl rfl)
theorem dX0_find_19 : decode cX0_find 19 = .ok (.ireturn, 1) := dk_172 (dk_at dksX0_find_0 19 rfl rfl)
theorem dX0_find_20 : decode cX0_find 20 = .ok (.iinc 2 1, 3) := dk_132 2 1 (dk_at dksX0_find_0 20 rfl rfl)
theorem dX0_find_23 : decode cX0_find 23 = .ok (.goto (-21), 3) := dk_167 255 235 (dk_at dksX0_find_1 0 rfl rfl)
theorem dX0_find_26 : decode cX0_find 26 = .ok (.iconst (-1), 1) := dk_2 (dk_at dksX0_find_1 3 rfl rfl)
theorem dX0_find_27 : decode cX0_find 27 = .ok (.ireturn, 1) := dk_172 (dk_at dksX0_find_1 4 rfl rfl)
abbrev cX0_is : ByteArray := prog_1_method_1_code
def yX0_is : MethodName := ⟨RX0, "is", "(III)Z"⟩
def dkwX0_is_0 : List UInt8 := [26, 27, 161, 0, 12, 26, 28, 163, 0, 7, 4, 167, 0, 4, 3, 172]
abbrev dktX0_is_0 : List UInt8 := dkwX0_is_0 ++ []
theorem dksX0_is_0 : cX0_is.data.toList.drop 0 = dktX0_is_0 := by decide +kernel
theorem dX0_is_0 : decode cX0_is 0 = .ok (.iload_n 0, 1) := dk_26 (dk_at dksX0_is_0 0 rfl rfl)
theorem dX0_is_1 : decode cX0_is 1 = .ok (.iload_n 1, 1) := dk_27 (dk_at dksX0_is_0 1 rfl rfl)
theorem dX0_is_2 : decode cX0_is 2 = .ok (.if_icmp .lt 12, 3) := dk_161 0 12 (dk_at dksX0_is_0 2 rfl rfl)
theorem dX0_is_5 : decode cX0_is 5 = .ok (.iload_n 0, 1) := dk_26 (dk_at dksX0_is_0 5 rfl rfl)
theorem dX0_is_6 : decode cX0_is 6 = .ok (.iload_n 2, 1) := dk_28 (dk_at dksX0_is_0 6 rfl rfl)
theorem dX0_is_7 : decode cX0_is 7 = .ok (.if_icmp .gt 7, 3) := dk_163 0 7 (dk_at dksX0_is_0 7 rfl rfl)
theorem dX0_is_10 : decode cX0_is 10 = .ok (.iconst 1, 1) := dk_4 (dk_at dksX0_is_0 10 rfl rfl)
theorem dX0_is_11 : decode cX0_is 11 = .ok (.goto 4, 3) := dk_167 0 4 (dk_at dksX0_is_0 11 rfl rfl)
theorem dX0_is_14 : decode cX0_is 14 = .ok (.iconst 0, 1) := dk_3 (dk_at dksX0_is_0 14 rfl rfl)
theorem dX0_is_15 : decode cX0_is 15 = .ok (.ireturn, 1) := dk_172 (dk_at dksX0_is_0 15 rfl rfl)
abbrev cX0_has : ByteArray := prog_1_method_2_code
def yX0_has : MethodName := ⟨RX0, "has", "(II)Z"⟩
def dkwX0_has_0 : List UInt8 := [26, 27, 122, 4, 126, 4, 160, 0, 7, 4, 167, 0, 4, 3, 172]
abbrev dktX0_has_0 : List UInt8 := dkwX0_has_0 ++ []
theorem dksX0_has_0 : cX0_has.data.toList.drop 0 = dktX0_has_0 := by decide +kernel
theorem dX0_has_0 : decode cX0_has 0 = .ok (.iload_n 0, 1) := dk_26 (dk_at dksX0_has_0 0 rfl rfl)
theorem dX0_has_1 : decode cX0_has 1 = .ok (.iload_n 1, 1) := dk_27 (dk_at dksX0_has_0 1 rfl rfl)
theorem dX0_has_2 : decode cX0_has 2 = .ok (.ishr, 1) := dk_122 (dk_at dksX0_has_0 2 rfl rfl)
theorem dX0_has_3 : decode cX0_has 3 = .ok (.iconst 1, 1) := dk_4 (dk_at dksX0_has_0 3 rfl rfl)
theorem dX0_has_4 : decode cX0_has 4 = .ok (.iand, 1) := dk_126 (dk_at dksX0_has_0 4 rfl rfl)
theorem dX0_has_5 : decode cX0_has 5 = .ok (.iconst 1, 1) := dk_4 (dk_at dksX0_has_0 5 rfl rfl)
theorem dX0_has_6 : decode cX0_has 6 = .ok (.if_icmp .ne 7, 3) := dk_160 0 7 (dk_at dksX0_has_0 6 rfl rfl)
theorem dX0_has_9 : decode cX0_has 9 = .ok (.iconst 1, 1) := dk_4 (dk_at dksX0_has_0 9 rfl rfl)
theorem dX0_has_10 : decode cX0_has 10 = .ok (.goto 4, 3) := dk_167 0 4 (dk_at dksX0_has_0 10 rfl rfl)
theorem dX0_has_13 : decode cX0_has 13 = .ok (.iconst 0, 1) := dk_3 (dk_at dksX0_has_0 13 rfl rfl)
theorem dX0_has_14 : decode cX0_has 14 = .ok (.ireturn, 1) := dk_172 (dk_at dksX0_has_0 14 rfl rfl)
abbrev cX0_boards : ByteArray := prog_1_method_16_code
def yX0_boards : MethodName := ⟨RX0, "boards", "()I"⟩
def dkwX0_boards_0 : List UInt8 := [42, 180, 0, 31, 180, 0, 142, 185, 0, 137, 1, 0, 172]
abbrev dktX0_boards_0 : List UInt8 := dkwX0_boards_0 ++ []
theorem dksX0_boards_0 : cX0_boards.data.toList.drop 0 = dktX0_boards_0 := by decide +kernel
theorem dX0_boards_0 : decode cX0_boards 0 = .ok (.aload_n 0, 1) := dk_42 (dk_at dksX0_boards_0 0 rfl rfl)
theorem dX0_boards_1 : decode cX0_boards 1 = .ok (.getfield 31, 3) := dk_180 0 31 (dk_at dksX0_boards_0 1 rfl rfl)
theorem dX0_boards_4 : decode cX0_boards 4 = .ok (.getfield 142, 3) := dk_180 0 142 (dk_at dksX0_boards_0 4 rfl rfl)
theorem dX0_boards_7 : decode cX0_boards 7 = .ok (.invokeinterface 137 1, 5) := by decide +kernel
theorem dX0_boards_12 : decode cX0_boards 12 = .ok (.ireturn, 1) := dk_172 (dk_at dksX0_boards_0 12 rfl rfl)
abbrev cX0_fault : ByteArray := prog_1_method_14_code
def yX0_fault : MethodName := ⟨RX0, "fault", "(I)I"⟩
def dkwX0_fault_1 : List UInt8 := [172]
abbrev dktX0_fault_1 : List UInt8 := dkwX0_fault_1 ++ []
def dkwX0_fault_0 : List UInt8 := [27, 154, 0, 10, 42, 180, 0, 105, 167, 0, 16, 27, 4, 160, 0, 10, 42, 180, 0, 39, 167, 0, 4, 2]
abbrev dktX0_fault_0 : List UInt8 := dkwX0_fault_0 ++ dktX0_fault_1
theorem dksX0_fault_0 : cX0_fault.data.toList.drop 0 = dktX0_fault_0 := by decide +kernel
theorem dksX0_fault_1 : cX0_fault.data.toList.drop 24 = dktX0_fault_1 := dk_seg dksX0_fault_0 24 rfl rfl
theorem dX0_fault_0 : decode cX0_fault 0 = .ok (.iload_n 1, 1) := dk_27 (dk_at dksX0_fault_0 0 rfl rfl)
theorem dX0_fault_1 : decode cX0_fault 1 = .ok (.ifCond .ne 10, 3) := dk_154 0 10 (dk_at dksX0_fault_0 1 rfl rfl)
theorem dX0_fault_4 : decode cX0_fault 4 = .ok (.aload_n 0, 1) := dk_42 (dk_at dksX0_fault_0 4 rfl rfl)
theorem dX0_fault_5 : decode cX0_fault 5 = .ok (.getfield 105, 3) := dk_180 0 105 (dk_at dksX0_fault_0 5 rfl rfl)
theorem dX0_fault_8 : decode cX0_fault 8 = .ok (.goto 16, 3) := dk_167 0 16 (dk_at dksX0_fault_0 8 rfl rfl)
theorem dX0_fault_11 : decode cX0_fault 11 = .ok (.iload_n 1, 1) := dk_27 (dk_at dksX0_fault_0 11 rfl rfl)
theorem dX0_fault_12 : decode cX0_fault 12 = .ok (.iconst 1, 1) := dk_4 (dk_at dksX0_fault_0 12 rfl rfl)
theorem dX0_fault_13 : decode cX0_fault 13 = .ok (.if_icmp .ne 10, 3) := dk_160 0 10 (dk_at dksX0_fault_0 13 rfl rfl)
theorem dX0_fault_16 : decode cX0_fault 16 = .ok (.aload_n 0, 1) := dk_42 (dk_at dksX0_fault_0 16 rfl rfl)
theorem dX0_fault_17 : decode cX0_fault 17 = .ok (.getfield 39, 3) := dk_180 0 39 (dk_at dksX0_fault_0 17 rfl rfl)
theorem dX0_fault_20 : decode cX0_fault 20 = .ok (.goto 4, 3) := dk_167 0 4 (dk_at dksX0_fault_0 20 rfl rfl)
theorem dX0_fault_23 : decode cX0_fault 23 = .ok (.iconst (-1), 1) := dk_2 (dk_at dksX0_fault_0 23 rfl rfl)
theorem dX0_fault_24 : decode cX0_fault 24 = .ok (.ireturn, 1) := dk_172 (dk_at dksX0_fault_1 0 rfl rfl)
abbrev cX0_has_2 : ByteArray := prog_1_method_28_code
def yX0_has_2 : MethodName := ⟨RX0, "has", "(I)I"⟩
def dkwX0_has_2_4 : List UInt8 := [167, 255, 234, 28, 172, 42, 180, 0, 69, 180, 0, 224, 172, 42, 180, 0, 127, 172, 2, 172]
abbrev dktX0_has_2_4 : List UInt8 := dkwX0_has_2_4 ++ []
def dkwX0_has_2_3 : List UInt8 := [3, 62, 29, 42, 182, 0, 147, 162, 0, 20, 28, 42, 180, 0, 69, 29, 182, 0, 221, 96, 61, 132, 3, 1]
abbrev dktX0_has_2_3 : List UInt8 := dkwX0_has_2_3 ++ dktX0_has_2_4
def dkwX0_has_2_2 : List UInt8 := [42, 27, 182, 0, 164, 172, 42, 182, 0, 145, 172, 42, 182, 0, 147, 172, 42, 180, 0, 69, 180, 0, 218, 172]
abbrev dktX0_has_2_2 : List UInt8 := dkwX0_has_2_2 ++ dktX0_has_2_3
def dkwX0_has_2_1 : List UInt8 := [170, 0, 0, 0, 111, 0, 0, 0, 0, 0, 0, 0, 7, 0, 0, 0, 45, 0, 0, 0, 45, 0, 0, 0, 51, 0, 0, 0, 56, 0, 0, 0, 61, 0, 0, 0, 69, 0, 0, 0, 98, 0, 0, 0, 106]
abbrev dktX0_has_2_1 : List UInt8 := dkwX0_has_2_1 ++ dktX0_has_2_2
def dkwX0_has_2_0 : List UInt8 := [3, 61, 27]
abbrev dktX0_has_2_0 : List UInt8 := dkwX0_has_2_0 ++ dktX0_has_2_1
theorem dksX0_has_2_0 : cX0_has_2.data.toList.drop 0 = dktX0_has_2_0 := by decide +kernel
theorem dksX0_has_2_1 : cX0_has_2.data.toList.drop 3 = dktX0_has_2_1 := dk_seg dksX0_has_2_0 3 rfl rfl
theorem dksX0_has_2_2 : cX0_has_2.data.toList.drop 48 = dktX0_has_2_2 := dk_seg dksX0_has_2_1 45 rfl rfl
theorem dksX0_has_2_3 : cX0_has_2.data.toList.drop 72 = dktX0_has_2_3 := dk_seg dksX0_has_2_2 24 rfl rfl
theorem dksX0_has_2_4 : cX0_has_2.data.toList.drop 96 = dktX0_has_2_4 := dk_seg dksX0_has_2_3 24 rfl rfl
theorem dX0_has_2_0 : decode cX0_has_2 0 = .ok (.iconst 0, 1) := dk_3 (dk_at dksX0_has_2_0 0 rfl rfl)
theorem dX0_has_2_1 : decode cX0_has_2 1 = .ok (.istore_n 2, 1) := dk_61 (dk_at dksX0_has_2_0 1 rfl rfl)
theorem dX0_has_2_2 : decode cX0_has_2 2 = .ok (.iload_n 1, 1) := dk_27 (dk_at dksX0_has_2_0 2 rfl rfl)
theorem dX0_has_2_3 : decode cX0_has_2 3 = .ok (.tableswitch 111 0 7 #[45, 45, 51, 56, 61, 69, 98, 106], 45) := by decide +kernel
theorem dX0_has_2_48 : decode cX0_has_2 48 = .ok (.aload_n 0, 1) := dk_42 (dk_at dksX0_has_2_2 0 rfl rfl)
theorem dX0_has_2_49 : decode cX0_has_2 49 = .ok (.iload_n 1, 1) := dk_27 (dk_at dksX0_has_2_2 1 rfl rfl)
theorem dX0_has_2_50 : decode cX0_has_2 50 = .ok (.invokevirtual 164, 3) := dk_182 0 164 (dk_at dksX0_has_2_2 2 rfl rfl)
theorem dX0_has_2_53 : decode cX0_has_2 53 = .ok (.ireturn, 1) := dk_172 (dk_at dksX0_has_2_2 5 rfl rfl)
theorem dX0_has_2_54 : decode cX0_has_2 54 = .ok (.aload_n 0, 1) := dk_42 (dk_at dksX0_has_2_2 6 rfl rfl)
theorem dX0_has_2_55 : decode cX0_has_2 55 = .ok (.invokevirtual 145, 3) := dk_182 0 145 (dk_at dksX0_has_2_2 7 rfl rfl)
theorem dX0_has_2_58 : decode cX0_has_2 58 = .ok (.ireturn, 1) := dk_172 (dk_at dksX0_has_2_2 10 rfl rfl)
theorem dX0_has_2_59 : decode cX0_has_2 59 = .ok (.aload_n 0, 1) := dk_42 (dk_at dksX0_has_2_2 11 rfl rfl)
theorem dX0_has_2_60 : decode cX0_has_2 60 = .ok (.invokevirtual 147, 3) := dk_182 0 147 (dk_at dksX0_has_2_2 12 rfl rfl)
theorem dX0_has_2_63 : decode cX0_has_2 63 = .ok (.ireturn, 1) := dk_172 (dk_at dksX0_has_2_2 15 rfl rfl)
theorem dX0_has_2_64 : decode cX0_has_2 64 = .ok (.aload_n 0, 1) := dk_42 (dk_at dksX0_has_2_2 16 rfl rfl)
theorem dX0_has_2_65 : decode cX0_has_2 65 = .ok (.getfield 69, 3) := dk_180 0 69 (dk_at dksX0_has_2_2 17 rfl rfl)
theorem dX0_has_2_68 : decode cX0_has_2 68 = .ok (.getfield 218, 3) := dk_180 0 218 (dk_at dksX0_has_2_2 20 rfl rfl)
theorem dX0_has_2_71 : decode cX0_has_2 71 = .ok (.ireturn, 1) := dk_172 (dk_at dksX0_has_2_2 23 rfl rfl)
theorem dX0_has_2_72 : decode cX0_has_2 72 = .ok (.iconst 0, 1) := dk_3 (dk_at dksX0_has_2_3 0 rfl rfl)
theorem dX0_has_2_73 : decode cX0_has_2 73 = .ok (.istore_n 3, 1) := dk_62 (dk_at dksX0_has_2_3 1 rfl rfl)
theorem dX0_has_2_74 : decode cX0_has_2 74 = .ok (.iload_n 3, 1) := dk_29 (dk_at dksX0_has_2_3 2 rfl rfl)
theorem dX0_has_2_75 : decode cX0_has_2 75 = .ok (.aload_n 0, 1) := dk_42 (dk_at dksX0_has_2_3 3 rfl rfl)
theorem dX0_has_2_76 : decode cX0_has_2 76 = .ok (.invokevirtual 147, 3) := dk_182 0 147 (dk_at dksX0_has_2_3 4 rfl rfl)
theorem dX0_has_2_79 : decode cX0_has_2 79 = .ok (.if_icmp .ge 20, 3) := dk_162 0 20 (dk_at dksX0_has_2_3 7 rfl rfl)
theorem dX0_has_2_82 : decode cX0_has_2 82 = .ok (.iload_n 2, 1) := dk_28 (dk_at dksX0_has_2_3 10 rfl rfl)
theorem dX0_has_2_83 : decode cX0_has_2 83 = .ok (.aload_n 0, 1) := dk_42 (dk_at dksX0_has_2_3 11 rfl rfl)
theorem dX0_has_2_84 : decode cX0_has_2 84 = .ok (.getfield 69, 3) := dk_180 0 69 (dk_at dksX0_has_2_3 12 rfl rfl)
theorem dX0_has_2_87 : decode cX0_has_2 87 = .ok (.iload_n 3, 1) := dk_29 (dk_at dksX0_has_2_3 15 rfl rfl)
theorem dX0_has_2_88 : decode cX0_has_2 88 = .ok (.invokevirtual 221, 3) := dk_182 0 221 (dk_at dksX0_has_2_3 16 rfl rfl)
theorem dX0_has_2_91 : decode cX0_has_2 91 = .ok (.iadd, 1) := dk_96 (dk_at dksX0_has_2_3 19 rfl rfl)
theorem dX0_has_2_92 : decode cX0_has_2 92 = .ok (.istore_n 2, 1) := dk_61 (dk_at dksX0_has_2_3 20 rfl rfl)
theorem dX0_has_2_93 : decode cX0_has_2 93 = .ok (.iinc 3 1, 3) := dk_132 3 1 (dk_at dksX0_has_2_3 21 rfl rfl)
theorem dX0_has_2_96 : decode cX0_has_2 96 = .ok (.goto (-22), 3) := dk_167 255 234 (dk_at dksX0_has_2_4 0 rfl rfl)
theorem dX0_has_2_99 : decode cX0_has_2 99 = .ok (.iload_n 2, 1) := dk_28 (dk_at dksX0_has_2_4 3 rfl rfl)
theorem dX0_has_2_100 : decode cX0_has_2 100 = .ok (.ireturn, 1) := dk_172 (dk_at dksX0_has_2_4 4 rfl rfl)
theorem dX0_has_2_101 : decode cX0_has_2 101 = .ok (.aload_n 0, 1) := dk_42 (dk_at dksX0_has_2_4 5 rfl rfl)
theorem dX0_has_2_102 : decode cX0_has_2 102 = .ok (.getfield 69, 3) := dk_180 0 69 (dk_at dksX0_has_2_4 6 rfl rfl)
theorem dX0_has_2_105 : decode cX0_has_2 105 = .ok (.getfield 224, 3) := dk_180 0 224 (dk_at dksX0_has_2_4 9 rfl rfl)
theorem dX0_has_2_108 : decode cX0_has_2 108 = .ok (.ireturn, 1) := dk_172 (dk_at dksX0_has_2_4 12 rfl rfl)
theorem dX0_has_2_109 : decode cX0_has_2 109 = .ok (.aload_n 0, 1) := dk_42 (dk_at dksX0_has_2_4 13 rfl rfl)
theorem dX0_has_2_110 : decode cX0_has_2 110 = .ok (.getfield 127, 3) := dk_180 0 127 (dk_at dksX0_has_2_4 14 rfl rfl)
theorem dX0_has_2_113 : decode cX0_has_2 113 = .ok (.ireturn, 1) := dk_172 (dk_at dksX0_has_2_4 17 rfl rfl)
theorem dX0_has_2_114 : decode cX0_has_2 114 = .ok (.iconst (-1), 1) := dk_2 (dk_at dksX0_has_2_4 18 rfl rfl)
theorem dX0_has_2_115 : decode cX0_has_2 115 = .ok (.ireturn, 1) := dk_172 (dk_at dksX0_has_2_4 19 rfl rfl)
abbrev cX0_letters : ByteArray := prog_1_method_20_code
def yX0_letters : MethodName := ⟨RX0, "letters", "(I)I"⟩
def dkwX0_letters_0 : List UInt8 := [42, 180, 0, 31, 180, 0, 153, 27, 185, 0, 156, 2, 0, 192, 0, 138, 185, 0, 137, 1, 0, 172]
abbrev dktX0_letters_0 : List UInt8 := dkwX0_letters_0 ++ []
theorem dksX0_letters_0 : cX0_letters.data.toList.drop 0 = dktX0_letters_0 := by decide +kernel
theorem dX0_letters_0 : decode cX0_letters 0 = .ok (.aload_n 0, 1) := dk_42 (dk_at dksX0_letters_0 0 rfl rfl)
theorem dX0_letters_1 : decode cX0_letters 1 = .ok (.getfield 31, 3) := dk_180 0 31 (dk_at dksX0_letters_0 1 rfl rfl)
theorem dX0_letters_4 : decode cX0_letters 4 = .ok (.getfield 153, 3) := dk_180 0 153 (dk_at dksX0_letters_0 4 rfl rfl)
theorem dX0_letters_7 : decode cX0_letters 7 = .ok (.iload_n 1, 1) := dk_27 (dk_at dksX0_letters_0 7 rfl rfl)
theorem dX0_letters_8 : decode cX0_letters 8 = .ok (.invokeinterface 156 2, 5) := by decide +kernel
theorem dX0_letters_13 : decode cX0_letters 13 = .ok (.checkcast 138, 3) := dk_192 0 138 (dk_at dksX0_letters_0 13 rfl rfl)
theorem dX0_letters_16 : decode cX0_letters 16 = .ok (.invokeinterface 137 1, 5) := by decide +kernel
theorem dX0_letters_21 : decode cX0_letters 21 = .ok (.ireturn, 1) := dk_172 (dk_at dksX0_letters_0 21 rfl rfl)
abbrev cX0_words : ByteArray := prog_1_method_15_code
def yX0_words : MethodName := ⟨RX0, "words", "()I"⟩
def dkwX0_words_0 : List UInt8 := [42, 180, 0, 31, 180, 0, 133, 185, 0, 137, 1, 0, 172]
abbrev dktX0_words_0 : List UInt8 := dkwX0_words_0 ++ []
theorem dksX0_words_0 : cX0_words.data.toList.drop 0 = dktX0_words_0 := by decide +kernel
theorem dX0_words_0 : decode cX0_words 0 = .ok (.aload_n 0, 1) := dk_42 (dk_at dksX0_words_0 0 rfl rfl)
theorem dX0_words_1 : decode cX0_words 1 = .ok (.getfield 31, 3) := dk_180 0 31 (dk_at dksX0_words_0 1 rfl rfl)
theorem dX0_words_4 : decode cX0_words 4 = .ok (.getfield 133, 3) := dk_180 0 133 (dk_at dksX0_words_0 4 rfl rfl)
theorem dX0_words_7 : decode cX0_words 7 = .ok (.invokeinterface 137 1, 5) := by decide +kernel
theorem dX0_words_12 : decode cX0_words 12 = .ok (.ireturn, 1) := dk_172 (dk_at dksX0_words_0 12 rfl rfl)
abbrev cX0_letter : ByteArray := prog_1_method_29_code
def yX0_letter : MethodName := ⟨RX0, "letter", "(III)I"⟩
def dkwX0_letter_2 : List UInt8 := [160, 0, 11, 25, 4, 182, 0, 195, 167, 0, 4, 2, 172]
abbrev dktX0_letter_2 : List UInt8 := dkwX0_letter_2 ++ []
def dkwX0_letter_1 : List UInt8 := [25, 4, 180, 0, 215, 167, 0, 30, 29, 4, 160, 0, 11, 25, 4, 180, 0, 177, 167, 0, 17, 29, 5]
abbrev dktX0_letter_1 : List UInt8 := dkwX0_letter_1 ++ dktX0_letter_2
def dkwX0_letter_0 : List UInt8 := [42, 27, 28, 182, 0, 227, 154, 0, 5, 2, 172, 42, 27, 28, 182, 0, 207, 58, 4, 29, 154, 0, 11]
abbrev dktX0_letter_0 : List UInt8 := dkwX0_letter_0 ++ dktX0_letter_1
theorem dksX0_letter_0 : cX0_letter.data.toList.drop 0 = dktX0_letter_0 := by decide +kernel
theorem dksX0_letter_1 : cX0_letter.data.toList.drop 23 = dktX0_letter_1 := dk_seg dksX0_letter_0 23 rfl rfl
theorem dksX0_letter_2 : cX0_letter.data.toList.drop 46 = dktX0_letter_2 := dk_seg dksX0_letter_1 23 rfl rfl
theorem dX0_letter_0 : decode cX0_letter 0 = .ok (.aload_n 0, 1) := dk_42 (dk_at dksX0_letter_0 0 rfl rfl)
theorem dX0_letter_1 : decode cX0_letter 1 = .ok (.iload_n 1, 1) := dk_27 (dk_at dksX0_letter_0 1 rfl rfl)
theorem dX0_letter_2 : decode cX0_letter 2 = .ok (.iload_n 2, 1) := dk_28 (dk_at dksX0_letter_0 2 rfl rfl)
theorem dX0_letter_3 : decode cX0_letter 3 = .ok (.invokevirtual 227, 3) := dk_182 0 227 (dk_at dksX0_letter_0 3 rfl rfl)
theorem dX0_letter_6 : decode cX0_letter 6 = .ok (.ifCond .ne 5, 3) := dk_154 0 5 (dk_at dksX0_letter_0 6 rfl rfl)
theorem dX0_letter_9 : decode cX0_letter 9 = .ok (.iconst (-1), 1) := dk_2 (dk_at dksX0_letter_0 9 rfl rfl)
theorem dX0_letter_10 : decode cX0_letter 10 = .ok (.ireturn, 1) := dk_172 (dk_at dksX0_letter_0 10 rfl rfl)
theorem dX0_letter_11 : decode cX0_letter 11 = .ok (.aload_n 0, 1) := dk_42 (dk_at dksX0_letter_0 11 rfl rfl)
theorem dX0_letter_12 : decode cX0_letter 12 = .ok (.iload_n 1, 1) := dk_27 (dk_at dksX0_letter_0 12 rfl rfl)
theorem dX0_letter_13 : decode cX0_letter 13 = .ok (.iload_n 2, 1) := dk_28 (dk_at dksX0_letter_0 13 rfl rfl)
theorem dX0_letter_14 : decode cX0_letter 14 = .ok (.invokevirtual 207, 3) := dk_182 0 207 (dk_at dksX0_letter_0 14 rfl rfl)
theorem dX0_letter_17 : decode cX0_letter 17 = .ok (.astore 4, 2) := dk_58 4 (dk_at dksX0_letter_0 17 rfl rfl)
theorem dX0_letter_19 : decode cX0_letter 19 = .ok (.iload_n 3, 1) := dk_29 (dk_at dksX0_letter_0 19 rfl rfl)
theorem dX0_letter_20 : decode cX0_letter 20 = .ok (.ifCond .ne 11, 3) := dk_154 0 11 (dk_at dksX0_letter_0 20 rfl rfl)
theorem dX0_letter_23 : decode cX0_letter 23 = .ok (.aload 4, 2) := dk_25 4 (dk_at dksX0_letter_1 0 rfl rfl)
theorem dX0_letter_25 : decode cX0_letter 25 = .ok (.getfield 215, 3) := dk_180 0 215 (dk_at dksX0_letter_1 2 rfl rfl)
theorem dX0_letter_28 : decode cX0_letter 28 = .ok (.goto 30, 3) := dk_167 0 30 (dk_at dksX0_letter_1 5 rfl rfl)
theorem dX0_letter_31 : decode cX0_letter 31 = .ok (.iload_n 3, 1) := dk_29 (dk_at dksX0_letter_1 8 rfl rfl)
theorem dX0_letter_32 : decode cX0_letter 32 = .ok (.iconst 1, 1) := dk_4 (dk_at dksX0_letter_1 9 rfl rfl)
theorem dX0_letter_33 : decode cX0_letter 33 = .ok (.if_icmp .ne 11, 3) := dk_160 0 11 (dk_at dksX0_letter_1 10 rfl rfl)
theorem dX0_letter_36 : decode cX0_letter 36 = .ok (.aload 4, 2) := dk_25 4 (dk_at dksX0_letter_1 13 rfl rfl)
theorem dX0_letter_38 : decode cX0_letter 38 = .ok (.getfield 177, 3) := dk_180 0 177 (dk_at dksX0_letter_1 15 rfl rfl)
theorem dX0_letter_41 : decode cX0_letter 41 = .ok (.goto 17, 3) := dk_167 0 17 (dk_at dksX0_letter_1 18 rfl rfl)
theorem dX0_letter_44 : decode cX0_letter 44 = .ok (.iload_n 3, 1) := dk_29 (dk_at dksX0_letter_1 21 rfl rfl)
theorem dX0_letter_45 : decode cX0_letter 45 = .ok (.iconst 2, 1) := dk_5 (dk_at dksX0_letter_1 22 rfl rfl)
theorem dX0_letter_46 : decode cX0_letter 46 = .ok (.if_icmp .ne 11, 3) := dk_160 0 11 (dk_at dksX0_letter_2 0 rfl rfl)
theorem dX0_letter_49 : decode cX0_letter 49 = .ok (.aload 4, 2) := dk_25 4 (dk_at dksX0_letter_2 3 rfl rfl)
theorem dX0_letter_51 : decode cX0_letter 51 = .ok (.invokevirtual 195, 3) := dk_182 0 195 (dk_at dksX0_letter_2 5 rfl rfl)
theorem dX0_letter_54 : decode cX0_letter 54 = .ok (.goto 4, 3) := dk_167 0 4 (dk_at dksX0_letter_2 8 rfl rfl)
theorem dX0_letter_57 : decode cX0_letter 57 = .ok (.iconst (-1), 1) := dk_2 (dk_at dksX0_letter_2 11 rfl rfl)
theorem dX0_letter_58 : decode cX0_letter 58 = .ok (.ireturn, 1) := dk_172 (dk_at dksX0_letter_2 12 rfl rfl)
abbrev cX0_isLetterOf : ByteArray := prog_1_method_21_code
def yX0_isLetterOf : MethodName := ⟨RX0, "isLetterOf", "(II)Z"⟩
def dkwX0_isLetterOf_1 : List UInt8 := [3, 172]
abbrev dktX0_isLetterOf_1 : List UInt8 := dkwX0_isLetterOf_1 ++ []
def dkwX0_isLetterOf_0 : List UInt8 := [27, 184, 0, 160, 153, 0, 20, 28, 155, 0, 16, 28, 42, 27, 182, 0, 164, 162, 0, 7, 4, 167, 0, 4]
abbrev dktX0_isLetterOf_0 : List UInt8 := dkwX0_isLetterOf_0 ++ dktX0_isLetterOf_1
theorem dksX0_isLetterOf_0 : cX0_isLetterOf.data.toList.drop 0 = dktX0_isLetterOf_0 := by decide +kernel
theorem dksX0_isLetterOf_1 : cX0_isLetterOf.data.toList.drop 24 = dktX0_isLetterOf_1 := dk_seg dksX0_isLetterOf_0 24 rfl rfl
theorem dX0_isLetterOf_0 : decode cX0_isLetterOf 0 = .ok (.iload_n 1, 1) := dk_27 (dk_at dksX0_isLetterOf_0 0 rfl rfl)
theorem dX0_isLetterOf_1 : decode cX0_isLetterOf 1 = .ok (.invokestatic 160, 3) := dk_184 0 160 (dk_at dksX0_isLetterOf_0 1 rfl rfl)
theorem dX0_isLetterOf_4 : decode cX0_isLetterOf 4 = .ok (.ifCond .eq 20, 3) := dk_153 0 20 (dk_at dksX0_isLetterOf_0 4 rfl rfl)
theorem dX0_isLetterOf_7 : decode cX0_isLetterOf 7 = .ok (.iload_n 2, 1) := dk_28 (dk_at dksX0_isLetterOf_0 7 rfl rfl)
theorem dX0_isLetterOf_8 : decode cX0_isLetterOf 8 = .ok (.ifCond .lt 16, 3) := dk_155 0 16 (dk_at dksX0_isLetterOf_0 8 rfl rfl)
theorem dX0_isLetterOf_11 : decode cX0_isLetterOf 11 = .ok (.iload_n 2, 1) := dk_28 (dk_at dksX0_isLetterOf_0 11 rfl rfl)
theorem dX0_isLetterOf_12 : decode cX0_isLetterOf 12 = .ok (.aload_n 0, 1) := dk_42 (dk_at dksX0_isLetterOf_0 12 rfl rfl)
theorem dX0_isLetterOf_13 : decode cX0_isLetterOf 13 = .ok (.iload_n 1, 1) := dk_27 (dk_at dksX0_isLetterOf_0 13 rfl rfl)
theorem dX0_isLetterOf_14 : decode cX0_isLetterOf 14 = .ok (.invokevirtual 164, 3) := dk_182 0 164 (dk_at dksX0_isLetterOf_0 14 rfl rfl)
theorem dX0_isLetterOf_17 : decode cX0_isLetterOf 17 = .ok (.if_icmp .ge 7, 3) := dk_162 0 7 (dk_at dksX0_isLetterOf_0 17 rfl rfl)
theorem dX0_isLetterOf_20 : decode cX0_isLetterOf 20 = .ok (.iconst 1, 1) := dk_4 (dk_at dksX0_isLetterOf_0 20 rfl rfl)
theorem dX0_isLetterOf_21 : decode cX0_isLetterOf 21 = .ok (.goto 4, 3) := dk_167 0 4 (dk_at dksX0_isLetterOf_0 21 rfl rfl)
theorem dX0_isLetterOf_24 : decode cX0_isLetterOf 24 = .ok (.iconst 0, 1) := dk_3 (dk_at dksX0_isLetterOf_1 0 rfl rfl)
theorem dX0_isLetterOf_25 : decode cX0_isLetterOf 25 = .ok (.ireturn, 1) := dk_172 (dk_at dksX0_isLetterOf_1 1 rfl rfl)
abbrev cX0_isHand : ByteArray := prog_1_method_19_code
def yX0_isHand : MethodName := ⟨RX0, "isHand", "(I)Z"⟩
def dkwX0_isHand_0 : List UInt8 := [26, 3, 4, 184, 0, 149, 172]
abbrev dktX0_isHand_0 : List UInt8 := dkwX0_isHand_0 ++ []
theorem dksX0_isHand_0 : cX0_isHand.data.toList.drop 0 = dktX0_isHand_0 := by decide +kernel
theorem dX0_isHand_0 : decode cX0_isHand 0 = .ok (.iload_n 0, 1) := dk_26 (dk_at dksX0_isHand_0 0 rfl rfl)
theorem dX0_isHand_1 : decode cX0_isHand 1 = .ok (.iconst 0, 1) := dk_3 (dk_at dksX0_isHand_0 1 rfl rfl)
theorem dX0_isHand_2 : decode cX0_isHand 2 = .ok (.iconst 1, 1) := dk_4 (dk_at dksX0_isHand_0 2 rfl rfl)
theorem dX0_isHand_3 : decode cX0_isHand 3 = .ok (.invokestatic 149, 3) := dk_184 0 149 (dk_at dksX0_isHand_0 3 rfl rfl)
theorem dX0_isHand_6 : decode cX0_isHand 6 = .ok (.ireturn, 1) := dk_172 (dk_at dksX0_isHand_0 6 rfl rfl)
abbrev cX0_letterOf : ByteArray := prog_1_method_22_code
def yX0_letterOf : MethodName := ⟨RX0, "letterOf", "(II)LTurnedBoards$Letter;"⟩
def dkwX0_letterOf_1 : List UInt8 := [192, 0, 166, 176]
abbrev dktX0_letterOf_1 : List UInt8 := dkwX0_letterOf_1 ++ []
def dkwX0_letterOf_0 : List UInt8 := [42, 180, 0, 31, 180, 0, 153, 27, 185, 0, 156, 2, 0, 192, 0, 138, 28, 185, 0, 156, 2, 0]
abbrev dktX0_letterOf_0 : List UInt8 := dkwX0_letterOf_0 ++ dktX0_letterOf_1
theorem dksX0_letterOf_0 : cX0_letterOf.data.toList.drop 0 = dktX0_letterOf_0 := by decide +kernel
theorem dksX0_letterOf_1 : cX0_letterOf.data.toList.drop 22 = dktX0_letterOf_1 := dk_seg dksX0_letterOf_0 22 rfl rfl
theorem dX0_letterOf_0 : decode cX0_letterOf 0 = .ok (.aload_n 0, 1) := dk_42 (dk_at dksX0_letterOf_0 0 rfl rfl)
theorem dX0_letterOf_1 : decode cX0_letterOf 1 = .ok (.getfield 31, 3) := dk_180 0 31 (dk_at dksX0_letterOf_0 1 rfl rfl)
theorem dX0_letterOf_4 : decode cX0_letterOf 4 = .ok (.getfield 153, 3) := dk_180 0 153 (dk_at dksX0_letterOf_0 4 rfl rfl)
theorem dX0_letterOf_7 : decode cX0_letterOf 7 = .ok (.iload_n 1, 1) := dk_27 (dk_at dksX0_letterOf_0 7 rfl rfl)
theorem dX0_letterOf_8 : decode cX0_letterOf 8 = .ok (.invokeinterface 156 2, 5) := by decide +kernel
theorem dX0_letterOf_13 : decode cX0_letterOf 13 = .ok (.checkcast 138, 3) := dk_192 0 138 (dk_at dksX0_letterOf_0 13 rfl rfl)
theorem dX0_letterOf_16 : decode cX0_letterOf 16 = .ok (.iload_n 2, 1) := dk_28 (dk_at dksX0_letterOf_0 16 rfl rfl)
theorem dX0_letterOf_17 : decode cX0_letterOf 17 = .ok (.invokeinterface 156 2, 5) := by decide +kernel
theorem dX0_letterOf_22 : decode cX0_letterOf 22 = .ok (.checkcast 166, 3) := dk_192 0 166 (dk_at dksX0_letterOf_1 0 rfl rfl)
theorem dX0_letterOf_25 : decode cX0_letterOf 25 = .ok (.areturn, 1) := dk_176 (dk_at dksX0_letterOf_1 3 rfl rfl)
abbrev cX0_word : ByteArray := prog_1_method_30_code
def yX0_word : MethodName := ⟨RX0, "word", "(II)I"⟩
def dkwX0_word_1 : List UInt8 := [27, 185, 0, 156, 2, 0, 192, 0, 171, 28, 182, 0, 231, 167, 0, 4, 2, 172]
abbrev dktX0_word_1 : List UInt8 := dkwX0_word_1 ++ []
def dkwX0_word_0 : List UInt8 := [42, 27, 182, 0, 168, 153, 0, 35, 28, 3, 8, 184, 0, 149, 153, 0, 26, 42, 180, 0, 31, 180, 0, 133]
abbrev dktX0_word_0 : List UInt8 := dkwX0_word_0 ++ dktX0_word_1
theorem dksX0_word_0 : cX0_word.data.toList.drop 0 = dktX0_word_0 := by decide +kernel
theorem dksX0_word_1 : cX0_word.data.toList.drop 24 = dktX0_word_1 := dk_seg dksX0_word_0 24 rfl rfl
theorem dX0_word_0 : decode cX0_word 0 = .ok (.aload_n 0, 1) := dk_42 (dk_at dksX0_word_0 0 rfl rfl)
theorem dX0_word_1 : decode cX0_word 1 = .ok (.iload_n 1, 1) := dk_27 (dk_at dksX0_word_0 1 rfl rfl)
theorem dX0_word_2 : decode cX0_word 2 = .ok (.invokevirtual 168, 3) := dk_182 0 168 (dk_at dksX0_word_0 2 rfl rfl)
theorem dX0_word_5 : decode cX0_word 5 = .ok (.ifCond .eq 35, 3) := dk_153 0 35 (dk_at dksX0_word_0 5 rfl rfl)
theorem dX0_word_8 : decode cX0_word 8 = .ok (.iload_n 2, 1) := dk_28 (dk_at dksX0_word_0 8 rfl rfl)
theorem dX0_word_9 : decode cX0_word 9 = .ok (.iconst 0, 1) := dk_3 (dk_at dksX0_word_0 9 rfl rfl)
theorem dX0_word_10 : decode cX0_word 10 = .ok (.iconst 5, 1) := dk_8 (dk_at dksX0_word_0 10 rfl rfl)
theorem dX0_word_11 : decode cX0_word 11 = .ok (.invokestatic 149, 3) := dk_184 0 149 (dk_at dksX0_word_0 11 rfl rfl)
theorem dX0_word_14 : decode cX0_word 14 = .ok (.ifCond .eq 26, 3) := dk_153 0 26 (dk_at dksX0_word_0 14 rfl rfl)
theorem dX0_word_17 : decode cX0_word 17 = .ok (.aload_n 0, 1) := dk_42 (dk_at dksX0_word_0 17 rfl rfl)
theorem dX0_word_18 : decode cX0_word 18 = .ok (.getfield 31, 3) := dk_180 0 31 (dk_at dksX0_word_0 18 rfl rfl)
theorem dX0_word_21 : decode cX0_word 21 = .ok (.getfield 133, 3) := dk_180 0 133 (dk_at dksX0_word_0 21 rfl rfl)
theorem dX0_word_24 : decode cX0_word 24 = .ok (.iload_n 1, 1) := dk_27 (dk_at dksX0_word_1 0 rfl rfl)
theorem dX0_word_25 : decode cX0_word 25 = .ok (.invokeinterface 156 2, 5) := by decide +kernel
theorem dX0_word_30 : decode cX0_word 30 = .ok (.checkcast 171, 3) := dk_192 0 171 (dk_at dksX0_word_1 6 rfl rfl)
theorem dX0_word_33 : decode cX0_word 33 = .ok (.iload_n 2, 1) := dk_28 (dk_at dksX0_word_1 9 rfl rfl)
theorem dX0_word_34 : decode cX0_word 34 = .ok (.invokevirtual 231, 3) := dk_182 0 231 (dk_at dksX0_word_1 10 rfl rfl)
theorem dX0_word_37 : decode cX0_word 37 = .ok (.goto 4, 3) := dk_167 0 4 (dk_at dksX0_word_1 13 rfl rfl)
theorem dX0_word_40 : decode cX0_word 40 = .ok (.iconst (-1), 1) := dk_2 (dk_at dksX0_word_1 16 rfl rfl)
theorem dX0_word_41 : decode cX0_word 41 = .ok (.ireturn, 1) := dk_172 (dk_at dksX0_word_1 17 rfl rfl)
abbrev cX0_isWord : ByteArray := prog_1_method_17_code
def yX0_isWord : MethodName := ⟨RX0, "isWord", "(I)Z"⟩
def dkwX0_isWord_0 : List UInt8 := [27, 155, 0, 15, 27, 42, 182, 0, 145, 162, 0, 7, 4, 167, 0, 4, 3, 172]
abbrev dktX0_isWord_0 : List UInt8 := dkwX0_isWord_0 ++ []
theorem dksX0_isWord_0 : cX0_isWord.data.toList.drop 0 = dktX0_isWord_0 := by decide +kernel
theorem dX0_isWord_0 : decode cX0_isWord 0 = .ok (.iload_n 1, 1) := dk_27 (dk_at dksX0_isWord_0 0 rfl rfl)
theorem dX0_isWord_1 : decode cX0_isWord 1 = .ok (.ifCond .lt 15, 3) := dk_155 0 15 (dk_at dksX0_isWord_0 1 rfl rfl)
theorem dX0_isWord_4 : decode cX0_isWord 4 = .ok (.iload_n 1, 1) := dk_27 (dk_at dksX0_isWord_0 4 rfl rfl)
theorem dX0_isWord_5 : decode cX0_isWord 5 = .ok (.aload_n 0, 1) := dk_42 (dk_at dksX0_isWord_0 5 rfl rfl)
theorem dX0_isWord_6 : decode cX0_isWord 6 = .ok (.invokevirtual 145, 3) := dk_182 0 145 (dk_at dksX0_isWord_0 6 rfl rfl)
theorem dX0_isWord_9 : decode cX0_isWord 9 = .ok (.if_icmp .ge 7, 3) := dk_162 0 7 (dk_at dksX0_isWord_0 9 rfl rfl)
theorem dX0_isWord_12 : decode cX0_isWord 12 = .ok (.iconst 1, 1) := dk_4 (dk_at dksX0_isWord_0 12 rfl rfl)
theorem dX0_isWord_13 : decode cX0_isWord 13 = .ok (.goto 4, 3) := dk_167 0 4 (dk_at dksX0_isWord_0 13 rfl rfl)
theorem dX0_isWord_16 : decode cX0_isWord 16 = .ok (.iconst 0, 1) := dk_3 (dk_at dksX0_isWord_0 16 rfl rfl)
theorem dX0_isWord_17 : decode cX0_isWord 17 = .ok (.ireturn, 1) := dk_172 (dk_at dksX0_isWord_0 17 rfl rfl)
abbrev cX0_board : ByteArray := prog_1_method_31_code
def yX0_board : MethodName := ⟨RX0, "board", "(II)I"⟩
def dkwX0_board_2 : List UInt8 := [160, 0, 14, 42, 180, 0, 69, 27, 182, 0, 242, 167, 0, 4, 2, 172]
abbrev dktX0_board_2 : List UInt8 := dkwX0_board_2 ++ []
def dkwX0_board_1 : List UInt8 := [46, 167, 0, 37, 28, 4, 160, 0, 15, 42, 180, 0, 69, 180, 0, 239, 27, 46, 167, 0, 20, 28, 5]
abbrev dktX0_board_1 : List UInt8 := dkwX0_board_1 ++ dktX0_board_2
def dkwX0_board_0 : List UInt8 := [42, 27, 182, 0, 233, 154, 0, 7, 2, 167, 0, 53, 28, 154, 0, 15, 42, 180, 0, 69, 180, 0, 236, 27]
abbrev dktX0_board_0 : List UInt8 := dkwX0_board_0 ++ dktX0_board_1
theorem dksX0_board_0 : cX0_board.data.toList.drop 0 = dktX0_board_0 := by decide +kernel
theorem dksX0_board_1 : cX0_board.data.toList.drop 24 = dktX0_board_1 := dk_seg dksX0_board_0 24 rfl rfl
theorem dksX0_board_2 : cX0_board.data.toList.drop 47 = dktX0_board_2 := dk_seg dksX0_board_1 23 rfl rfl
theorem dX0_board_0 : decode cX0_board 0 = .ok (.aload_n 0, 1) := dk_42 (dk_at dksX0_board_0 0 rfl rfl)
theorem dX0_board_1 : decode cX0_board 1 = .ok (.iload_n 1, 1) := dk_27 (dk_at dksX0_board_0 1 rfl rfl)
theorem dX0_board_2 : decode cX0_board 2 = .ok (.invokevirtual 233, 3) := dk_182 0 233 (dk_at dksX0_board_0 2 rfl rfl)
theorem dX0_board_5 : decode cX0_board 5 = .ok (.ifCond .ne 7, 3) := dk_154 0 7 (dk_at dksX0_board_0 5 rfl rfl)
theorem dX0_board_8 : decode cX0_board 8 = .ok (.iconst (-1), 1) := dk_2 (dk_at dksX0_board_0 8 rfl rfl)
theorem dX0_board_9 : decode cX0_board 9 = .ok (.goto 53, 3) := dk_167 0 53 (dk_at dksX0_board_0 9 rfl rfl)
theorem dX0_board_12 : decode cX0_board 12 = .ok (.iload_n 2, 1) := dk_28 (dk_at dksX0_board_0 12 rfl rfl)
theorem dX0_board_13 : decode cX0_board 13 = .ok (.ifCond .ne 15, 3) := dk_154 0 15 (dk_at dksX0_board_0 13 rfl rfl)
theorem dX0_board_16 : decode cX0_board 16 = .ok (.aload_n 0, 1) := dk_42 (dk_at dksX0_board_0 16 rfl rfl)
theorem dX0_board_17 : decode cX0_board 17 = .ok (.getfield 69, 3) := dk_180 0 69 (dk_at dksX0_board_0 17 rfl rfl)
theorem dX0_board_20 : decode cX0_board 20 = .ok (.getfield 236, 3) := dk_180 0 236 (dk_at dksX0_board_0 20 rfl rfl)
theorem dX0_board_23 : decode cX0_board 23 = .ok (.iload_n 1, 1) := dk_27 (dk_at dksX0_board_0 23 rfl rfl)
theorem dX0_board_24 : decode cX0_board 24 = .ok (.iaload, 1) := dk_46 (dk_at dksX0_board_1 0 rfl rfl)
theorem dX0_board_25 : decode cX0_board 25 = .ok (.goto 37, 3) := dk_167 0 37 (dk_at dksX0_board_1 1 rfl rfl)
theorem dX0_board_28 : decode cX0_board 28 = .ok (.iload_n 2, 1) := dk_28 (dk_at dksX0_board_1 4 rfl rfl)
theorem dX0_board_29 : decode cX0_board 29 = .ok (.iconst 1, 1) := dk_4 (dk_at dksX0_board_1 5 rfl rfl)
theorem dX0_board_30 : decode cX0_board 30 = .ok (.if_icmp .ne 15, 3) := dk_160 0 15 (dk_at dksX0_board_1 6 rfl rfl)
theorem dX0_board_33 : decode cX0_board 33 = .ok (.aload_n 0, 1) := dk_42 (dk_at dksX0_board_1 9 rfl rfl)
theorem dX0_board_34 : decode cX0_board 34 = .ok (.getfield 69, 3) := dk_180 0 69 (dk_at dksX0_board_1 10 rfl rfl)
theorem dX0_board_37 : decode cX0_board 37 = .ok (.getfield 239, 3) := dk_180 0 239 (dk_at dksX0_board_1 13 rfl rfl)
theorem dX0_board_40 : decode cX0_board 40 = .ok (.iload_n 1, 1) := dk_27 (dk_at dksX0_board_1 16 rfl rfl)
theorem dX0_board_41 : decode cX0_board 41 = .ok (.iaload, 1) := dk_46 (dk_at dksX0_board_1 17 rfl rfl)
theorem dX0_board_42 : decode cX0_board 42 = .ok (.goto 20, 3) := dk_167 0 20 (dk_at dksX0_board_1 18 rfl rfl)
theorem dX0_board_45 : decode cX0_board 45 = .ok (.iload_n 2, 1) := dk_28 (dk_at dksX0_board_1 21 rfl rfl)
theorem dX0_board_46 : decode cX0_board 46 = .ok (.iconst 2, 1) := dk_5 (dk_at dksX0_board_1 22 rfl rfl)
theorem dX0_board_47 : decode cX0_board 47 = .ok (.if_icmp .ne 14, 3) := dk_160 0 14 (dk_at dksX0_board_2 0 rfl rfl)
theorem dX0_board_50 : decode cX0_board 50 = .ok (.aload_n 0, 1) := dk_42 (dk_at dksX0_board_2 3 rfl rfl)
theorem dX0_board_51 : decode cX0_board 51 = .ok (.getfield 69, 3) := dk_180 0 69 (dk_at dksX0_board_2 4 rfl rfl)
theorem dX0_board_54 : decode cX0_board 54 = .ok (.iload_n 1, 1) := dk_27 (dk_at dksX0_board_2 7 rfl rfl)
theorem dX0_board_55 : decode cX0_board 55 = .ok (.invokevirtual 242, 3) := dk_182 0 242 (dk_at dksX0_board_2 8 rfl rfl)
theorem dX0_board_58 : decode cX0_board 58 = .ok (.goto 4, 3) := dk_167 0 4 (dk_at dksX0_board_2 11 rfl rfl)
theorem dX0_board_61 : decode cX0_board 61 = .ok (.iconst (-1), 1) := dk_2 (dk_at dksX0_board_2 14 rfl rfl)
theorem dX0_board_62 : decode cX0_board 62 = .ok (.ireturn, 1) := dk_172 (dk_at dksX0_board_2 15 rfl rfl)
abbrev cX0_isBoard : ByteArray := prog_1_method_18_code
def yX0_isBoard : MethodName := ⟨RX0, "isBoard", "(I)Z"⟩
def dkwX0_isBoard_0 : List UInt8 := [27, 155, 0, 15, 27, 42, 182, 0, 147, 162, 0, 7, 4, 167, 0, 4, 3, 172]
abbrev dktX0_isBoard_0 : List UInt8 := dkwX0_isBoard_0 ++ []
theorem dksX0_isBoard_0 : cX0_isBoard.data.toList.drop 0 = dktX0_isBoard_0 := by decide +kernel
theorem dX0_isBoard_0 : decode cX0_isBoard 0 = .ok (.iload_n 1, 1) := dk_27 (dk_at dksX0_isBoard_0 0 rfl rfl)
theorem dX0_isBoard_1 : decode cX0_isBoard 1 = .ok (.ifCond .lt 15, 3) := dk_155 0 15 (dk_at dksX0_isBoard_0 1 rfl rfl)
theorem dX0_isBoard_4 : decode cX0_isBoard 4 = .ok (.iload_n 1, 1) := dk_27 (dk_at dksX0_isBoard_0 4 rfl rfl)
theorem dX0_isBoard_5 : decode cX0_isBoard 5 = .ok (.aload_n 0, 1) := dk_42 (dk_at dksX0_isBoard_0 5 rfl rfl)
theorem dX0_isBoard_6 : decode cX0_isBoard 6 = .ok (.invokevirtual 147, 3) := dk_182 0 147 (dk_at dksX0_isBoard_0 6 rfl rfl)
theorem dX0_isBoard_9 : decode cX0_isBoard 9 = .ok (.if_icmp .ge 7, 3) := dk_162 0 7 (dk_at dksX0_isBoard_0 9 rfl rfl)
theorem dX0_isBoard_12 : decode cX0_isBoard 12 = .ok (.iconst 1, 1) := dk_4 (dk_at dksX0_isBoard_0 12 rfl rfl)
theorem dX0_isBoard_13 : decode cX0_isBoard 13 = .ok (.goto 4, 3) := dk_167 0 4 (dk_at dksX0_isBoard_0 13 rfl rfl)
theorem dX0_isBoard_16 : decode cX0_isBoard 16 = .ok (.iconst 0, 1) := dk_3 (dk_at dksX0_isBoard_0 16 rfl rfl)
theorem dX0_isBoard_17 : decode cX0_isBoard 17 = .ok (.ireturn, 1) := dk_172 (dk_at dksX0_isBoard_0 17 rfl rfl)
abbrev cX0_glyph : ByteArray := prog_1_method_33_code
def yX0_glyph : MethodName := ⟨RX0, "glyph", "(II)I"⟩
def dkwX0_glyph_1 : List UInt8 := [172]
abbrev dktX0_glyph_1 : List UInt8 := dkwX0_glyph_1 ++ []
def dkwX0_glyph_0 : List UInt8 := [42, 27, 28, 182, 0, 245, 153, 0, 17, 42, 180, 0, 69, 180, 0, 248, 27, 50, 28, 46, 167, 0, 4, 2]
abbrev dktX0_glyph_0 : List UInt8 := dkwX0_glyph_0 ++ dktX0_glyph_1
theorem dksX0_glyph_0 : cX0_glyph.data.toList.drop 0 = dktX0_glyph_0 := by decide +kernel
theorem dksX0_glyph_1 : cX0_glyph.data.toList.drop 24 = dktX0_glyph_1 := dk_seg dksX0_glyph_0 24 rfl rfl
theorem dX0_glyph_0 : decode cX0_glyph 0 = .ok (.aload_n 0, 1) := dk_42 (dk_at dksX0_glyph_0 0 rfl rfl)
theorem dX0_glyph_1 : decode cX0_glyph 1 = .ok (.iload_n 1, 1) := dk_27 (dk_at dksX0_glyph_0 1 rfl rfl)
theorem dX0_glyph_2 : decode cX0_glyph 2 = .ok (.iload_n 2, 1) := dk_28 (dk_at dksX0_glyph_0 2 rfl rfl)
theorem dX0_glyph_3 : decode cX0_glyph 3 = .ok (.invokevirtual 245, 3) := dk_182 0 245 (dk_at dksX0_glyph_0 3 rfl rfl)
theorem dX0_glyph_6 : decode cX0_glyph 6 = .ok (.ifCond .eq 17, 3) := dk_153 0 17 (dk_at dksX0_glyph_0 6 rfl rfl)
theorem dX0_glyph_9 : decode cX0_glyph 9 = .ok (.aload_n 0, 1) := dk_42 (dk_at dksX0_glyph_0 9 rfl rfl)
theorem dX0_glyph_10 : decode cX0_glyph 10 = .ok (.getfield 69, 3) := dk_180 0 69 (dk_at dksX0_glyph_0 10 rfl rfl)
theorem dX0_glyph_13 : decode cX0_glyph 13 = .ok (.getfield 248, 3) := dk_180 0 248 (dk_at dksX0_glyph_0 13 rfl rfl)
theorem dX0_glyph_16 : decode cX0_glyph 16 = .ok (.iload_n 1, 1) := dk_27 (dk_at dksX0_glyph_0 16 rfl rfl)
theorem dX0_glyph_17 : decode cX0_glyph 17 = .ok (.aaload, 1) := dk_50 (dk_at dksX0_glyph_0 17 rfl rfl)
theorem dX0_glyph_18 : decode cX0_glyph 18 = .ok (.iload_n 2, 1) := dk_28 (dk_at dksX0_glyph_0 18 rfl rfl)
theorem dX0_glyph_19 : decode cX0_glyph 19 = .ok (.iaload, 1) := dk_46 (dk_at dksX0_glyph_0 19 rfl rfl)
theorem dX0_glyph_20 : decode cX0_glyph 20 = .ok (.goto 4, 3) := dk_167 0 4 (dk_at dksX0_glyph_0 20 rfl rfl)
theorem dX0_glyph_23 : decode cX0_glyph 23 = .ok (.iconst (-1), 1) := dk_2 (dk_at dksX0_glyph_0 23 rfl rfl)
theorem dX0_glyph_24 : decode cX0_glyph 24 = .ok (.ireturn, 1) := dk_172 (dk_at dksX0_glyph_1 0 rfl rfl)
abbrev cX0_isPlace : ByteArray := prog_1_method_32_code
def yX0_isPlace : MethodName := ⟨RX0, "isPlace", "(II)Z"⟩
def dkwX0_isPlace_1 : List UInt8 := [153, 0, 7, 4, 167, 0, 4, 3, 172]
abbrev dktX0_isPlace_1 : List UInt8 := dkwX0_isPlace_1 ++ []
def dkwX0_isPlace_0 : List UInt8 := [42, 27, 182, 0, 233, 153, 0, 25, 28, 3, 42, 180, 0, 69, 27, 182, 0, 242, 4, 100, 184, 0, 149]
abbrev dktX0_isPlace_0 : List UInt8 := dkwX0_isPlace_0 ++ dktX0_isPlace_1
theorem dksX0_isPlace_0 : cX0_isPlace.data.toList.drop 0 = dktX0_isPlace_0 := by decide +kernel
theorem dksX0_isPlace_1 : cX0_isPlace.data.toList.drop 23 = dktX0_isPlace_1 := dk_seg dksX0_isPlace_0 23 rfl rfl
theorem dX0_isPlace_0 : decode cX0_isPlace 0 = .ok (.aload_n 0, 1) := dk_42 (dk_at dksX0_isPlace_0 0 rfl rfl)
theorem dX0_isPlace_1 : decode cX0_isPlace 1 = .ok (.iload_n 1, 1) := dk_27 (dk_at dksX0_isPlace_0 1 rfl rfl)
theorem dX0_isPlace_2 : decode cX0_isPlace 2 = .ok (.invokevirtual 233, 3) := dk_182 0 233 (dk_at dksX0_isPlace_0 2 rfl rfl)
theorem dX0_isPlace_5 : decode cX0_isPlace 5 = .ok (.ifCond .eq 25, 3) := dk_153 0 25 (dk_at dksX0_isPlace_0 5 rfl rfl)
theorem dX0_isPlace_8 : decode cX0_isPlace 8 = .ok (.iload_n 2, 1) := dk_28 (dk_at dksX0_isPlace_0 8 rfl rfl)
theorem dX0_isPlace_9 : decode cX0_isPlace 9 = .ok (.iconst 0, 1) := dk_3 (dk_at dksX0_isPlace_0 9 rfl rfl)
theorem dX0_isPlace_10 : decode cX0_isPlace 10 = .ok (.aload_n 0, 1) := dk_42 (dk_at dksX0_isPlace_0 10 rfl rfl)
theorem dX0_isPlace_11 : decode cX0_isPlace 11 = .ok (.getfield 69, 3) := dk_180 0 69 (dk_at dksX0_isPlace_0 11 rfl rfl)
theorem dX0_isPlace_14 : decode cX0_isPlace 14 = .ok (.iload_n 1, 1) := dk_27 (dk_at dksX0_isPlace_0 14 rfl rfl)
theorem dX0_isPlace_15 : decode cX0_isPlace 15 = .ok (.invokevirtual 242, 3) := dk_182 0 242 (dk_at dksX0_isPlace_0 15 rfl rfl)
theorem dX0_isPlace_18 : decode cX0_isPlace 18 = .ok (.iconst 1, 1) := dk_4 (dk_at dksX0_isPlace_0 18 rfl rfl)
theorem dX0_isPlace_19 : decode cX0_isPlace 19 = .ok (.isub, 1) := dk_100 (dk_at dksX0_isPlace_0 19 rfl rfl)
theorem dX0_isPlace_20 : decode cX0_isPlace 20 = .ok (.invokestatic 149, 3) := dk_184 0 149 (dk_at dksX0_isPlace_0 20 rfl rfl)
theorem dX0_isPlace_23 : decode cX0_isPlace 23 = .ok (.ifCond .eq 7, 3) := dk_153 0 7 (dk_at dksX0_isPlace_1 0 rfl rfl)
theorem dX0_isPlace_26 : decode cX0_isPlace 26 = .ok (.iconst 1, 1) := dk_4 (dk_at dksX0_isPlace_1 3 rfl rfl)
theorem dX0_isPlace_27 : decode cX0_isPlace 27 = .ok (.goto 4, 3) := dk_167 0 4 (dk_at dksX0_isPlace_1 4 rfl rfl)
theorem dX0_isPlace_30 : decode cX0_isPlace 30 = .ok (.iconst 0, 1) := dk_3 (dk_at dksX0_isPlace_1 7 rfl rfl)
theorem dX0_isPlace_31 : decode cX0_isPlace 31 = .ok (.ireturn, 1) := dk_172 (dk_at dksX0_isPlace_1 8 rfl rfl)
abbrev cX0_kept : ByteArray := prog_1_method_34_code
def yX0_kept : MethodName := ⟨RX0, "kept", "(II)I"⟩
def dkwX0_kept_1 : List UInt8 := [153, 0, 17, 42, 180, 0, 69, 180, 0, 251, 27, 50, 28, 46, 167, 0, 4, 2, 172]
abbrev dktX0_kept_1 : List UInt8 := dkwX0_kept_1 ++ []
def dkwX0_kept_0 : List UInt8 := [27, 3, 42, 180, 0, 69, 180, 0, 224, 4, 100, 184, 0, 149, 153, 0, 26, 28, 3, 5, 184, 0, 149]
abbrev dktX0_kept_0 : List UInt8 := dkwX0_kept_0 ++ dktX0_kept_1
theorem dksX0_kept_0 : cX0_kept.data.toList.drop 0 = dktX0_kept_0 := by decide +kernel
theorem dksX0_kept_1 : cX0_kept.data.toList.drop 23 = dktX0_kept_1 := dk_seg dksX0_kept_0 23 rfl rfl
theorem dX0_kept_0 : decode cX0_kept 0 = .ok (.iload_n 1, 1) := dk_27 (dk_at dksX0_kept_0 0 rfl rfl)
theorem dX0_kept_1 : decode cX0_kept 1 = .ok (.iconst 0, 1) := dk_3 (dk_at dksX0_kept_0 1 rfl rfl)
theorem dX0_kept_2 : decode cX0_kept 2 = .ok (.aload_n 0, 1) := dk_42 (dk_at dksX0_kept_0 2 rfl rfl)
theorem dX0_kept_3 : decode cX0_kept 3 = .ok (.getfield 69, 3) := dk_180 0 69 (dk_at dksX0_kept_0 3 rfl rfl)
theorem dX0_kept_6 : decode cX0_kept 6 = .ok (.getfield 224, 3) := dk_180 0 224 (dk_at dksX0_kept_0 6 rfl rfl)
theorem dX0_kept_9 : decode cX0_kept 9 = .ok (.iconst 1, 1) := dk_4 (dk_at dksX0_kept_0 9 rfl rfl)
theorem dX0_kept_10 : decode cX0_kept 10 = .ok (.isub, 1) := dk_100 (dk_at dksX0_kept_0 10 rfl rfl)
theorem dX0_kept_11 : decode cX0_kept 11 = .ok (.invokestatic 149, 3) := dk_184 0 149 (dk_at dksX0_kept_0 11 rfl rfl)
theorem dX0_kept_14 : decode cX0_kept 14 = .ok (.ifCond .eq 26, 3) := dk_153 0 26 (dk_at dksX0_kept_0 14 rfl rfl)
theorem dX0_kept_17 : decode cX0_kept 17 = .ok (.iload_n 2, 1) := dk_28 (dk_at dksX0_kept_0 17 rfl rfl)
theorem dX0_kept_18 : decode cX0_kept 18 = .ok (.iconst 0, 1) := dk_3 (dk_at dksX0_kept_0 18 rfl rfl)
theorem dX0_kept_19 : decode cX0_kept 19 = .ok (.iconst 2, 1) := dk_5 (dk_at dksX0_kept_0 19 rfl rfl)
theorem dX0_kept_20 : decode cX0_kept 20 = .ok (.invokestatic 149, 3) := dk_184 0 149 (dk_at dksX0_kept_0 20 rfl rfl)
theorem dX0_kept_23 : decode cX0_kept 23 = .ok (.ifCond .eq 17, 3) := dk_153 0 17 (dk_at dksX0_kept_1 0 rfl rfl)
theorem dX0_kept_26 : decode cX0_kept 26 = .ok (.aload_n 0, 1) := dk_42 (dk_at dksX0_kept_1 3 rfl rfl)
theorem dX0_kept_27 : decode cX0_kept 27 = .ok (.getfield 69, 3) := dk_180 0 69 (dk_at dksX0_kept_1 4 rfl rfl)
theorem dX0_kept_30 : decode cX0_kept 30 = .ok (.getfield 251, 3) := dk_180 0 251 (dk_at dksX0_kept_1 7 rfl rfl)
theorem dX0_kept_33 : decode cX0_kept 33 = .ok (.iload_n 1, 1) := dk_27 (dk_at dksX0_kept_1 10 rfl rfl)
theorem dX0_kept_34 : decode cX0_kept 34 = .ok (.aaload, 1) := dk_50 (dk_at dksX0_kept_1 11 rfl rfl)
theorem dX0_kept_35 : decode cX0_kept 35 = .ok (.iload_n 2, 1) := dk_28 (dk_at dksX0_kept_1 12 rfl rfl)
theorem dX0_kept_36 : decode cX0_kept 36 = .ok (.iaload, 1) := dk_46 (dk_at dksX0_kept_1 13 rfl rfl)
theorem dX0_kept_37 : decode cX0_kept 37 = .ok (.goto 4, 3) := dk_167 0 4 (dk_at dksX0_kept_1 14 rfl rfl)
theorem dX0_kept_40 : decode cX0_kept 40 = .ok (.iconst (-1), 1) := dk_2 (dk_at dksX0_kept_1 17 rfl rfl)
theorem dX0_kept_41 : decode cX0_kept 41 = .ok (.ireturn, 1) := dk_172 (dk_at dksX0_kept_1 18 rfl rfl)
abbrev cX0_seen : ByteArray := prog_1_method_36_code
def yX0_seen : MethodName := ⟨RX0, "seen", "(II)I"⟩
def dkwX0_seen_0 : List UInt8 := [27, 28, 184, 0, 254, 153, 0, 11, 27, 28, 184, 1, 1, 167, 0, 4, 2, 172]
abbrev dktX0_seen_0 : List UInt8 := dkwX0_seen_0 ++ []
theorem dksX0_seen_0 : cX0_seen.data.toList.drop 0 = dktX0_seen_0 := by decide +kernel
theorem dX0_seen_0 : decode cX0_seen 0 = .ok (.iload_n 1, 1) := dk_27 (dk_at dksX0_seen_0 0 rfl rfl)
theorem dX0_seen_1 : decode cX0_seen 1 = .ok (.iload_n 2, 1) := dk_28 (dk_at dksX0_seen_0 1 rfl rfl)
theorem dX0_seen_2 : decode cX0_seen 2 = .ok (.invokestatic 254, 3) := dk_184 0 254 (dk_at dksX0_seen_0 2 rfl rfl)
theorem dX0_seen_5 : decode cX0_seen 5 = .ok (.ifCond .eq 11, 3) := dk_153 0 11 (dk_at dksX0_seen_0 5 rfl rfl)
theorem dX0_seen_8 : decode cX0_seen 8 = .ok (.iload_n 1, 1) := dk_27 (dk_at dksX0_seen_0 8 rfl rfl)
theorem dX0_seen_9 : decode cX0_seen 9 = .ok (.iload_n 2, 1) := dk_28 (dk_at dksX0_seen_0 9 rfl rfl)
theorem dX0_seen_10 : decode cX0_seen 10 = .ok (.invokestatic 257, 3) := dk_184 1 1 (dk_at dksX0_seen_0 10 rfl rfl)
theorem dX0_seen_13 : decode cX0_seen 13 = .ok (.goto 4, 3) := dk_167 0 4 (dk_at dksX0_seen_0 13 rfl rfl)
theorem dX0_seen_16 : decode cX0_seen 16 = .ok (.iconst (-1), 1) := dk_2 (dk_at dksX0_seen_0 16 rfl rfl)
theorem dX0_seen_17 : decode cX0_seen 17 = .ok (.ireturn, 1) := dk_172 (dk_at dksX0_seen_0 17 rfl rfl)
abbrev cX0_isSeen : ByteArray := prog_1_method_35_code
def yX0_isSeen : MethodName := ⟨RX0, "isSeen", "(II)Z"⟩
def dkwX0_isSeen_1 : List UInt8 := [3, 172]
abbrev dktX0_isSeen_1 : List UInt8 := dkwX0_isSeen_1 ++ []
def dkwX0_isSeen_0 : List UInt8 := [26, 3, 17, 127, 255, 184, 0, 149, 153, 0, 16, 27, 3, 6, 184, 0, 149, 153, 0, 7, 4, 167, 0, 4]
abbrev dktX0_isSeen_0 : List UInt8 := dkwX0_isSeen_0 ++ dktX0_isSeen_1
theorem dksX0_isSeen_0 : cX0_isSeen.data.toList.drop 0 = dktX0_isSeen_0 := by decide +kernel
theorem dksX0_isSeen_1 : cX0_isSeen.data.toList.drop 24 = dktX0_isSeen_1 := dk_seg dksX0_isSeen_0 24 rfl rfl
theorem dX0_isSeen_0 : decode cX0_isSeen 0 = .ok (.iload_n 0, 1) := dk_26 (dk_at dksX0_isSeen_0 0 rfl rfl)
theorem dX0_isSeen_1 : decode cX0_isSeen 1 = .ok (.iconst 0, 1) := dk_3 (dk_at dksX0_isSeen_0 1 rfl rfl)
theorem dX0_isSeen_2 : decode cX0_isSeen 2 = .ok (.sipush 32767, 3) := dk_17 127 255 (dk_at dksX0_isSeen_0 2 rfl rfl)
theorem dX0_isSeen_5 : decode cX0_isSeen 5 = .ok (.invokestatic 149, 3) := dk_184 0 149 (dk_at dksX0_isSeen_0 5 rfl rfl)
theorem dX0_isSeen_8 : decode cX0_isSeen 8 = .ok (.ifCond .eq 16, 3) := dk_153 0 16 (dk_at dksX0_isSeen_0 8 rfl rfl)
theorem dX0_isSeen_11 : decode cX0_isSeen 11 = .ok (.iload_n 1, 1) := dk_27 (dk_at dksX0_isSeen_0 11 rfl rfl)
theorem dX0_isSeen_12 : decode cX0_isSeen 12 = .ok (.iconst 0, 1) := dk_3 (dk_at dksX0_isSeen_0 12 rfl rfl)
theorem dX0_isSeen_13 : decode cX0_isSeen 13 = .ok (.iconst 3, 1) := dk_6 (dk_at dksX0_isSeen_0 13 rfl rfl)
theorem dX0_isSeen_14 : decode cX0_isSeen 14 = .ok (.invokestatic 149, 3) := dk_184 0 149 (dk_at dksX0_isSeen_0 14 rfl rfl)
theorem dX0_isSeen_17 : decode cX0_isSeen 17 = .ok (.ifCond .eq 7, 3) := dk_153 0 7 (dk_at dksX0_isSeen_0 17 rfl rfl)
theorem dX0_isSeen_20 : decode cX0_isSeen 20 = .ok (.iconst 1, 1) := dk_4 (dk_at dksX0_isSeen_0 20 rfl rfl)
theorem dX0_isSeen_21 : decode cX0_isSeen 21 = .ok (.goto 4, 3) := dk_167 0 4 (dk_at dksX0_isSeen_0 21 rfl rfl)
theorem dX0_isSeen_24 : decode cX0_isSeen 24 = .ok (.iconst 0, 1) := dk_3 (dk_at dksX0_isSeen_1 0 rfl rfl)
theorem dX0_isSeen_25 : decode cX0_isSeen 25 = .ok (.ireturn, 1) := dk_172 (dk_at dksX0_isSeen_1 1 rfl rfl)
abbrev cX0_turned : ByteArray := prog_1_method_24_code
def yX0_turned : MethodName := ⟨RX0, "turned", "(II)I"⟩
def dkwX0_turned_3 : List UInt8 := [104, 21, 6, 96, 120, 128, 61, 132, 4, 1, 167, 255, 186, 132, 3, 1, 167, 255, 172, 28, 172]
abbrev dktX0_turned_3 : List UInt8 := dkwX0_turned_3 ++ []
def dkwX0_turned_2 : List UInt8 := [21, 4, 100, 167, 0, 5, 21, 4, 54, 6, 28, 26, 6, 29, 104, 21, 4, 96, 122, 4, 126, 6, 21, 5]
abbrev dktX0_turned_2 : List UInt8 := dkwX0_turned_2 ++ dktX0_turned_3
def dkwX0_turned_1 : List UInt8 := [5, 160, 0, 9, 7, 29, 100, 167, 0, 4, 29, 54, 5, 27, 4, 159, 0, 8, 27, 6, 160, 0, 10, 5]
abbrev dktX0_turned_1 : List UInt8 := dkwX0_turned_1 ++ dktX0_turned_2
def dkwX0_turned_0 : List UInt8 := [3, 61, 3, 62, 29, 8, 162, 0, 85, 3, 54, 4, 21, 4, 6, 162, 0, 70, 27, 4, 159, 0, 8, 27]
abbrev dktX0_turned_0 : List UInt8 := dkwX0_turned_0 ++ dktX0_turned_1
theorem dksX0_turned_0 : cX0_turned.data.toList.drop 0 = dktX0_turned_0 := by decide +kernel
theorem dksX0_turned_1 : cX0_turned.data.toList.drop 24 = dktX0_turned_1 := dk_seg dksX0_turned_0 24 rfl rfl
theorem dksX0_turned_2 : cX0_turned.data.toList.drop 48 = dktX0_turned_2 := dk_seg dksX0_turned_1 24 rfl rfl
theorem dksX0_turned_3 : cX0_turned.data.toList.drop 72 = dktX0_turned_3 := dk_seg dksX0_turned_2 24 rfl rfl
theorem dX0_turned_0 : decode cX0_turned 0 = .ok (.iconst 0, 1) := dk_3 (dk_at dksX0_turned_0 0 rfl rfl)
theorem dX0_turned_1 : decode cX0_turned 1 = .ok (.istore_n 2, 1) := dk_61 (dk_at dksX0_turned_0 1 rfl rfl)
theorem dX0_turned_2 : decode cX0_turned 2 = .ok (.iconst 0, 1) := dk_3 (dk_at dksX0_turned_0 2 rfl rfl)
theorem dX0_turned_3 : decode cX0_turned 3 = .ok (.istore_n 3, 1) := dk_62 (dk_at dksX0_turned_0 3 rfl rfl)
theorem dX0_turned_4 : decode cX0_turned 4 = .ok (.iload_n 3, 1) := dk_29 (dk_at dksX0_turned_0 4 rfl rfl)
theorem dX0_turned_5 : decode cX0_turned 5 = .ok (.iconst 5, 1) := dk_8 (dk_at dksX0_turned_0 5 rfl rfl)
theorem dX0_turned_6 : decode cX0_turned 6 = .ok (.if_icmp .ge 85, 3) := dk_162 0 85 (dk_at dksX0_turned_0 6 rfl rfl)
theorem dX0_turned_9 : decode cX0_turned 9 = .ok (.iconst 0, 1) := dk_3 (dk_at dksX0_turned_0 9 rfl rfl)
theorem dX0_turned_10 : decode cX0_turned 10 = .ok (.istore 4, 2) := dk_54 4 (dk_at dksX0_turned_0 10 rfl rfl)
theorem dX0_turned_12 : decode cX0_turned 12 = .ok (.iload 4, 2) := dk_21 4 (dk_at dksX0_turned_0 12 rfl rfl)
theorem dX0_turned_14 : decode cX0_turned 14 = .ok (.iconst 3, 1) := dk_6 (dk_at dksX0_turned_0 14 rfl rfl)
theorem dX0_turned_15 : decode cX0_turned 15 = .ok (.if_icmp .ge 70, 3) := dk_162 0 70 (dk_at dksX0_turned_0 15 rfl rfl)
theorem dX0_turned_18 : decode cX0_turned 18 = .ok (.iload_n 1, 1) := dk_27 (dk_at dksX0_turned_0 18 rfl rfl)
theorem dX0_turned_19 : decode cX0_turned 19 = .ok (.iconst 1, 1) := dk_4 (dk_at dksX0_turned_0 19 rfl rfl)
theorem dX0_turned_20 : decode cX0_turned 20 = .ok (.if_icmp .eq 8, 3) := dk_159 0 8 (dk_at dksX0_turned_0 20 rfl rfl)
theorem dX0_turned_23 : decode cX0_turned 23 = .ok (.iload_n 1, 1) := dk_27 (dk_at dksX0_turned_0 23 rfl rfl)
theorem dX0_turned_24 : decode cX0_turned 24 = .ok (.iconst 2, 1) := dk_5 (dk_at dksX0_turned_1 0 rfl rfl)
theorem dX0_turned_25 : decode cX0_turned 25 = .ok (.if_icmp .ne 9, 3) := dk_160 0 9 (dk_at dksX0_turned_1 1 rfl rfl)
theorem dX0_turned_28 : decode cX0_turned 28 = .ok (.iconst 4, 1) := dk_7 (dk_at dksX0_turned_1 4 rfl rfl)
theorem dX0_turned_29 : decode cX0_turned 29 = .ok (.iload_n 3, 1) := dk_29 (dk_at dksX0_turned_1 5 rfl rfl)
theorem dX0_turned_30 : decode cX0_turned 30 = .ok (.isub, 1) := dk_100 (dk_at dksX0_turned_1 6 rfl rfl)
theorem dX0_turned_31 : decode cX0_turned 31 = .ok (.goto 4, 3) := dk_167 0 4 (dk_at dksX0_turned_1 7 rfl rfl)
theorem dX0_turned_34 : decode cX0_turned 34 = .ok (.iload_n 3, 1) := dk_29 (dk_at dksX0_turned_1 10 rfl rfl)
theorem dX0_turned_35 : decode cX0_turned 35 = .ok (.istore 5, 2) := dk_54 5 (dk_at dksX0_turned_1 11 rfl rfl)
theorem dX0_turned_37 : decode cX0_turned 37 = .ok (.iload_n 1, 1) := dk_27 (dk_at dksX0_turned_1 13 rfl rfl)
theorem dX0_turned_38 : decode cX0_turned 38 = .ok (.iconst 1, 1) := dk_4 (dk_at dksX0_turned_1 14 rfl rfl)
theorem dX0_turned_39 : decode cX0_turned 39 = .ok (.if_icmp .eq 8, 3) := dk_159 0 8 (dk_at dksX0_turned_1 15 rfl rfl)
theorem dX0_turned_42 : decode cX0_turned 42 = .ok (.iload_n 1, 1) := dk_27 (dk_at dksX0_turned_1 18 rfl rfl)
theorem dX0_turned_43 : decode cX0_turned 43 = .ok (.iconst 3, 1) := dk_6 (dk_at dksX0_turned_1 19 rfl rfl)
theorem dX0_turned_44 : decode cX0_turned 44 = .ok (.if_icmp .ne 10, 3) := dk_160 0 10 (dk_at dksX0_turned_1 20 rfl rfl)
theorem dX0_turned_47 : decode cX0_turned 47 = .ok (.iconst 2, 1) := dk_5 (dk_at dksX0_turned_1 23 rfl rfl)
theorem dX0_turned_48 : decode cX0_turned 48 = .ok (.iload 4, 2) := dk_21 4 (dk_at dksX0_turned_2 0 rfl rfl)
theorem dX0_turned_50 : decode cX0_turned 50 = .ok (.isub, 1) := dk_100 (dk_at dksX0_turned_2 2 rfl rfl)
theorem dX0_turned_51 : decode cX0_turned 51 = .ok (.goto 5, 3) := dk_167 0 5 (dk_at dksX0_turned_2 3 rfl rfl)
theorem dX0_turned_54 : decode cX0_turned 54 = .ok (.iload 4, 2) := dk_21 4 (dk_at dksX0_turned_2 6 rfl rfl)
theorem dX0_turned_56 : decode cX0_turned 56 = .ok (.istore 6, 2) := dk_54 6 (dk_at dksX0_turned_2 8 rfl rfl)
theorem dX0_turned_58 : decode cX0_turned 58 = .ok (.iload_n 2, 1) := dk_28 (dk_at dksX0_turned_2 10 rfl rfl)
theorem dX0_turned_59 : decode cX0_turned 59 = .ok (.iload_n 0, 1) := dk_26 (dk_at dksX0_turned_2 11 rfl rfl)
theorem dX0_turned_60 : decode cX0_turned 60 = .ok (.iconst 3, 1) := dk_6 (dk_at dksX0_turned_2 12 rfl rfl)
theorem dX0_turned_61 : decode cX0_turned 61 = .ok (.iload_n 3, 1) := dk_29 (dk_at dksX0_turned_2 13 rfl rfl)
theorem dX0_turned_62 : decode cX0_turned 62 = .ok (.imul, 1) := dk_104 (dk_at dksX0_turned_2 14 rfl rfl)
theorem dX0_turned_63 : decode cX0_turned 63 = .ok (.iload 4, 2) := dk_21 4 (dk_at dksX0_turned_2 15 rfl rfl)
theorem dX0_turned_65 : decode cX0_turned 65 = .ok (.iadd, 1) := dk_96 (dk_at dksX0_turned_2 17 rfl rfl)
theorem dX0_turned_66 : decode cX0_turned 66 = .ok (.ishr, 1) := dk_122 (dk_at dksX0_turned_2 18 rfl rfl)
theorem dX0_turned_67 : decode cX0_turned 67 = .ok (.iconst 1, 1) := dk_4 (dk_at dksX0_turned_2 19 rfl rfl)
theorem dX0_turned_68 : decode cX0_turned 68 = .ok (.iand, 1) := dk_126 (dk_at dksX0_turned_2 20 rfl rfl)
theorem dX0_turned_69 : decode cX0_turned 69 = .ok (.iconst 3, 1) := dk_6 (dk_at dksX0_turned_2 21 rfl rfl)
theorem dX0_turned_70 : decode cX0_turned 70 = .ok (.iload 5, 2) := dk_21 5 (dk_at dksX0_turned_2 22 rfl rfl)
theorem dX0_turned_72 : decode cX0_turned 72 = .ok (.imul, 1) := dk_104 (dk_at dksX0_turned_3 0 rfl rfl)
theorem dX0_turned_73 : decode cX0_turned 73 = .ok (.iload 6, 2) := dk_21 6 (dk_at dksX0_turned_3 1 rfl rfl)
theorem dX0_turned_75 : decode cX0_turned 75 = .ok (.iadd, 1) := dk_96 (dk_at dksX0_turned_3 3 rfl rfl)
theorem dX0_turned_76 : decode cX0_turned 76 = .ok (.ishl, 1) := dk_120 (dk_at dksX0_turned_3 4 rfl rfl)
theorem dX0_turned_77 : decode cX0_turned 77 = .ok (.ior, 1) := dk_128 (dk_at dksX0_turned_3 5 rfl rfl)
theorem dX0_turned_78 : decode cX0_turned 78 = .ok (.istore_n 2, 1) := dk_61 (dk_at dksX0_turned_3 6 rfl rfl)
theorem dX0_turned_79 : decode cX0_turned 79 = .ok (.iinc 4 1, 3) := dk_132 4 1 (dk_at dksX0_turned_3 7 rfl rfl)
theorem dX0_turned_82 : decode cX0_turned 82 = .ok (.goto (-70), 3) := dk_167 255 186 (dk_at dksX0_turned_3 10 rfl rfl)
theorem dX0_turned_85 : decode cX0_turned 85 = .ok (.iinc 3 1, 3) := dk_132 3 1 (dk_at dksX0_turned_3 13 rfl rfl)
theorem dX0_turned_88 : decode cX0_turned 88 = .ok (.goto (-84), 3) := dk_167 255 172 (dk_at dksX0_turned_3 16 rfl rfl)
theorem dX0_turned_91 : decode cX0_turned 91 = .ok (.iload_n 2, 1) := dk_28 (dk_at dksX0_turned_3 19 rfl rfl)
theorem dX0_turned_92 : decode cX0_turned 92 = .ok (.ireturn, 1) := dk_172 (dk_at dksX0_turned_3 20 rfl rfl)
abbrev cX0_doubt : ByteArray := prog_1_method_37_code
def yX0_doubt : MethodName := ⟨RX0, "doubt", "(III)J"⟩
def dkwX0_doubt_1 : List UInt8 := [182, 0, 207, 29, 182, 0, 211, 167, 0, 6, 20, 1, 5, 173]
abbrev dktX0_doubt_1 : List UInt8 := dkwX0_doubt_1 ++ []
def dkwX0_doubt_0 : List UInt8 := [42, 27, 28, 182, 0, 227, 153, 0, 28, 29, 3, 17, 127, 255, 184, 0, 149, 153, 0, 17, 42, 42, 27, 28]
abbrev dktX0_doubt_0 : List UInt8 := dkwX0_doubt_0 ++ dktX0_doubt_1
theorem dksX0_doubt_0 : cX0_doubt.data.toList.drop 0 = dktX0_doubt_0 := by decide +kernel
theorem dksX0_doubt_1 : cX0_doubt.data.toList.drop 24 = dktX0_doubt_1 := dk_seg dksX0_doubt_0 24 rfl rfl
theorem dX0_doubt_0 : decode cX0_doubt 0 = .ok (.aload_n 0, 1) := dk_42 (dk_at dksX0_doubt_0 0 rfl rfl)
theorem dX0_doubt_1 : decode cX0_doubt 1 = .ok (.iload_n 1, 1) := dk_27 (dk_at dksX0_doubt_0 1 rfl rfl)
theorem dX0_doubt_2 : decode cX0_doubt 2 = .ok (.iload_n 2, 1) := dk_28 (dk_at dksX0_doubt_0 2 rfl rfl)
theorem dX0_doubt_3 : decode cX0_doubt 3 = .ok (.invokevirtual 227, 3) := dk_182 0 227 (dk_at dksX0_doubt_0 3 rfl rfl)
theorem dX0_doubt_6 : decode cX0_doubt 6 = .ok (.ifCond .eq 28, 3) := dk_153 0 28 (dk_at dksX0_doubt_0 6 rfl rfl)
theorem dX0_doubt_9 : decode cX0_doubt 9 = .ok (.iload_n 3, 1) := dk_29 (dk_at dksX0_doubt_0 9 rfl rfl)
theorem dX0_doubt_10 : decode cX0_doubt 10 = .ok (.iconst 0, 1) := dk_3 (dk_at dksX0_doubt_0 10 rfl rfl)
theorem dX0_doubt_11 : decode cX0_doubt 11 = .ok (.sipush 32767, 3) := dk_17 127 255 (dk_at dksX0_doubt_0 11 rfl rfl)
theorem dX0_doubt_14 : decode cX0_doubt 14 = .ok (.invokestatic 149, 3) := dk_184 0 149 (dk_at dksX0_doubt_0 14 rfl rfl)
theorem dX0_doubt_17 : decode cX0_doubt 17 = .ok (.ifCond .eq 17, 3) := dk_153 0 17 (dk_at dksX0_doubt_0 17 rfl rfl)
theorem dX0_doubt_20 : decode cX0_doubt 20 = .ok (.aload_n 0, 1) := dk_42 (dk_at dksX0_doubt_0 20 rfl rfl)
theorem dX0_doubt_21 : decode cX0_doubt 21 = .ok (.aload_n 0, 1) := dk_42 (dk_at dksX0_doubt_0 21 rfl rfl)
theorem dX0_doubt_22 : decode cX0_doubt 22 = .ok (.iload_n 1, 1) := dk_27 (dk_at dksX0_doubt_0 22 rfl rfl)
theorem dX0_doubt_23 : decode cX0_doubt 23 = .ok (.iload_n 2, 1) := dk_28 (dk_at dksX0_doubt_0 23 rfl rfl)
theorem dX0_doubt_24 : decode cX0_doubt 24 = .ok (.invokevirtual 207, 3) := dk_182 0 207 (dk_at dksX0_doubt_1 0 rfl rfl)
theorem dX0_doubt_27 : decode cX0_doubt 27 = .ok (.iload_n 3, 1) := dk_29 (dk_at dksX0_doubt_1 3 rfl rfl)
theorem dX0_doubt_28 : decode cX0_doubt 28 = .ok (.invokevirtual 211, 3) := dk_182 0 211 (dk_at dksX0_doubt_1 4 rfl rfl)
theorem dX0_doubt_31 : decode cX0_doubt 31 = .ok (.goto 6, 3) := dk_167 0 6 (dk_at dksX0_doubt_1 7 rfl rfl)
theorem dX0_doubt_34 : decode cX0_doubt 34 = .ok (.ldc2_w 261, 3) := dk_20 1 5 (dk_at dksX0_doubt_1 10 rfl rfl)
theorem dX0_doubt_37 : decode cX0_doubt 37 = .ok (.lreturn, 1) := dk_173 (dk_at dksX0_doubt_1 13 rfl rfl)
abbrev cX0_doubtOf : ByteArray := prog_1_method_25_code
def yX0_doubtOf : MethodName := ⟨RX0, "doubtOf", "(LTurnedBoards$Letter;I)J"⟩
def dkwX0_doubtOf_4 : List UInt8 := [180, 0, 55, 182, 0, 198, 184, 0, 13, 173]
abbrev dktX0_doubtOf_4 : List UInt8 := dkwX0_doubtOf_4 ++ []
def dkwX0_doubtOf_3 : List UInt8 := [180, 0, 55, 180, 0, 191, 5, 43, 182, 0, 195, 133, 80, 9, 42, 180, 0, 31, 180, 0, 185, 42]
abbrev dktX0_doubtOf_3 : List UInt8 := dkwX0_doubtOf_3 ++ dktX0_doubtOf_4
def dkwX0_doubtOf_2 : List UInt8 := [180, 0, 55, 180, 0, 191, 3, 29, 133, 80, 42, 180, 0, 55, 180, 0, 191, 4, 21, 4, 133, 80, 42]
abbrev dktX0_doubtOf_2 : List UInt8 := dkwX0_doubtOf_2 ++ dktX0_doubtOf_3
def dkwX0_doubtOf_1 : List UInt8 := [54, 4, 42, 180, 0, 31, 180, 0, 185, 199, 0, 14, 29, 133, 20, 0, 189, 21, 4, 133, 105, 97, 173, 42]
abbrev dktX0_doubtOf_1 : List UInt8 := dkwX0_doubtOf_1 ++ dktX0_doubtOf_2
def dkwX0_doubtOf_0 : List UInt8 := [28, 43, 180, 0, 177, 2, 130, 126, 184, 0, 180, 62, 43, 180, 0, 177, 28, 2, 130, 126, 184, 0, 180]
abbrev dktX0_doubtOf_0 : List UInt8 := dkwX0_doubtOf_0 ++ dktX0_doubtOf_1
theorem dksX0_doubtOf_0 : cX0_doubtOf.data.toList.drop 0 = dktX0_doubtOf_0 := by decide +kernel
theorem dksX0_doubtOf_1 : cX0_doubtOf.data.toList.drop 23 = dktX0_doubtOf_1 := dk_seg dksX0_doubtOf_0 23 rfl rfl
theorem dksX0_doubtOf_2 : cX0_doubtOf.data.toList.drop 47 = dktX0_doubtOf_2 := dk_seg dksX0_doubtOf_1 24 rfl rfl
theorem dksX0_doubtOf_3 : cX0_doubtOf.data.toList.drop 70 = dktX0_doubtOf_3 := dk_seg dksX0_doubtOf_2 23 rfl rfl
theorem dksX0_doubtOf_4 : cX0_doubtOf.data.toList.drop 92 = dktX0_doubtOf_4 := dk_seg dksX0_doubtOf_3 22 rfl rfl
theorem dX0_doubtOf_0 : decode cX0_doubtOf 0 = .ok (.iload_n 2, 1) := dk_28 (dk_at dksX0_doubtOf_0 0 rfl rfl)
theorem dX0_doubtOf_1 : decode cX0_doubtOf 1 = .ok (.aload_n 1, 1) := dk_43 (dk_at dksX0_doubtOf_0 1 rfl rfl)
theorem dX0_doubtOf_2 : decode cX0_doubtOf 2 = .ok (.getfield 177, 3) := dk_180 0 177 (dk_at dksX0_doubtOf_0 2 rfl rfl)
theorem dX0_doubtOf_5 : decode cX0_doubtOf 5 = .ok (.iconst (-1), 1) := dk_2 (dk_at dksX0_doubtOf_0 5 rfl rfl)
theorem dX0_doubtOf_6 : decode cX0_doubtOf 6 = .ok (.ixor, 1) := dk_130 (dk_at dksX0_doubtOf_0 6 rfl rfl)
theorem dX0_doubtOf_7 : decode cX0_doubtOf 7 = .ok (.iand, 1) := dk_126 (dk_at dksX0_doubtOf_0 7 rfl rfl)
theorem dX0_doubtOf_8 : decode cX0_doubtOf 8 = .ok (.invokestatic 180, 3) := dk_184 0 180 (dk_at dksX0_doubtOf_0 8 rfl rfl)
theorem dX0_doubtOf_11 : decode cX0_doubtOf 11 = .ok (.istore_n 3, 1) := dk_62 (dk_at dksX0_doubtOf_0 11 rfl rfl)
theorem dX0_doubtOf_12 : decode cX0_doubtOf 12 = .ok (.aload_n 1, 1) := dk_43 (dk_at dksX0_doubtOf_0 12 rfl rfl)
theorem dX0_doubtOf_13 : decode cX0_doubtOf 13 = .ok (.getfield 177, 3) := dk_180 0 177 (dk_at dksX0_doubtOf_0 13 rfl rfl)
theorem dX0_doubtOf_16 : decode cX0_doubtOf 16 = .ok (.iload_n 2, 1) := dk_28 (dk_at dksX0_doubtOf_0 16 rfl rfl)
theorem dX0_doubtOf_17 : decode cX0_doubtOf 17 = .ok (.iconst (-1), 1) := dk_2 (dk_at dksX0_doubtOf_0 17 rfl rfl)
theorem dX0_doubtOf_18 : decode cX0_doubtOf 18 = .ok (.ixor, 1) := dk_130 (dk_at dksX0_doubtOf_0 18 rfl rfl)
theorem dX0_doubtOf_19 : decode cX0_doubtOf 19 = .ok (.iand, 1) := dk_126 (dk_at dksX0_doubtOf_0 19 rfl rfl)
theorem dX0_doubtOf_20 : decode cX0_doubtOf 20 = .ok (.invokestatic 180, 3) := dk_184 0 180 (dk_at dksX0_doubtOf_0 20 rfl rfl)
theorem dX0_doubtOf_23 : decode cX0_doubtOf 23 = .ok (.istore 4, 2) := dk_54 4 (dk_at dksX0_doubtOf_1 0 rfl rfl)
theorem dX0_doubtOf_25 : decode cX0_doubtOf 25 = .ok (.aload_n 0, 1) := dk_42 (dk_at dksX0_doubtOf_1 2 rfl rfl)
theorem dX0_doubtOf_26 : decode cX0_doubtOf 26 = .ok (.getfield 31, 3) := dk_180 0 31 (dk_at dksX0_doubtOf_1 3 rfl rfl)
theorem dX0_doubtOf_29 : decode cX0_doubtOf 29 = .ok (.getfield 185, 3) := dk_180 0 185 (dk_at dksX0_doubtOf_1 6 rfl rfl)
theorem dX0_doubtOf_32 : decode cX0_doubtOf 32 = .ok (.ifnonnull 14, 3) := dk_199 0 14 (dk_at dksX0_doubtOf_1 9 rfl rfl)
theorem dX0_doubtOf_35 : decode cX0_doubtOf 35 = .ok (.iload_n 3, 1) := dk_29 (dk_at dksX0_doubtOf_1 12 rfl rfl)
theorem dX0_doubtOf_36 : decode cX0_doubtOf 36 = .ok (.i2l, 1) := dk_133 (dk_at dksX0_doubtOf_1 13 rfl rfl)
theorem dX0_doubtOf_37 : decode cX0_doubtOf 37 = .ok (.ldc2_w 189, 3) := dk_20 0 189 (dk_at dksX0_doubtOf_1 14 rfl rfl)
theorem dX0_doubtOf_40 : decode cX0_doubtOf 40 = .ok (.iload 4, 2) := dk_21 4 (dk_at dksX0_doubtOf_1 17 rfl rfl)
theorem dX0_doubtOf_42 : decode cX0_doubtOf 42 = .ok (.i2l, 1) := dk_133 (dk_at dksX0_doubtOf_1 19 rfl rfl)
theorem dX0_doubtOf_43 : decode cX0_doubtOf 43 = .ok (.lmul, 1) := dk_105 (dk_at dksX0_doubtOf_1 20 rfl rfl)
theorem dX0_doubtOf_44 : decode cX0_doubtOf 44 = .ok (.ladd, 1) := dk_97 (dk_at dksX0_doubtOf_1 21 rfl rfl)
theorem dX0_doubtOf_45 : decode cX0_doubtOf 45 = .ok (.lreturn, 1) := dk_173 (dk_at dksX0_doubtOf_1 22 rfl rfl)
theorem dX0_doubtOf_46 : decode cX0_doubtOf 46 = .ok (.aload_n 0, 1) := dk_42 (dk_at dksX0_doubtOf_1 23 rfl rfl)
theorem dX0_doubtOf_47 : decode cX0_doubtOf 47 = .ok (.getfield 55, 3) := dk_180 0 55 (dk_at dksX0_doubtOf_2 0 rfl rfl)
theorem dX0_doubtOf_50 : decode cX0_doubtOf 50 = .ok (.getfield 191, 3) := dk_180 0 191 (dk_at dksX0_doubtOf_2 3 rfl rfl)
theorem dX0_doubtOf_53 : decode cX0_doubtOf 53 = .ok (.iconst 0, 1) := dk_3 (dk_at dksX0_doubtOf_2 6 rfl rfl)
theorem dX0_doubtOf_54 : decode cX0_doubtOf 54 = .ok (.iload_n 3, 1) := dk_29 (dk_at dksX0_doubtOf_2 7 rfl rfl)
theorem dX0_doubtOf_55 : decode cX0_doubtOf 55 = .ok (.i2l, 1) := dk_133 (dk_at dksX0_doubtOf_2 8 rfl rfl)
theorem dX0_doubtOf_56 : decode cX0_doubtOf 56 = .ok (.lastore, 1) := dk_80 (dk_at dksX0_doubtOf_2 9 rfl rfl)
theorem dX0_doubtOf_57 : decode cX0_doubtOf 57 = .ok (.aload_n 0, 1) := dk_42 (dk_at dksX0_doubtOf_2 10 rfl rfl)
theorem dX0_doubtOf_58 : decode cX0_doubtOf 58 = .ok (.getfield 55, 3) := dk_180 0 55 (dk_at dksX0_doubtOf_2 11 rfl rfl)
theorem dX0_doubtOf_61 : decode cX0_doubtOf 61 = .ok (.getfield 191, 3) := dk_180 0 191 (dk_at dksX0_doubtOf_2 14 rfl rfl)
theorem dX0_doubtOf_64 : decode cX0_doubtOf 64 = .ok (.iconst 1, 1) := dk_4 (dk_at dksX0_doubtOf_2 17 rfl rfl)
theorem dX0_doubtOf_65 : decode cX0_doubtOf 65 = .ok (.iload 4, 2) := dk_21 4 (dk_at dksX0_doubtOf_2 18 rfl rfl)
theorem dX0_doubtOf_67 : decode cX0_doubtOf 67 = .ok (.i2l, 1) := dk_133 (dk_at dksX0_doubtOf_2 20 rfl rfl)
theorem dX0_doubtOf_68 : decode cX0_doubtOf 68 = .ok (.lastore, 1) := dk_80 (dk_at dksX0_doubtOf_2 21 rfl rfl)
theorem dX0_doubtOf_69 : decode cX0_doubtOf 69 = .ok (.aload_n 0, 1) := dk_42 (dk_at dksX0_doubtOf_2 22 rfl rfl)
theorem dX0_doubtOf_70 : decode cX0_doubtOf 70 = .ok (.getfield 55, 3) := dk_180 0 55 (dk_at dksX0_doubtOf_3 0 rfl rfl)
theorem dX0_doubtOf_73 : decode cX0_doubtOf 73 = .ok (.getfield 191, 3) := dk_180 0 191 (dk_at dksX0_doubtOf_3 3 rfl rfl)
theorem dX0_doubtOf_76 : decode cX0_doubtOf 76 = .ok (.iconst 2, 1) := dk_5 (dk_at dksX0_doubtOf_3 6 rfl rfl)
theorem dX0_doubtOf_77 : decode cX0_doubtOf 77 = .ok (.aload_n 1, 1) := dk_43 (dk_at dksX0_doubtOf_3 7 rfl rfl)
theorem dX0_doubtOf_78 : decode cX0_doubtOf 78 = .ok (.invokevirtual 195, 3) := dk_182 0 195 (dk_at dksX0_doubtOf_3 8 rfl rfl)
theorem dX0_doubtOf_81 : decode cX0_doubtOf 81 = .ok (.i2l, 1) := dk_133 (dk_at dksX0_doubtOf_3 11 rfl rfl)
theorem dX0_doubtOf_82 : decode cX0_doubtOf 82 = .ok (.lastore, 1) := dk_80 (dk_at dksX0_doubtOf_3 12 rfl rfl)
theorem dX0_doubtOf_83 : decode cX0_doubtOf 83 = .ok (.lconst 0, 1) := dk_9 (dk_at dksX0_doubtOf_3 13 rfl rfl)
theorem dX0_doubtOf_84 : decode cX0_doubtOf 84 = .ok (.aload_n 0, 1) := dk_42 (dk_at dksX0_doubtOf_3 14 rfl rfl)
theorem dX0_doubtOf_85 : decode cX0_doubtOf 85 = .ok (.getfield 31, 3) := dk_180 0 31 (dk_at dksX0_doubtOf_3 15 rfl rfl)
theorem dX0_doubtOf_88 : decode cX0_doubtOf 88 = .ok (.getfield 185, 3) := dk_180 0 185 (dk_at dksX0_doubtOf_3 18 rfl rfl)
theorem dX0_doubtOf_91 : decode cX0_doubtOf 91 = .ok (.aload_n 0, 1) := dk_42 (dk_at dksX0_doubtOf_3 21 rfl rfl)
theorem dX0_doubtOf_92 : decode cX0_doubtOf 92 = .ok (.getfield 55, 3) := dk_180 0 55 (dk_at dksX0_doubtOf_4 0 rfl rfl)
theorem dX0_doubtOf_95 : decode cX0_doubtOf 95 = .ok (.invokevirtual 198, 3) := dk_182 0 198 (dk_at dksX0_doubtOf_4 3 rfl rfl)
theorem dX0_doubtOf_98 : decode cX0_doubtOf 98 = .ok (.invokestatic 13, 3) := dk_184 0 13 (dk_at dksX0_doubtOf_4 6 rfl rfl)
theorem dX0_doubtOf_101 : decode cX0_doubtOf 101 = .ok (.lreturn, 1) := dk_173 (dk_at dksX0_doubtOf_4 9 rfl rfl)
abbrev cX0_held : ByteArray := prog_1_method_3_code
def yX0_held : MethodName := ⟨RX0, "held", "(J)J"⟩
def dkwX0_held_0 : List UInt8 := [20, 0, 3, 20, 0, 5, 30, 184, 0, 7, 184, 0, 13, 173]
abbrev dktX0_held_0 : List UInt8 := dkwX0_held_0 ++ []
theorem dksX0_held_0 : cX0_held.data.toList.drop 0 = dktX0_held_0 := by decide +kernel
theorem dX0_held_0 : decode cX0_held 0 = .ok (.ldc2_w 3, 3) := dk_20 0 3 (dk_at dksX0_held_0 0 rfl rfl)
theorem dX0_held_3 : decode cX0_held 3 = .ok (.ldc2_w 5, 3) := dk_20 0 5 (dk_at dksX0_held_0 3 rfl rfl)
theorem dX0_held_6 : decode cX0_held 6 = .ok (.lload_n 0, 1) := dk_30 (dk_at dksX0_held_0 6 rfl rfl)
theorem dX0_held_7 : decode cX0_held 7 = .ok (.invokestatic 7, 3) := dk_184 0 7 (dk_at dksX0_held_0 7 rfl rfl)
theorem dX0_held_10 : decode cX0_held 10 = .ok (.invokestatic 13, 3) := dk_184 0 13 (dk_at dksX0_held_0 10 rfl rfl)
theorem dX0_held_13 : decode cX0_held 13 = .ok (.lreturn, 1) := dk_173 (dk_at dksX0_held_0 13 rfl rfl)
abbrev cX0_looked : ByteArray := prog_1_method_58_code
def yX0_looked : MethodName := ⟨RX0, "looked", "(IJ)J"⟩
def dkwX0_looked_4 : List UInt8 := [192, 0, 171, 32, 136, 182, 0, 231, 133, 167, 0, 6, 20, 1, 94, 173]
abbrev dktX0_looked_4 : List UInt8 := dkwX0_looked_4 ++ []
def dkwX0_looked_3 : List UInt8 := [182, 1, 28, 133, 148, 156, 0, 31, 42, 180, 0, 31, 180, 0, 133, 42, 180, 1, 91, 185, 0, 156, 2, 0]
abbrev dktX0_looked_3 : List UInt8 := dkwX0_looked_3 ++ dktX0_looked_4
def dkwX0_looked_2 : List UInt8 := [155, 0, 59, 32, 42, 180, 0, 31, 180, 0, 133, 42, 180, 1, 91, 185, 0, 156, 2, 0, 192, 0, 171]
abbrev dktX0_looked_2 : List UInt8 := dkwX0_looked_2 ++ dktX0_looked_3
def dkwX0_looked_1 : List UInt8 := [42, 180, 1, 91, 32, 136, 3, 182, 1, 31, 182, 1, 35, 133, 167, 0, 6, 20, 1, 94, 173, 32, 9, 148]
abbrev dktX0_looked_1 : List UInt8 := dkwX0_looked_1 ++ dktX0_looked_2
def dkwX0_looked_0 : List UInt8 := [27, 154, 0, 44, 32, 9, 148, 155, 0, 34, 32, 42, 182, 0, 145, 133, 148, 156, 0, 24, 42, 180, 0, 79]
abbrev dktX0_looked_0 : List UInt8 := dkwX0_looked_0 ++ dktX0_looked_1
theorem dksX0_looked_0 : cX0_looked.data.toList.drop 0 = dktX0_looked_0 := by decide +kernel
theorem dksX0_looked_1 : cX0_looked.data.toList.drop 24 = dktX0_looked_1 := dk_seg dksX0_looked_0 24 rfl rfl
theorem dksX0_looked_2 : cX0_looked.data.toList.drop 48 = dktX0_looked_2 := dk_seg dksX0_looked_1 24 rfl rfl
theorem dksX0_looked_3 : cX0_looked.data.toList.drop 71 = dktX0_looked_3 := dk_seg dksX0_looked_2 23 rfl rfl
theorem dksX0_looked_4 : cX0_looked.data.toList.drop 95 = dktX0_looked_4 := dk_seg dksX0_looked_3 24 rfl rfl
theorem dX0_looked_0 : decode cX0_looked 0 = .ok (.iload_n 1, 1) := dk_27 (dk_at dksX0_looked_0 0 rfl rfl)
theorem dX0_looked_1 : decode cX0_looked 1 = .ok (.ifCond .ne 44, 3) := dk_154 0 44 (dk_at dksX0_looked_0 1 rfl rfl)
theorem dX0_looked_4 : decode cX0_looked 4 = .ok (.lload_n 2, 1) := dk_32 (dk_at dksX0_looked_0 4 rfl rfl)
theorem dX0_looked_5 : decode cX0_looked 5 = .ok (.lconst 0, 1) := dk_9 (dk_at dksX0_looked_0 5 rfl rfl)
theorem dX0_looked_6 : decode cX0_looked 6 = .ok (.lcmp, 1) := dk_148 (dk_at dksX0_looked_0 6 rfl rfl)
theorem dX0_looked_7 : decode cX0_looked 7 = .ok (.ifCond .lt 34, 3) := dk_155 0 34 (dk_at dksX0_looked_0 7 rfl rfl)
theorem dX0_looked_10 : decode cX0_looked 10 = .ok (.lload_n 2, 1) := dk_32 (dk_at dksX0_looked_0 10 rfl rfl)
theorem dX0_looked_11 : decode cX0_looked 11 = .ok (.aload_n 0, 1) := dk_42 (dk_at dksX0_looked_0 11 rfl rfl)
theorem dX0_looked_12 : decode cX0_looked 12 = .ok (.invokevirtual 145, 3) := dk_182 0 145 (dk_at dksX0_looked_0 12 rfl rfl)
theorem dX0_looked_15 : decode cX0_looked 15 = .ok (.i2l, 1) := dk_133 (dk_at dksX0_looked_0 15 rfl rfl)
theorem dX0_looked_16 : decode cX0_looked 16 = .ok (.lcmp, 1) := dk_148 (dk_at dksX0_looked_0 16 rfl rfl)
theorem dX0_looked_17 : decode cX0_looked 17 = .ok (.ifCond .ge 24, 3) := dk_156 0 24 (dk_at dksX0_looked_0 17 rfl rfl)
theorem dX0_looked_20 : decode cX0_looked 20 = .ok (.aload_n 0, 1) := dk_42 (dk_at dksX0_looked_0 20 rfl rfl)
theorem dX0_looked_21 : decode cX0_looked 21 = .ok (.getfield 79, 3) := dk_180 0 79 (dk_at dksX0_looked_0 21 rfl rfl)
theorem dX0_looked_24 : decode cX0_looked 24 = .ok (.aload_n 0, 1) := dk_42 (dk_at dksX0_looked_1 0 rfl rfl)
theorem dX0_looked_25 : decode cX0_looked 25 = .ok (.getfield 347, 3) := dk_180 1 91 (dk_at dksX0_looked_1 1 rfl rfl)
theorem dX0_looked_28 : decode cX0_looked 28 = .ok (.lload_n 2, 1) := dk_32 (dk_at dksX0_looked_1 4 rfl rfl)
theorem dX0_looked_29 : decode cX0_looked 29 = .ok (.l2i, 1) := dk_136 (dk_at dksX0_looked_1 5 rfl rfl)
theorem dX0_looked_30 : decode cX0_looked 30 = .ok (.iconst 0, 1) := dk_3 (dk_at dksX0_looked_1 6 rfl rfl)
theorem dX0_looked_31 : decode cX0_looked 31 = .ok (.invokevirtual 287, 3) := dk_182 1 31 (dk_at dksX0_looked_1 7 rfl rfl)
theorem dX0_looked_34 : decode cX0_looked 34 = .ok (.invokevirtual 291, 3) := dk_182 1 35 (dk_at dksX0_looked_1 10 rfl rfl)
theorem dX0_looked_37 : decode cX0_looked 37 = .ok (.i2l, 1) := dk_133 (dk_at dksX0_looked_1 13 rfl rfl)
theorem dX0_looked_38 : decode cX0_looked 38 = .ok (.goto 6, 3) := dk_167 0 6 (dk_at dksX0_looked_1 14 rfl rfl)
theorem dX0_looked_41 : decode cX0_looked 41 = .ok (.ldc2_w 350, 3) := dk_20 1 94 (dk_at dksX0_looked_1 17 rfl rfl)
theorem dX0_looked_44 : decode cX0_looked 44 = .ok (.lreturn, 1) := dk_173 (dk_at dksX0_looked_1 20 rfl rfl)
theorem dX0_looked_45 : decode cX0_looked 45 = .ok (.lload_n 2, 1) := dk_32 (dk_at dksX0_looked_1 21 rfl rfl)
theorem dX0_looked_46 : decode cX0_looked 46 = .ok (.lconst 0, 1) := dk_9 (dk_at dksX0_looked_1 22 rfl rfl)
theorem dX0_looked_47 : decode cX0_looked 47 = .ok (.lcmp, 1) := dk_148 (dk_at dksX0_looked_1 23 rfl rfl)
theorem dX0_looked_48 : decode cX0_looked 48 = .ok (.ifCond .lt 59, 3) := dk_155 0 59 (dk_at dksX0_looked_2 0 rfl rfl)
theorem dX0_looked_51 : decode cX0_looked 51 = .ok (.lload_n 2, 1) := dk_32 (dk_at dksX0_looked_2 3 rfl rfl)
theorem dX0_looked_52 : decode cX0_looked 52 = .ok (.aload_n 0, 1) := dk_42 (dk_at dksX0_looked_2 4 rfl rfl)
theorem dX0_looked_53 : decode cX0_looked 53 = .ok (.getfield 31, 3) := dk_180 0 31 (dk_at dksX0_looked_2 5 rfl rfl)
theorem dX0_looked_56 : decode cX0_looked 56 = .ok (.getfield 133, 3) := dk_180 0 133 (dk_at dksX0_looked_2 8 rfl rfl)
theorem dX0_looked_59 : decode cX0_looked 59 = .ok (.aload_n 0, 1) := dk_42 (dk_at dksX0_looked_2 11 rfl rfl)
theorem dX0_looked_60 : decode cX0_looked 60 = .ok (.getfield 347, 3) := dk_180 1 91 (dk_at dksX0_looked_2 12 rfl rfl)
theorem dX0_looked_63 : decode cX0_looked 63 = .ok (.invokeinterface 156 2, 5) := by decide +kernel
theorem dX0_looked_68 : decode cX0_looked 68 = .ok (.checkcast 171, 3) := dk_192 0 171 (dk_at dksX0_looked_2 20 rfl rfl)
theorem dX0_looked_71 : decode cX0_looked 71 = .ok (.invokevirtual 284, 3) := dk_182 1 28 (dk_at dksX0_looked_3 0 rfl rfl)
theorem dX0_looked_74 : decode cX0_looked 74 = .ok (.i2l, 1) := dk_133 (dk_at dksX0_looked_3 3 rfl rfl)
theorem dX0_looked_75 : decode cX0_looked 75 = .ok (.lcmp, 1) := dk_148 (dk_at dksX0_looked_3 4 rfl rfl)
theorem dX0_looked_76 : decode cX0_looked 76 = .ok (.ifCond .ge 31, 3) := dk_156 0 31 (dk_at dksX0_looked_3 5 rfl rfl)
theorem dX0_looked_79 : decode cX0_looked 79 = .ok (.aload_n 0, 1) := dk_42 (dk_at dksX0_looked_3 8 rfl rfl)
theorem dX0_looked_80 : decode cX0_looked 80 = .ok (.getfield 31, 3) := dk_180 0 31 (dk_at dksX0_looked_3 9 rfl rfl)
theorem dX0_looked_83 : decode cX0_looked 83 = .ok (.getfield 133, 3) := dk_180 0 133 (dk_at dksX0_looked_3 12 rfl rfl)
theorem dX0_looked_86 : decode cX0_looked 86 = .ok (.aload_n 0, 1) := dk_42 (dk_at dksX0_looked_3 15 rfl rfl)
theorem dX0_looked_87 : decode cX0_looked 87 = .ok (.getfield 347, 3) := dk_180 1 91 (dk_at dksX0_looked_3 16 rfl rfl)
theorem dX0_looked_90 : decode cX0_looked 90 = .ok (.invokeinterface 156 2, 5) := by decide +kernel
theorem dX0_looked_95 : decode cX0_looked 95 = .ok (.checkcast 171, 3) := dk_192 0 171 (dk_at dksX0_looked_4 0 rfl rfl)
theorem dX0_looked_98 : decode cX0_looked 98 = .ok (.lload_n 2, 1) := dk_32 (dk_at dksX0_looked_4 3 rfl rfl)
theorem dX0_looked_99 : decode cX0_looked 99 = .ok (.l2i, 1) := dk_136 (dk_at dksX0_looked_4 4 rfl rfl)
theorem dX0_looked_100 : decode cX0_looked 100 = .ok (.invokevirtual 231, 3) := dk_182 0 231 (dk_at dksX0_looked_4 5 rfl rfl)
theorem dX0_looked_103 : decode cX0_looked 103 = .ok (.i2l, 1) := dk_133 (dk_at dksX0_looked_4 8 rfl rfl)
theorem dX0_looked_104 : decode cX0_looked 104 = .ok (.goto 6, 3) := dk_167 0 6 (dk_at dksX0_looked_4 9 rfl rfl)
theorem dX0_looked_107 : decode cX0_looked 107 = .ok (.ldc2_w 350, 3) := dk_20 1 94 (dk_at dksX0_looked_4 12 rfl rfl)
theorem dX0_looked_110 : decode cX0_looked 110 = .ok (.lreturn, 1) := dk_173 (dk_at dksX0_looked_4 15 rfl rfl)
abbrev cX0_isForgiven : ByteArray := prog_1_method_26_code
def yX0_isForgiven : MethodName := ⟨RX0, "isForgiven", "(J)Z"⟩
def dkwX0_isForgiven_0 : List UInt8 := [31, 42, 180, 0, 31, 180, 0, 204, 133, 148, 157, 0, 7, 4, 167, 0, 4, 3, 172]
abbrev dktX0_isForgiven_0 : List UInt8 := dkwX0_isForgiven_0 ++ []
theorem dksX0_isForgiven_0 : cX0_isForgiven.data.toList.drop 0 = dktX0_isForgiven_0 := by decide +kernel
theorem dX0_isForgiven_0 : decode cX0_isForgiven 0 = .ok (.lload_n 1, 1) := dk_31 (dk_at dksX0_isForgiven_0 0 rfl rfl)
theorem dX0_isForgiven_1 : decode cX0_isForgiven 1 = .ok (.aload_n 0, 1) := dk_42 (dk_at dksX0_isForgiven_0 1 rfl rfl)
theorem dX0_isForgiven_2 : decode cX0_isForgiven 2 = .ok (.getfield 31, 3) := dk_180 0 31 (dk_at dksX0_isForgiven_0 2 rfl rfl)
theorem dX0_isForgiven_5 : decode cX0_isForgiven 5 = .ok (.getfield 204, 3) := dk_180 0 204 (dk_at dksX0_isForgiven_0 5 rfl rfl)
theorem dX0_isForgiven_8 : decode cX0_isForgiven 8 = .ok (.i2l, 1) := dk_133 (dk_at dksX0_isForgiven_0 8 rfl rfl)
theorem dX0_isForgiven_9 : decode cX0_isForgiven 9 = .ok (.lcmp, 1) := dk_148 (dk_at dksX0_isForgiven_0 9 rfl rfl)
theorem dX0_isForgiven_10 : decode cX0_isForgiven 10 = .ok (.ifCond .gt 7, 3) := dk_157 0 7 (dk_at dksX0_isForgiven_0 10 rfl rfl)
theorem dX0_isForgiven_13 : decode cX0_isForgiven 13 = .ok (.iconst 1, 1) := dk_4 (dk_at dksX0_isForgiven_0 13 rfl rfl)
theorem dX0_isForgiven_14 : decode cX0_isForgiven 14 = .ok (.goto 4, 3) := dk_167 0 4 (dk_at dksX0_isForgiven_0 14 rfl rfl)
theorem dX0_isForgiven_17 : decode cX0_isForgiven 17 = .ok (.iconst 0, 1) := dk_3 (dk_at dksX0_isForgiven_0 17 rfl rfl)
theorem dX0_isForgiven_18 : decode cX0_isForgiven 18 = .ok (.ireturn, 1) := dk_172 (dk_at dksX0_isForgiven_0 18 rfl rfl)
abbrev cX0_reads : ByteArray := prog_1_method_38_code
def yX0_reads : MethodName := ⟨RX0, "reads", "(III)I"⟩
def dkwX0_reads_1 : List UInt8 := [182, 1, 7, 167, 0, 4, 2, 172]
abbrev dktX0_reads_1 : List UInt8 := dkwX0_reads_1 ++ []
def dkwX0_reads_0 : List UInt8 := [27, 184, 0, 160, 153, 0, 24, 28, 29, 184, 0, 254, 153, 0, 16, 42, 27, 28, 29, 184, 1, 1]
abbrev dktX0_reads_0 : List UInt8 := dkwX0_reads_0 ++ dktX0_reads_1
theorem dksX0_reads_0 : cX0_reads.data.toList.drop 0 = dktX0_reads_0 := by decide +kernel
theorem dksX0_reads_1 : cX0_reads.data.toList.drop 22 = dktX0_reads_1 := dk_seg dksX0_reads_0 22 rfl rfl
theorem dX0_reads_0 : decode cX0_reads 0 = .ok (.iload_n 1, 1) := dk_27 (dk_at dksX0_reads_0 0 rfl rfl)
theorem dX0_reads_1 : decode cX0_reads 1 = .ok (.invokestatic 160, 3) := dk_184 0 160 (dk_at dksX0_reads_0 1 rfl rfl)
theorem dX0_reads_4 : decode cX0_reads 4 = .ok (.ifCond .eq 24, 3) := dk_153 0 24 (dk_at dksX0_reads_0 4 rfl rfl)
theorem dX0_reads_7 : decode cX0_reads 7 = .ok (.iload_n 2, 1) := dk_28 (dk_at dksX0_reads_0 7 rfl rfl)
theorem dX0_reads_8 : decode cX0_reads 8 = .ok (.iload_n 3, 1) := dk_29 (dk_at dksX0_reads_0 8 rfl rfl)
theorem dX0_reads_9 : decode cX0_reads 9 = .ok (.invokestatic 254, 3) := dk_184 0 254 (dk_at dksX0_reads_0 9 rfl rfl)
theorem dX0_reads_12 : decode cX0_reads 12 = .ok (.ifCond .eq 16, 3) := dk_153 0 16 (dk_at dksX0_reads_0 12 rfl rfl)
theorem dX0_reads_15 : decode cX0_reads 15 = .ok (.aload_n 0, 1) := dk_42 (dk_at dksX0_reads_0 15 rfl rfl)
theorem dX0_reads_16 : decode cX0_reads 16 = .ok (.iload_n 1, 1) := dk_27 (dk_at dksX0_reads_0 16 rfl rfl)
theorem dX0_reads_17 : decode cX0_reads 17 = .ok (.iload_n 2, 1) := dk_28 (dk_at dksX0_reads_0 17 rfl rfl)
theorem dX0_reads_18 : decode cX0_reads 18 = .ok (.iload_n 3, 1) := dk_29 (dk_at dksX0_reads_0 18 rfl rfl)
theorem dX0_reads_19 : decode cX0_reads 19 = .ok (.invokestatic 257, 3) := dk_184 1 1 (dk_at dksX0_reads_0 19 rfl rfl)
theorem dX0_reads_22 : decode cX0_reads 22 = .ok (.invokevirtual 263, 3) := dk_182 1 7 (dk_at dksX0_reads_1 0 rfl rfl)
theorem dX0_reads_25 : decode cX0_reads 25 = .ok (.goto 4, 3) := dk_167 0 4 (dk_at dksX0_reads_1 3 rfl rfl)
theorem dX0_reads_28 : decode cX0_reads 28 = .ok (.iconst (-1), 1) := dk_2 (dk_at dksX0_reads_1 6 rfl rfl)
theorem dX0_reads_29 : decode cX0_reads 29 = .ok (.ireturn, 1) := dk_172 (dk_at dksX0_reads_1 7 rfl rfl)
abbrev cX0_readAs : ByteArray := prog_1_method_27_code
def yX0_readAs : MethodName := ⟨RX0, "readAs", "(II)I"⟩
def dkwX0_readAs_3 : List UInt8 := [167, 255, 203, 29, 172]
abbrev dktX0_readAs_3 : List UInt8 := dkwX0_readAs_3 ++ []
def dkwX0_readAs_2 : List UInt8 := [155, 0, 6, 167, 0, 18, 22, 7, 55, 4, 42, 27, 21, 6, 182, 0, 207, 180, 0, 215, 62, 132, 6, 1]
abbrev dktX0_readAs_2 : List UInt8 := dkwX0_readAs_2 ++ dktX0_readAs_3
def dkwX0_readAs_1 : List UInt8 := [162, 0, 49, 42, 42, 27, 21, 6, 182, 0, 207, 28, 182, 0, 211, 55, 7, 22, 7, 22, 4, 148]
abbrev dktX0_readAs_1 : List UInt8 := dkwX0_readAs_1 ++ dktX0_readAs_2
def dkwX0_readAs_0 : List UInt8 := [3, 62, 42, 180, 0, 31, 180, 0, 204, 133, 10, 97, 55, 4, 3, 54, 6, 21, 6, 42, 27, 182, 0, 164]
abbrev dktX0_readAs_0 : List UInt8 := dkwX0_readAs_0 ++ dktX0_readAs_1
theorem dksX0_readAs_0 : cX0_readAs.data.toList.drop 0 = dktX0_readAs_0 := by decide +kernel
theorem dksX0_readAs_1 : cX0_readAs.data.toList.drop 24 = dktX0_readAs_1 := dk_seg dksX0_readAs_0 24 rfl rfl
theorem dksX0_readAs_2 : cX0_readAs.data.toList.drop 46 = dktX0_readAs_2 := dk_seg dksX0_readAs_1 22 rfl rfl
theorem dksX0_readAs_3 : cX0_readAs.data.toList.drop 70 = dktX0_readAs_3 := dk_seg dksX0_readAs_2 24 rfl rfl
theorem dX0_readAs_0 : decode cX0_readAs 0 = .ok (.iconst 0, 1) := dk_3 (dk_at dksX0_readAs_0 0 rfl rfl)
theorem dX0_readAs_1 : decode cX0_readAs 1 = .ok (.istore_n 3, 1) := dk_62 (dk_at dksX0_readAs_0 1 rfl rfl)
theorem dX0_readAs_2 : decode cX0_readAs 2 = .ok (.aload_n 0, 1) := dk_42 (dk_at dksX0_readAs_0 2 rfl rfl)
theorem dX0_readAs_3 : decode cX0_readAs 3 = .ok (.getfield 31, 3) := dk_180 0 31 (dk_at dksX0_readAs_0 3 rfl rfl)
theorem dX0_readAs_6 : decode cX0_readAs 6 = .ok (.getfield 204, 3) := dk_180 0 204 (dk_at dksX0_readAs_0 6 rfl rfl)
theorem dX0_readAs_9 : decode cX0_readAs 9 = .ok (.i2l, 1) := dk_133 (dk_at dksX0_readAs_0 9 rfl rfl)
theorem dX0_readAs_10 : decode cX0_readAs 10 = .ok (.lconst 1, 1) := dk_10 (dk_at dksX0_readAs_0 10 rfl rfl)
theorem dX0_readAs_11 : decode cX0_readAs 11 = .ok (.ladd, 1) := dk_97 (dk_at dksX0_readAs_0 11 rfl rfl)
theorem dX0_readAs_12 : decode cX0_readAs 12 = .ok (.lstore 4, 2) := dk_55 4 (dk_at dksX0_readAs_0 12 rfl rfl)
theorem dX0_readAs_14 : decode cX0_readAs 14 = .ok (.iconst 0, 1) := dk_3 (dk_at dksX0_readAs_0 14 rfl rfl)
theorem dX0_readAs_15 : decode cX0_readAs 15 = .ok (.istore 6, 2) := dk_54 6 (dk_at dksX0_readAs_0 15 rfl rfl)
theorem dX0_readAs_17 : decode cX0_readAs 17 = .ok (.iload 6, 2) := dk_21 6 (dk_at dksX0_readAs_0 17 rfl rfl)
theorem dX0_readAs_19 : decode cX0_readAs 19 = .ok (.aload_n 0, 1) := dk_42 (dk_at dksX0_readAs_0 19 rfl rfl)
theorem dX0_readAs_20 : decode cX0_readAs 20 = .ok (.iload_n 1, 1) := dk_27 (dk_at dksX0_readAs_0 20 rfl rfl)
theorem dX0_readAs_21 : decode cX0_readAs 21 = .ok (.invokevirtual 164, 3) := dk_182 0 164 (dk_at dksX0_readAs_0 21 rfl rfl)
theorem dX0_readAs_24 : decode cX0_readAs 24 = .ok (.if_icmp .ge 49, 3) := dk_162 0 49 (dk_at dksX0_readAs_1 0 rfl rfl)
theorem dX0_readAs_27 : decode cX0_readAs 27 = .ok (.aload_n 0, 1) := dk_42 (dk_at dksX0_readAs_1 3 rfl rfl)
theorem dX0_readAs_28 : decode cX0_readAs 28 = .ok (.aload_n 0, 1) := dk_42 (dk_at dksX0_readAs_1 4 rfl rfl)
theorem dX0_readAs_29 : decode cX0_readAs 29 = .ok (.iload_n 1, 1) := dk_27 (dk_at dksX0_readAs_1 5 rfl rfl)
theorem dX0_readAs_30 : decode cX0_readAs 30 = .ok (.iload 6, 2) := dk_21 6 (dk_at dksX0_readAs_1 6 rfl rfl)
theorem dX0_readAs_32 : decode cX0_readAs 32 = .ok (.invokevirtual 207, 3) := dk_182 0 207 (dk_at dksX0_readAs_1 8 rfl rfl)
theorem dX0_readAs_35 : decode cX0_readAs 35 = .ok (.iload_n 2, 1) := dk_28 (dk_at dksX0_readAs_1 11 rfl rfl)
theorem dX0_readAs_36 : decode cX0_readAs 36 = .ok (.invokevirtual 211, 3) := dk_182 0 211 (dk_at dksX0_readAs_1 12 rfl rfl)
theorem dX0_readAs_39 : decode cX0_readAs 39 = .ok (.lstore 7, 2) := dk_55 7 (dk_at dksX0_readAs_1 15 rfl rfl)
theorem dX0_readAs_41 : decode cX0_readAs 41 = .ok (.lload 7, 2) := dk_22 7 (dk_at dksX0_readAs_1 17 rfl rfl)
theorem dX0_readAs_43 : decode cX0_readAs 43 = .ok (.lload 4, 2) := dk_22 4 (dk_at dksX0_readAs_1 19 rfl rfl)
theorem dX0_readAs_45 : decode cX0_readAs 45 = .ok (.lcmp, 1) := dk_148 (dk_at dksX0_readAs_1 21 rfl rfl)
theorem dX0_readAs_46 : decode cX0_readAs 46 = .ok (.ifCond .lt 6, 3) := dk_155 0 6 (dk_at dksX0_readAs_2 0 rfl rfl)
theorem dX0_readAs_49 : decode cX0_readAs 49 = .ok (.goto 18, 3) := dk_167 0 18 (dk_at dksX0_readAs_2 3 rfl rfl)
theorem dX0_readAs_52 : decode cX0_readAs 52 = .ok (.lload 7, 2) := dk_22 7 (dk_at dksX0_readAs_2 6 rfl rfl)
theorem dX0_readAs_54 : decode cX0_readAs 54 = .ok (.lstore 4, 2) := dk_55 4 (dk_at dksX0_readAs_2 8 rfl rfl)
theorem dX0_readAs_56 : decode cX0_readAs 56 = .ok (.aload_n 0, 1) := dk_42 (dk_at dksX0_readAs_2 10 rfl rfl)
theorem dX0_readAs_57 : decode cX0_readAs 57 = .ok (.iload_n 1, 1) := dk_27 (dk_at dksX0_readAs_2 11 rfl rfl)
theorem dX0_readAs_58 : decode cX0_readAs 58 = .ok (.iload 6, 2) := dk_21 6 (dk_at dksX0_readAs_2 12 rfl rfl)
theorem dX0_readAs_60 : decode cX0_readAs 60 = .ok (.invokevirtual 207, 3) := dk_182 0 207 (dk_at dksX0_readAs_2 14 rfl rfl)
theorem dX0_readAs_63 : decode cX0_readAs 63 = .ok (.getfield 215, 3) := dk_180 0 215 (dk_at dksX0_readAs_2 17 rfl rfl)
theorem dX0_readAs_66 : decode cX0_readAs 66 = .ok (.istore_n 3, 1) := dk_62 (dk_at dksX0_readAs_2 20 rfl rfl)
theorem dX0_readAs_67 : decode cX0_readAs 67 = .ok (.iinc 6 1, 3) := dk_132 6 1 (dk_at dksX0_readAs_2 21 rfl rfl)
theorem dX0_readAs_70 : decode cX0_readAs 70 = .ok (.goto (-53), 3) := dk_167 255 203 (dk_at dksX0_readAs_3 0 rfl rfl)
theorem dX0_readAs_73 : decode cX0_readAs 73 = .ok (.iload_n 3, 1) := dk_29 (dk_at dksX0_readAs_3 3 rfl rfl)
theorem dX0_readAs_74 : decode cX0_readAs 74 = .ok (.ireturn, 1) := dk_172 (dk_at dksX0_readAs_3 4 rfl rfl)
abbrev cX0_says : ByteArray := prog_1_method_40_code
def yX0_says : MethodName := ⟨RX0, "says", "(IIII)I"⟩
def dkwX0_says_2 : List UInt8 := [21, 4, 182, 1, 21, 167, 0, 4, 2, 172]
abbrev dktX0_says_2 : List UInt8 := dkwX0_says_2 ++ []
def dkwX0_says_1 : List UInt8 := [182, 1, 10, 153, 0, 28, 42, 180, 0, 73, 42, 180, 0, 69, 182, 1, 13, 29, 182, 1, 17, 27, 28]
abbrev dktX0_says_1 : List UInt8 := dkwX0_says_1 ++ dktX0_says_2
def dkwX0_says_0 : List UInt8 := [42, 27, 21, 4, 182, 0, 245, 153, 0, 48, 28, 3, 6, 184, 0, 149, 153, 0, 39, 42, 29, 3, 16, 60]
abbrev dktX0_says_0 : List UInt8 := dkwX0_says_0 ++ dktX0_says_1
theorem dksX0_says_0 : cX0_says.data.toList.drop 0 = dktX0_says_0 := by decide +kernel
theorem dksX0_says_1 : cX0_says.data.toList.drop 24 = dktX0_says_1 := dk_seg dksX0_says_0 24 rfl rfl
theorem dksX0_says_2 : cX0_says.data.toList.drop 47 = dktX0_says_2 := dk_seg dksX0_says_1 23 rfl rfl
theorem dX0_says_0 : decode cX0_says 0 = .ok (.aload_n 0, 1) := dk_42 (dk_at dksX0_says_0 0 rfl rfl)
theorem dX0_says_1 : decode cX0_says 1 = .ok (.iload_n 1, 1) := dk_27 (dk_at dksX0_says_0 1 rfl rfl)
theorem dX0_says_2 : decode cX0_says 2 = .ok (.iload 4, 2) := dk_21 4 (dk_at dksX0_says_0 2 rfl rfl)
theorem dX0_says_4 : decode cX0_says 4 = .ok (.invokevirtual 245, 3) := dk_182 0 245 (dk_at dksX0_says_0 4 rfl rfl)
theorem dX0_says_7 : decode cX0_says 7 = .ok (.ifCond .eq 48, 3) := dk_153 0 48 (dk_at dksX0_says_0 7 rfl rfl)
theorem dX0_says_10 : decode cX0_says 10 = .ok (.iload_n 2, 1) := dk_28 (dk_at dksX0_says_0 10 rfl rfl)
theorem dX0_says_11 : decode cX0_says 11 = .ok (.iconst 0, 1) := dk_3 (dk_at dksX0_says_0 11 rfl rfl)
theorem dX0_says_12 : decode cX0_says 12 = .ok (.iconst 3, 1) := dk_6 (dk_at dksX0_says_0 12 rfl rfl)
theorem dX0_says_13 : decode cX0_says 13 = .ok (.invokestatic 149, 3) := dk_184 0 149 (dk_at dksX0_says_0 13 rfl rfl)
theorem dX0_says_16 : decode cX0_says 16 = .ok (.ifCond .eq 39, 3) := dk_153 0 39 (dk_at dksX0_says_0 16 rfl rfl)
theorem dX0_says_19 : decode cX0_says 19 = .ok (.aload_n 0, 1) := dk_42 (dk_at dksX0_says_0 19 rfl rfl)
theorem dX0_says_20 : decode cX0_says 20 = .ok (.iload_n 3, 1) := dk_29 (dk_at dksX0_says_0 20 rfl rfl)
theorem dX0_says_21 : decode cX0_says 21 = .ok (.iconst 0, 1) := dk_3 (dk_at dksX0_says_0 21 rfl rfl)
theorem dX0_says_22 : decode cX0_says 22 = .ok (.bipush 60, 2) := dk_16 60 (dk_at dksX0_says_0 22 rfl rfl)
theorem dX0_says_24 : decode cX0_says 24 = .ok (.invokevirtual 266, 3) := dk_182 1 10 (dk_at dksX0_says_1 0 rfl rfl)
theorem dX0_says_27 : decode cX0_says 27 = .ok (.ifCond .eq 28, 3) := dk_153 0 28 (dk_at dksX0_says_1 3 rfl rfl)
theorem dX0_says_30 : decode cX0_says 30 = .ok (.aload_n 0, 1) := dk_42 (dk_at dksX0_says_1 6 rfl rfl)
theorem dX0_says_31 : decode cX0_says 31 = .ok (.getfield 73, 3) := dk_180 0 73 (dk_at dksX0_says_1 7 rfl rfl)
theorem dX0_says_34 : decode cX0_says 34 = .ok (.aload_n 0, 1) := dk_42 (dk_at dksX0_says_1 10 rfl rfl)
theorem dX0_says_35 : decode cX0_says 35 = .ok (.getfield 69, 3) := dk_180 0 69 (dk_at dksX0_says_1 11 rfl rfl)
theorem dX0_says_38 : decode cX0_says 38 = .ok (.invokevirtual 269, 3) := dk_182 1 13 (dk_at dksX0_says_1 14 rfl rfl)
theorem dX0_says_41 : decode cX0_says 41 = .ok (.iload_n 3, 1) := dk_29 (dk_at dksX0_says_1 17 rfl rfl)
theorem dX0_says_42 : decode cX0_says 42 = .ok (.invokevirtual 273, 3) := dk_182 1 17 (dk_at dksX0_says_1 18 rfl rfl)
theorem dX0_says_45 : decode cX0_says 45 = .ok (.iload_n 1, 1) := dk_27 (dk_at dksX0_says_1 21 rfl rfl)
theorem dX0_says_46 : decode cX0_says 46 = .ok (.iload_n 2, 1) := dk_28 (dk_at dksX0_says_1 22 rfl rfl)
theorem dX0_says_47 : decode cX0_says 47 = .ok (.iload 4, 2) := dk_21 4 (dk_at dksX0_says_2 0 rfl rfl)
theorem dX0_says_49 : decode cX0_says 49 = .ok (.invokevirtual 277, 3) := dk_182 1 21 (dk_at dksX0_says_2 2 rfl rfl)
theorem dX0_says_52 : decode cX0_says 52 = .ok (.goto 4, 3) := dk_167 0 4 (dk_at dksX0_says_2 5 rfl rfl)
theorem dX0_says_55 : decode cX0_says 55 = .ok (.iconst (-1), 1) := dk_2 (dk_at dksX0_says_2 8 rfl rfl)
theorem dX0_says_56 : decode cX0_says 56 = .ok (.ireturn, 1) := dk_172 (dk_at dksX0_says_2 9 rfl rfl)
abbrev cX0_isAhead : ByteArray := prog_1_method_39_code
def yX0_isAhead : MethodName := ⟨RX0, "isAhead", "(III)Z"⟩
def dkwX0_isAhead_1 : List UInt8 := [4, 167, 0, 4, 3, 172]
abbrev dktX0_isAhead_1 : List UInt8 := dkwX0_isAhead_1 ++ []
def dkwX0_isAhead_0 : List UInt8 := [27, 28, 29, 184, 0, 149, 153, 0, 22, 42, 180, 0, 69, 180, 0, 218, 27, 96, 17, 3, 231, 163, 0, 7]
abbrev dktX0_isAhead_0 : List UInt8 := dkwX0_isAhead_0 ++ dktX0_isAhead_1
theorem dksX0_isAhead_0 : cX0_isAhead.data.toList.drop 0 = dktX0_isAhead_0 := by decide +kernel
theorem dksX0_isAhead_1 : cX0_isAhead.data.toList.drop 24 = dktX0_isAhead_1 := dk_seg dksX0_isAhead_0 24 rfl rfl
theorem dX0_isAhead_0 : decode cX0_isAhead 0 = .ok (.iload_n 1, 1) := dk_27 (dk_at dksX0_isAhead_0 0 rfl rfl)
theorem dX0_isAhead_1 : decode cX0_isAhead 1 = .ok (.iload_n 2, 1) := dk_28 (dk_at dksX0_isAhead_0 1 rfl rfl)
theorem dX0_isAhead_2 : decode cX0_isAhead 2 = .ok (.iload_n 3, 1) := dk_29 (dk_at dksX0_isAhead_0 2 rfl rfl)
theorem dX0_isAhead_3 : decode cX0_isAhead 3 = .ok (.invokestatic 149, 3) := dk_184 0 149 (dk_at dksX0_isAhead_0 3 rfl rfl)
theorem dX0_isAhead_6 : decode cX0_isAhead 6 = .ok (.ifCond .eq 22, 3) := dk_153 0 22 (dk_at dksX0_isAhead_0 6 rfl rfl)
theorem dX0_isAhead_9 : decode cX0_isAhead 9 = .ok (.aload_n 0, 1) := dk_42 (dk_at dksX0_isAhead_0 9 rfl rfl)
theorem dX0_isAhead_10 : decode cX0_isAhead 10 = .ok (.getfield 69, 3) := dk_180 0 69 (dk_at dksX0_isAhead_0 10 rfl rfl)
theorem dX0_isAhead_13 : decode cX0_isAhead 13 = .ok (.getfield 218, 3) := dk_180 0 218 (dk_at dksX0_isAhead_0 13 rfl rfl)
theorem dX0_isAhead_16 : decode cX0_isAhead 16 = .ok (.iload_n 1, 1) := dk_27 (dk_at dksX0_isAhead_0 16 rfl rfl)
theorem dX0_isAhead_17 : decode cX0_isAhead 17 = .ok (.iadd, 1) := dk_96 (dk_at dksX0_isAhead_0 17 rfl rfl)
theorem dX0_isAhead_18 : decode cX0_isAhead 18 = .ok (.sipush 999, 3) := dk_17 3 231 (dk_at dksX0_isAhead_0 18 rfl rfl)
theorem dX0_isAhead_21 : decode cX0_isAhead 21 = .ok (.if_icmp .gt 7, 3) := dk_163 0 7 (dk_at dksX0_isAhead_0 21 rfl rfl)
theorem dX0_isAhead_24 : decode cX0_isAhead 24 = .ok (.iconst 1, 1) := dk_4 (dk_at dksX0_isAhead_1 0 rfl rfl)
theorem dX0_isAhead_25 : decode cX0_isAhead 25 = .ok (.goto 4, 3) := dk_167 0 4 (dk_at dksX0_isAhead_1 1 rfl rfl)
theorem dX0_isAhead_28 : decode cX0_isAhead 28 = .ok (.iconst 0, 1) := dk_3 (dk_at dksX0_isAhead_1 4 rfl rfl)
theorem dX0_isAhead_29 : decode cX0_isAhead 29 = .ok (.ireturn, 1) := dk_172 (dk_at dksX0_isAhead_1 5 rfl rfl)
abbrev cX0_draw : ByteArray := prog_1_method_53_code
def yX0_draw : MethodName := ⟨RX0, "draw", "(I)I"⟩
def dkwX0_draw_1 : List UInt8 := [20, 1, 72, 109, 27, 133, 113, 136, 172]
abbrev dktX0_draw_1 : List UInt8 := dkwX0_draw_1 ++ []
def dkwX0_draw_0 : List UInt8 := [42, 20, 1, 66, 42, 180, 0, 87, 105, 20, 1, 68, 97, 20, 1, 70, 113, 181, 0, 87, 42, 180, 0, 87]
abbrev dktX0_draw_0 : List UInt8 := dkwX0_draw_0 ++ dktX0_draw_1
theorem dksX0_draw_0 : cX0_draw.data.toList.drop 0 = dktX0_draw_0 := by decide +kernel
theorem dksX0_draw_1 : cX0_draw.data.toList.drop 24 = dktX0_draw_1 := dk_seg dksX0_draw_0 24 rfl rfl
theorem dX0_draw_0 : decode cX0_draw 0 = .ok (.aload_n 0, 1) := dk_42 (dk_at dksX0_draw_0 0 rfl rfl)
theorem dX0_draw_1 : decode cX0_draw 1 = .ok (.ldc2_w 322, 3) := dk_20 1 66 (dk_at dksX0_draw_0 1 rfl rfl)
theorem dX0_draw_4 : decode cX0_draw 4 = .ok (.aload_n 0, 1) := dk_42 (dk_at dksX0_draw_0 4 rfl rfl)
theorem dX0_draw_5 : decode cX0_draw 5 = .ok (.getfield 87, 3) := dk_180 0 87 (dk_at dksX0_draw_0 5 rfl rfl)
theorem dX0_draw_8 : decode cX0_draw 8 = .ok (.lmul, 1) := dk_105 (dk_at dksX0_draw_0 8 rfl rfl)
theorem dX0_draw_9 : decode cX0_draw 9 = .ok (.ldc2_w 324, 3) := dk_20 1 68 (dk_at dksX0_draw_0 9 rfl rfl)
theorem dX0_draw_12 : decode cX0_draw 12 = .ok (.ladd, 1) := dk_97 (dk_at dksX0_draw_0 12 rfl rfl)
theorem dX0_draw_13 : decode cX0_draw 13 = .ok (.ldc2_w 326, 3) := dk_20 1 70 (dk_at dksX0_draw_0 13 rfl rfl)
theorem dX0_draw_16 : decode cX0_draw 16 = .ok (.lrem, 1) := dk_113 (dk_at dksX0_draw_0 16 rfl rfl)
theorem dX0_draw_17 : decode cX0_draw 17 = .ok (.putfield 87, 3) := dk_181 0 87 (dk_at dksX0_draw_0 17 rfl rfl)
theorem dX0_draw_20 : decode cX0_draw 20 = .ok (.aload_n 0, 1) := dk_42 (dk_at dksX0_draw_0 20 rfl rfl)
theorem dX0_draw_21 : decode cX0_draw 21 = .ok (.getfield 87, 3) := dk_180 0 87 (dk_at dksX0_draw_0 21 rfl rfl)
theorem dX0_draw_24 : decode cX0_draw 24 = .ok (.ldc2_w 328, 3) := dk_20 1 72 (dk_at dksX0_draw_1 0 rfl rfl)
theorem dX0_draw_27 : decode cX0_draw 27 = .ok (.ldiv, 1) := dk_109 (dk_at dksX0_draw_1 3 rfl rfl)
theorem dX0_draw_28 : decode cX0_draw 28 = .ok (.iload_n 1, 1) := dk_27 (dk_at dksX0_draw_1 4 rfl rfl)
theorem dX0_draw_29 : decode cX0_draw 29 = .ok (.i2l, 1) := dk_133 (dk_at dksX0_draw_1 5 rfl rfl)
theorem dX0_draw_30 : decode cX0_draw 30 = .ok (.lrem, 1) := dk_113 (dk_at dksX0_draw_1 6 rfl rfl)
theorem dX0_draw_31 : decode cX0_draw 31 = .ok (.l2i, 1) := dk_136 (dk_at dksX0_draw_1 7 rfl rfl)
theorem dX0_draw_32 : decode cX0_draw 32 = .ok (.ireturn, 1) := dk_172 (dk_at dksX0_draw_1 8 rfl rfl)
abbrev cX0_becomes : ByteArray := prog_1_method_41_code
def yX0_becomes : MethodName := ⟨RX0, "becomes", "(III)I"⟩
def dkwX0_becomes_8 : List UInt8 := [167, 255, 115, 2, 172]
abbrev dktX0_becomes_8 : List UInt8 := dkwX0_becomes_8 ++ []
def dkwX0_becomes_7 : List UInt8 := [167, 0, 4, 3, 54, 6, 132, 7, 1, 167, 255, 173, 21, 6, 153, 0, 6, 21, 5, 172, 132, 5, 1]
abbrev dktX0_becomes_7 : List UInt8 := dkwX0_becomes_7 ++ dktX0_becomes_8
def dkwX0_becomes_6 : List UInt8 := [180, 0, 133, 21, 5, 185, 0, 156, 2, 0, 192, 0, 171, 21, 7, 182, 0, 231, 160, 0, 7, 4]
abbrev dktX0_becomes_6 : List UInt8 := dkwX0_becomes_6 ++ dktX0_becomes_7
def dkwX0_becomes_5 : List UInt8 := [167, 0, 10, 21, 4, 4, 100, 21, 7, 100, 182, 1, 29, 29, 184, 1, 1, 182, 1, 7, 42, 180, 0, 31]
abbrev dktX0_becomes_5 : List UInt8 := dkwX0_becomes_5 ++ dktX0_becomes_6
def dkwX0_becomes_4 : List UInt8 := [162, 0, 82, 21, 6, 153, 0, 77, 42, 28, 42, 180, 0, 31, 28, 27, 29, 5, 112, 154, 0, 8, 21, 7]
abbrev dktX0_becomes_4 : List UInt8 := dkwX0_becomes_4 ++ dktX0_becomes_5
def dkwX0_becomes_3 : List UInt8 := [182, 1, 28, 21, 4, 160, 0, 7, 4, 167, 0, 4, 3, 54, 6, 3, 54, 7, 21, 7, 21, 4]
abbrev dktX0_becomes_3 : List UInt8 := dkwX0_becomes_3 ++ dktX0_becomes_4
def dkwX0_becomes_2 : List UInt8 := [182, 0, 145, 162, 0, 138, 42, 180, 0, 31, 180, 0, 133, 21, 5, 185, 0, 156, 2, 0, 192, 0, 171]
abbrev dktX0_becomes_2 : List UInt8 := dkwX0_becomes_2 ++ dktX0_becomes_3
def dkwX0_becomes_1 : List UInt8 := [180, 0, 133, 27, 185, 0, 156, 2, 0, 192, 0, 171, 182, 1, 28, 54, 4, 3, 54, 5, 21, 5, 42]
abbrev dktX0_becomes_1 : List UInt8 := dkwX0_becomes_1 ++ dktX0_becomes_2
def dkwX0_becomes_0 : List UInt8 := [42, 27, 28, 182, 1, 25, 153, 0, 12, 29, 3, 6, 184, 0, 149, 154, 0, 5, 2, 172, 42, 180, 0, 31]
abbrev dktX0_becomes_0 : List UInt8 := dkwX0_becomes_0 ++ dktX0_becomes_1
theorem dksX0_becomes_0 : cX0_becomes.data.toList.drop 0 = dktX0_becomes_0 := by decide +kernel
theorem dksX0_becomes_1 : cX0_becomes.data.toList.drop 24 = dktX0_becomes_1 := dk_seg dksX0_becomes_0 24 rfl rfl
theorem dksX0_becomes_2 : cX0_becomes.data.toList.drop 47 = dktX0_becomes_2 := dk_seg dksX0_becomes_1 23 rfl rfl
theorem dksX0_becomes_3 : cX0_becomes.data.toList.drop 70 = dktX0_becomes_3 := dk_seg dksX0_becomes_2 23 rfl rfl
theorem dksX0_becomes_4 : cX0_becomes.data.toList.drop 92 = dktX0_becomes_4 := dk_seg dksX0_becomes_3 22 rfl rfl
theorem dksX0_becomes_5 : cX0_becomes.data.toList.drop 116 = dktX0_becomes_5 := dk_seg dksX0_becomes_4 24 rfl rfl
theorem dksX0_becomes_6 : cX0_becomes.data.toList.drop 140 = dktX0_becomes_6 := dk_seg dksX0_becomes_5 24 rfl rfl
theorem dksX0_becomes_7 : cX0_becomes.data.toList.drop 162 = dktX0_becomes_7 := dk_seg dksX0_becomes_6 22 rfl rfl
theorem dksX0_becomes_8 : cX0_becomes.data.toList.drop 185 = dktX0_becomes_8 := dk_seg dksX0_becomes_7 23 rfl rfl
theorem dX0_becomes_0 : decode cX0_becomes 0 = .ok (.aload_n 0, 1) := dk_42 (dk_at dksX0_becomes_0 0 rfl rfl)
theorem dX0_becomes_1 : decode cX0_becomes 1 = .ok (.iload_n 1, 1) := dk_27 (dk_at dksX0_becomes_0 1 rfl rfl)
theorem dX0_becomes_2 : decode cX0_becomes 2 = .ok (.iload_n 2, 1) := dk_28 (dk_at dksX0_becomes_0 2 rfl rfl)
theorem dX0_becomes_3 : decode cX0_becomes 3 = .ok (.invokevirtual 281, 3) := dk_182 1 25 (dk_at dksX0_becomes_0 3 rfl rfl)
theorem dX0_becomes_6 : decode cX0_becomes 6 = .ok (.ifCond .eq 12, 3) := dk_153 0 12 (dk_at dksX0_becomes_0 6 rfl rfl)
theorem dX0_becomes_9 : decode cX0_becomes 9 = .ok (.iload_n 3, 1) := dk_29 (dk_at dksX0_becomes_0 9 rfl rfl)
theorem dX0_becomes_10 : decode cX0_becomes 10 = .ok (.iconst 0, 1) := dk_3 (dk_at dksX0_becomes_0 10 rfl rfl)
theorem dX0_becomes_11 : decode cX0_becomes 11 = .ok (.iconst 3, 1) := dk_6 (dk_at dksX0_becomes_0 11 rfl rfl)
theorem dX0_becomes_12 : decode cX0_becomes 12 = .ok (.invokestatic 149, 3) := dk_184 0 149 (dk_at dksX0_becomes_0 12 rfl rfl)
theorem dX0_becomes_15 : decode cX0_becomes 15 = .ok (.ifCond .ne 5, 3) := dk_154 0 5 (dk_at dksX0_becomes_0 15 rfl rfl)
theorem dX0_becomes_18 : decode cX0_becomes 18 = .ok (.iconst (-1), 1) := dk_2 (dk_at dksX0_becomes_0 18 rfl rfl)
theorem dX0_becomes_19 : decode cX0_becomes 19 = .ok (.ireturn, 1) := dk_172 (dk_at dksX0_becomes_0 19 rfl rfl)
theorem dX0_becomes_20 : decode cX0_becomes 20 = .ok (.aload_n 0, 1) := dk_42 (dk_at dksX0_becomes_0 20 rfl rfl)
theorem dX0_becomes_21 : decode cX0_becomes 21 = .ok (.getfield 31, 3) := dk_180 0 31 (dk_at dksX0_becomes_0 21 rfl rfl)
theorem dX0_becomes_24 : decode cX0_becomes 24 = .ok (.getfield 133, 3) := dk_180 0 133 (dk_at dksX0_becomes_1 0 rfl rfl)
theorem dX0_becomes_27 : decode cX0_becomes 27 = .ok (.iload_n 1, 1) := dk_27 (dk_at dksX0_becomes_1 3 rfl rfl)
theorem dX0_becomes_28 : decode cX0_becomes 28 = .ok (.invokeinterface 156 2, 5) := by decide +kernel
theorem dX0_becomes_33 : decode cX0_becomes 33 = .ok (.checkcast 171, 3) := dk_192 0 171 (dk_at dksX0_becomes_1 9 rfl rfl)
theorem dX0_becomes_36 : decode cX0_becomes 36 = .ok (.invokevirtual 284, 3) := dk_182 1 28 (dk_at dksX0_becomes_1 12 rfl rfl)
theorem dX0_becomes_39 : decode cX0_becomes 39 = .ok (.istore 4, 2) := dk_54 4 (dk_at dksX0_becomes_1 15 rfl rfl)
theorem dX0_becomes_41 : decode cX0_becomes 41 = .ok (.iconst 0, 1) := dk_3 (dk_at dksX0_becomes_1 17 rfl rfl)
theorem dX0_becomes_42 : decode cX0_becomes 42 = .ok (.istore 5, 2) := dk_54 5 (dk_at dksX0_becomes_1 18 rfl rfl)
theorem dX0_becomes_44 : decode cX0_becomes 44 = .ok (.iload 5, 2) := dk_21 5 (dk_at dksX0_becomes_1 20 rfl rfl)
theorem dX0_becomes_46 : decode cX0_becomes 46 = .ok (.aload_n 0, 1) := dk_42 (dk_at dksX0_becomes_1 22 rfl rfl)
theorem dX0_becomes_47 : decode cX0_becomes 47 = .ok (.invokevirtual 145, 3) := dk_182 0 145 (dk_at dksX0_becomes_2 0 rfl rfl)
theorem dX0_becomes_50 : decode cX0_becomes 50 = .ok (.if_icmp .ge 138, 3) := dk_162 0 138 (dk_at dksX0_becomes_2 3 rfl rfl)
theorem dX0_becomes_53 : decode cX0_becomes 53 = .ok (.aload_n 0, 1) := dk_42 (dk_at dksX0_becomes_2 6 rfl rfl)
theorem dX0_becomes_54 : decode cX0_becomes 54 = .ok (.getfield 31, 3) := dk_180 0 31 (dk_at dksX0_becomes_2 7 rfl rfl)
theorem dX0_becomes_57 : decode cX0_becomes 57 = .ok (.getfield 133, 3) := dk_180 0 133 (dk_at dksX0_becomes_2 10 rfl rfl)
theorem dX0_becomes_60 : decode cX0_becomes 60 = .ok (.iload 5, 2) := dk_21 5 (dk_at dksX0_becomes_2 13 rfl rfl)
theorem dX0_becomes_62 : decode cX0_becomes 62 = .ok (.invokeinterface 156 2, 5) := by decide +kernel
theorem dX0_becomes_67 : decode cX0_becomes 67 = .ok (.checkcast 171, 3) := dk_192 0 171 (dk_at dksX0_becomes_2 20 rfl rfl)
theorem dX0_becomes_70 : decode cX0_becomes 70 = .ok (.invokevirtual 284, 3) := dk_182 1 28 (dk_at dksX0_becomes_3 0 rfl rfl)
theorem dX0_becomes_73 : decode cX0_becomes 73 = .ok (.iload 4, 2) := dk_21 4 (dk_at dksX0_becomes_3 3 rfl rfl)
theorem dX0_becomes_75 : decode cX0_becomes 75 = .ok (.if_icmp .ne 7, 3) := dk_160 0 7 (dk_at dksX0_becomes_3 5 rfl rfl)
theorem dX0_becomes_78 : decode cX0_becomes 78 = .ok (.iconst 1, 1) := dk_4 (dk_at dksX0_becomes_3 8 rfl rfl)
theorem dX0_becomes_79 : decode cX0_becomes 79 = .ok (.goto 4, 3) := dk_167 0 4 (dk_at dksX0_becomes_3 9 rfl rfl)
theorem dX0_becomes_82 : decode cX0_becomes 82 = .ok (.iconst 0, 1) := dk_3 (dk_at dksX0_becomes_3 12 rfl rfl)
theorem dX0_becomes_83 : decode cX0_becomes 83 = .ok (.istore 6, 2) := dk_54 6 (dk_at dksX0_becomes_3 13 rfl rfl)
theorem dX0_becomes_85 : decode cX0_becomes 85 = .ok (.iconst 0, 1) := dk_3 (dk_at dksX0_becomes_3 15 rfl rfl)
theorem dX0_becomes_86 : decode cX0_becomes 86 = .ok (.istore 7, 2) := dk_54 7 (dk_at dksX0_becomes_3 16 rfl rfl)
theorem dX0_becomes_88 : decode cX0_becomes 88 = .ok (.iload 7, 2) := dk_21 7 (dk_at dksX0_becomes_3 18 rfl rfl)
theorem dX0_becomes_90 : decode cX0_becomes 90 = .ok (.iload 4, 2) := dk_21 4 (dk_at dksX0_becomes_3 20 rfl rfl)
theorem dX0_becomes_92 : decode cX0_becomes 92 = .ok (.if_icmp .ge 82, 3) := dk_162 0 82 (dk_at dksX0_becomes_4 0 rfl rfl)
theorem dX0_becomes_95 : decode cX0_becomes 95 = .ok (.iload 6, 2) := dk_21 6 (dk_at dksX0_becomes_4 3 rfl rfl)
theorem dX0_becomes_97 : decode cX0_becomes 97 = .ok (.ifCond .eq 77, 3) := dk_153 0 77 (dk_at dksX0_becomes_4 5 rfl rfl)
theorem dX0_becomes_100 : decode cX0_becomes 100 = .ok (.aload_n 0, 1) := dk_42 (dk_at dksX0_becomes_4 8 rfl rfl)
theorem dX0_becomes_101 : decode cX0_becomes 101 = .ok (.iload_n 2, 1) := dk_28 (dk_at dksX0_becomes_4 9 rfl rfl)
theorem dX0_becomes_102 : decode cX0_becomes 102 = .ok (.aload_n 0, 1) := dk_42 (dk_at dksX0_becomes_4 10 rfl rfl)
theorem dX0_becomes_103 : decode cX0_becomes 103 = .ok (.getfield 31, 3) := dk_180 0 31 (dk_at dksX0_becomes_4 11 rfl rfl)
theorem dX0_becomes_106 : decode cX0_becomes 106 = .ok (.iload_n 2, 1) := dk_28 (dk_at dksX0_becomes_4 14 rfl rfl)
theorem dX0_becomes_107 : decode cX0_becomes 107 = .ok (.iload_n 1, 1) := dk_27 (dk_at dksX0_becomes_4 15 rfl rfl)
theorem dX0_becomes_108 : decode cX0_becomes 108 = .ok (.iload_n 3, 1) := dk_29 (dk_at dksX0_becomes_4 16 rfl rfl)
theorem dX0_becomes_109 : decode cX0_becomes 109 = .ok (.iconst 2, 1) := dk_5 (dk_at dksX0_becomes_4 17 rfl rfl)
theorem dX0_becomes_110 : decode cX0_becomes 110 = .ok (.irem, 1) := dk_112 (dk_at dksX0_becomes_4 18 rfl rfl)
theorem dX0_becomes_111 : decode cX0_becomes 111 = .ok (.ifCond .ne 8, 3) := dk_154 0 8 (dk_at dksX0_becomes_4 19 rfl rfl)
theorem dX0_becomes_114 : decode cX0_becomes 114 = .ok (.iload 7, 2) := dk_21 7 (dk_at dksX0_becomes_4 22 rfl rfl)
theorem dX0_becomes_116 : decode cX0_becomes 116 = .ok (.goto 10, 3) := dk_167 0 10 (dk_at dksX0_becomes_5 0 rfl rfl)
theorem dX0_becomes_119 : decode cX0_becomes 119 = .ok (.iload 4, 2) := dk_21 4 (dk_at dksX0_becomes_5 3 rfl rfl)
theorem dX0_becomes_121 : decode cX0_becomes 121 = .ok (.iconst 1, 1) := dk_4 (dk_at dksX0_becomes_5 5 rfl rfl)
theorem dX0_becomes_122 : decode cX0_becomes 122 = .ok (.isub, 1) := dk_100 (dk_at dksX0_becomes_5 6 rfl rfl)
theorem dX0_becomes_123 : decode cX0_becomes 123 = .ok (.iload 7, 2) := dk_21 7 (dk_at dksX0_becomes_5 7 rfl rfl)
theorem dX0_becomes_125 : decode cX0_becomes 125 = .ok (.isub, 1) := dk_100 (dk_at dksX0_becomes_5 9 rfl rfl)
theorem dX0_becomes_126 : decode cX0_becomes 126 = .ok (.invokevirtual 285, 3) := dk_182 1 29 (dk_at dksX0_becomes_5 10 rfl rfl)
theorem dX0_becomes_129 : decode cX0_becomes 129 = .ok (.iload_n 3, 1) := dk_29 (dk_at dksX0_becomes_5 13 rfl rfl)
theorem dX0_becomes_130 : decode cX0_becomes 130 = .ok (.invokestatic 257, 3) := dk_184 1 1 (dk_at dksX0_becomes_5 14 rfl rfl)
theorem dX0_becomes_133 : decode cX0_becomes 133 = .ok (.invokevirtual 263, 3) := dk_182 1 7 (dk_at dksX0_becomes_5 17 rfl rfl)
theorem dX0_becomes_136 : decode cX0_becomes 136 = .ok (.aload_n 0, 1) := dk_42 (dk_at dksX0_becomes_5 20 rfl rfl)
theorem dX0_becomes_137 : decode cX0_becomes 137 = .ok (.getfield 31, 3) := dk_180 0 31 (dk_at dksX0_becomes_5 21 rfl rfl)
theorem dX0_becomes_140 : decode cX0_becomes 140 = .ok (.getfield 133, 3) := dk_180 0 133 (dk_at dksX0_becomes_6 0 rfl rfl)
theorem dX0_becomes_143 : decode cX0_becomes 143 = .ok (.iload 5, 2) := dk_21 5 (dk_at dksX0_becomes_6 3 rfl rfl)
theorem dX0_becomes_145 : decode cX0_becomes 145 = .ok (.invokeinterface 156 2, 5) := by decide +kernel
theorem dX0_becomes_150 : decode cX0_becomes 150 = .ok (.checkcast 171, 3) := dk_192 0 171 (dk_at dksX0_becomes_6 10 rfl rfl)
theorem dX0_becomes_153 : decode cX0_becomes 153 = .ok (.iload 7, 2) := dk_21 7 (dk_at dksX0_becomes_6 13 rfl rfl)
theorem dX0_becomes_155 : decode cX0_becomes 155 = .ok (.invokevirtual 231, 3) := dk_182 0 231 (dk_at dksX0_becomes_6 15 rfl rfl)
theorem dX0_becomes_158 : decode cX0_becomes 158 = .ok (.if_icmp .ne 7, 3) := dk_160 0 7 (dk_at dksX0_becomes_6 18 rfl rfl)
theorem dX0_becomes_161 : decode cX0_becomes 161 = .ok (.iconst 1, 1) := dk_4 (dk_at dksX0_becomes_6 21 rfl rfl)
theorem dX0_becomes_162 : decode cX0_becomes 162 = .ok (.goto 4, 3) := dk_167 0 4 (dk_at dksX0_becomes_7 0 rfl rfl)
theorem dX0_becomes_165 : decode cX0_becomes 165 = .ok (.iconst 0, 1) := dk_3 (dk_at dksX0_becomes_7 3 rfl rfl)
theorem dX0_becomes_166 : decode cX0_becomes 166 = .ok (.istore 6, 2) := dk_54 6 (dk_at dksX0_becomes_7 4 rfl rfl)
theorem dX0_becomes_168 : decode cX0_becomes 168 = .ok (.iinc 7 1, 3) := dk_132 7 1 (dk_at dksX0_becomes_7 6 rfl rfl)
theorem dX0_becomes_171 : decode cX0_becomes 171 = .ok (.goto (-83), 3) := dk_167 255 173 (dk_at dksX0_becomes_7 9 rfl rfl)
theorem dX0_becomes_174 : decode cX0_becomes 174 = .ok (.iload 6, 2) := dk_21 6 (dk_at dksX0_becomes_7 12 rfl rfl)
theorem dX0_becomes_176 : decode cX0_becomes 176 = .ok (.ifCond .eq 6, 3) := dk_153 0 6 (dk_at dksX0_becomes_7 14 rfl rfl)
theorem dX0_becomes_179 : decode cX0_becomes 179 = .ok (.iload 5, 2) := dk_21 5 (dk_at dksX0_becomes_7 17 rfl rfl)
theorem dX0_becomes_181 : decode cX0_becomes 181 = .ok (.ireturn, 1) := dk_172 (dk_at dksX0_becomes_7 19 rfl rfl)
theorem dX0_becomes_182 : decode cX0_becomes 182 = .ok (.iinc 5 1, 3) := dk_132 5 1 (dk_at dksX0_becomes_7 20 rfl rfl)
theorem dX0_becomes_185 : decode cX0_becomes 185 = .ok (.goto (-141), 3) := dk_167 255 115 (dk_at dksX0_becomes_8 0 rfl rfl)
theorem dX0_becomes_188 : decode cX0_becomes 188 = .ok (.iconst (-1), 1) := dk_2 (dk_at dksX0_becomes_8 3 rfl rfl)
theorem dX0_becomes_189 : decode cX0_becomes 189 = .ok (.ireturn, 1) := dk_172 (dk_at dksX0_becomes_8 4 rfl rfl)
abbrev cX0_canPaint : ByteArray := prog_1_method_23_code
def yX0_canPaint : MethodName := ⟨RX0, "canPaint", "(II)Z"⟩
def dkwX0_canPaint_1 : List UInt8 := [180, 0, 133, 27, 185, 0, 156, 2, 0, 192, 0, 171, 182, 0, 173, 153, 0, 7, 4, 167, 0, 4, 3, 172]
abbrev dktX0_canPaint_1 : List UInt8 := dkwX0_canPaint_1 ++ []
def dkwX0_canPaint_0 : List UInt8 := [42, 27, 182, 0, 168, 153, 0, 41, 28, 184, 0, 160, 153, 0, 34, 42, 180, 0, 31, 28, 42, 180, 0, 31]
abbrev dktX0_canPaint_0 : List UInt8 := dkwX0_canPaint_0 ++ dktX0_canPaint_1
theorem dksX0_canPaint_0 : cX0_canPaint.data.toList.drop 0 = dktX0_canPaint_0 := by decide +kernel
theorem dksX0_canPaint_1 : cX0_canPaint.data.toList.drop 24 = dktX0_canPaint_1 := dk_seg dksX0_canPaint_0 24 rfl rfl
theorem dX0_canPaint_0 : decode cX0_canPaint 0 = .ok (.aload_n 0, 1) := dk_42 (dk_at dksX0_canPaint_0 0 rfl rfl)
theorem dX0_canPaint_1 : decode cX0_canPaint 1 = .ok (.iload_n 1, 1) := dk_27 (dk_at dksX0_canPaint_0 1 rfl rfl)
theorem dX0_canPaint_2 : decode cX0_canPaint 2 = .ok (.invokevirtual 168, 3) := dk_182 0 168 (dk_at dksX0_canPaint_0 2 rfl rfl)
theorem dX0_canPaint_5 : decode cX0_canPaint 5 = .ok (.ifCond .eq 41, 3) := dk_153 0 41 (dk_at dksX0_canPaint_0 5 rfl rfl)
theorem dX0_canPaint_8 : decode cX0_canPaint 8 = .ok (.iload_n 2, 1) := dk_28 (dk_at dksX0_canPaint_0 8 rfl rfl)
theorem dX0_canPaint_9 : decode cX0_canPaint 9 = .ok (.invokestatic 160, 3) := dk_184 0 160 (dk_at dksX0_canPaint_0 9 rfl rfl)
theorem dX0_canPaint_12 : decode cX0_canPaint 12 = .ok (.ifCond .eq 34, 3) := dk_153 0 34 (dk_at dksX0_canPaint_0 12 rfl rfl)
theorem dX0_canPaint_15 : decode cX0_canPaint 15 = .ok (.aload_n 0, 1) := dk_42 (dk_at dksX0_canPaint_0 15 rfl rfl)
theorem dX0_canPaint_16 : decode cX0_canPaint 16 = .ok (.getfield 31, 3) := dk_180 0 31 (dk_at dksX0_canPaint_0 16 rfl rfl)
theorem dX0_canPaint_19 : decode cX0_canPaint 19 = .ok (.iload_n 2, 1) := dk_28 (dk_at dksX0_canPaint_0 19 rfl rfl)
theorem dX0_canPaint_20 : decode cX0_canPaint 20 = .ok (.aload_n 0, 1) := dk_42 (dk_at dksX0_canPaint_0 20 rfl rfl)
theorem dX0_canPaint_21 : decode cX0_canPaint 21 = .ok (.getfield 31, 3) := dk_180 0 31 (dk_at dksX0_canPaint_0 21 rfl rfl)
theorem dX0_canPaint_24 : decode cX0_canPaint 24 = .ok (.getfield 133, 3) := dk_180 0 133 (dk_at dksX0_canPaint_1 0 rfl rfl)
theorem dX0_canPaint_27 : decode cX0_canPaint 27 = .ok (.iload_n 1, 1) := dk_27 (dk_at dksX0_canPaint_1 3 rfl rfl)
theorem dX0_canPaint_28 : decode cX0_canPaint 28 = .ok (.invokeinterface 156 2, 5) := by decide +kernel
theorem dX0_canPaint_33 : decode cX0_canPaint 33 = .ok (.checkcast 171, 3) := dk_192 0 171 (dk_at dksX0_canPaint_1 9 rfl rfl)
theorem dX0_canPaint_36 : decode cX0_canPaint 36 = .ok (.invokevirtual 173, 3) := dk_182 0 173 (dk_at dksX0_canPaint_1 12 rfl rfl)
theorem dX0_canPaint_39 : decode cX0_canPaint 39 = .ok (.ifCond .eq 7, 3) := dk_153 0 7 (dk_at dksX0_canPaint_1 15 rfl rfl)
theorem dX0_canPaint_42 : decode cX0_canPaint 42 = .ok (.iconst 1, 1) := dk_4 (dk_at dksX0_canPaint_1 18 rfl rfl)
theorem dX0_canPaint_43 : decode cX0_canPaint 43 = .ok (.goto 4, 3) := dk_167 0 4 (dk_at dksX0_canPaint_1 19 rfl rfl)
theorem dX0_canPaint_46 : decode cX0_canPaint 46 = .ok (.iconst 0, 1) := dk_3 (dk_at dksX0_canPaint_1 22 rfl rfl)
theorem dX0_canPaint_47 : decode cX0_canPaint 47 = .ok (.ireturn, 1) := dk_172 (dk_at dksX0_canPaint_1 23 rfl rfl)
abbrev cX0_line : ByteArray := prog_1_method_42_code
def yX0_line : MethodName := ⟨RX0, "line", "(IIII)I"⟩
def dkwX0_line_3 : List UInt8 := [167, 0, 13, 42, 180, 0, 79, 182, 1, 39, 180, 1, 43, 172]
abbrev dktX0_line_3 : List UInt8 := dkwX0_line_3 ++ []
def dkwX0_line_2 : List UInt8 := [42, 180, 0, 79, 182, 1, 35, 167, 0, 29, 21, 4, 4, 160, 0, 13, 42, 180, 0, 79, 182, 1, 37]
abbrev dktX0_line_2 : List UInt8 := dkwX0_line_2 ++ dktX0_line_3
def dkwX0_line_1 : List UInt8 := [184, 0, 149, 154, 0, 5, 2, 172, 42, 180, 0, 79, 27, 28, 29, 182, 1, 31, 87, 21, 4, 154, 0, 13]
abbrev dktX0_line_1 : List UInt8 := dkwX0_line_1 ++ dktX0_line_2
def dkwX0_line_0 : List UInt8 := [42, 27, 29, 182, 1, 25, 153, 0, 22, 42, 28, 29, 182, 1, 25, 153, 0, 13, 21, 4, 3, 5]
abbrev dktX0_line_0 : List UInt8 := dkwX0_line_0 ++ dktX0_line_1
theorem dksX0_line_0 : cX0_line.data.toList.drop 0 = dktX0_line_0 := by decide +kernel
theorem dksX0_line_1 : cX0_line.data.toList.drop 22 = dktX0_line_1 := dk_seg dksX0_line_0 22 rfl rfl
theorem dksX0_line_2 : cX0_line.data.toList.drop 46 = dktX0_line_2 := dk_seg dksX0_line_1 24 rfl rfl
theorem dksX0_line_3 : cX0_line.data.toList.drop 69 = dktX0_line_3 := dk_seg dksX0_line_2 23 rfl rfl
theorem dX0_line_0 : decode cX0_line 0 = .ok (.aload_n 0, 1) := dk_42 (dk_at dksX0_line_0 0 rfl rfl)
theorem dX0_line_1 : decode cX0_line 1 = .ok (.iload_n 1, 1) := dk_27 (dk_at dksX0_line_0 1 rfl rfl)
theorem dX0_line_2 : decode cX0_line 2 = .ok (.iload_n 3, 1) := dk_29 (dk_at dksX0_line_0 2 rfl rfl)
theorem dX0_line_3 : decode cX0_line 3 = .ok (.invokevirtual 281, 3) := dk_182 1 25 (dk_at dksX0_line_0 3 rfl rfl)
theorem dX0_line_6 : decode cX0_line 6 = .ok (.ifCond .eq 22, 3) := dk_153 0 22 (dk_at dksX0_line_0 6 rfl rfl)
theorem dX0_line_9 : decode cX0_line 9 = .ok (.aload_n 0, 1) := dk_42 (dk_at dksX0_line_0 9 rfl rfl)
theorem dX0_line_10 : decode cX0_line 10 = .ok (.iload_n 2, 1) := dk_28 (dk_at dksX0_line_0 10 rfl rfl)
theorem dX0_line_11 : decode cX0_line 11 = .ok (.iload_n 3, 1) := dk_29 (dk_at dksX0_line_0 11 rfl rfl)
theorem dX0_line_12 : decode cX0_line 12 = .ok (.invokevirtual 281, 3) := dk_182 1 25 (dk_at dksX0_line_0 12 rfl rfl)
theorem dX0_line_15 : decode cX0_line 15 = .ok (.ifCond .eq 13, 3) := dk_153 0 13 (dk_at dksX0_line_0 15 rfl rfl)
theorem dX0_line_18 : decode cX0_line 18 = .ok (.iload 4, 2) := dk_21 4 (dk_at dksX0_line_0 18 rfl rfl)
theorem dX0_line_20 : decode cX0_line 20 = .ok (.iconst 0, 1) := dk_3 (dk_at dksX0_line_0 20 rfl rfl)
theorem dX0_line_21 : decode cX0_line 21 = .ok (.iconst 2, 1) := dk_5 (dk_at dksX0_line_0 21 rfl rfl)
theorem dX0_line_22 : decode cX0_line 22 = .ok (.invokestatic 149, 3) := dk_184 0 149 (dk_at dksX0_line_1 0 rfl rfl)
theorem dX0_line_25 : decode cX0_line 25 = .ok (.ifCond .ne 5, 3) := dk_154 0 5 (dk_at dksX0_line_1 3 rfl rfl)
theorem dX0_line_28 : decode cX0_line 28 = .ok (.iconst (-1), 1) := dk_2 (dk_at dksX0_line_1 6 rfl rfl)
theorem dX0_line_29 : decode cX0_line 29 = .ok (.ireturn, 1) := dk_172 (dk_at dksX0_line_1 7 rfl rfl)
theorem dX0_line_30 : decode cX0_line 30 = .ok (.aload_n 0, 1) := dk_42 (dk_at dksX0_line_1 8 rfl rfl)
theorem dX0_line_31 : decode cX0_line 31 = .ok (.getfield 79, 3) := dk_180 0 79 (dk_at dksX0_line_1 9 rfl rfl)
theorem dX0_line_34 : decode cX0_line 34 = .ok (.iload_n 1, 1) := dk_27 (dk_at dksX0_line_1 12 rfl rfl)
theorem dX0_line_35 : decode cX0_line 35 = .ok (.iload_n 2, 1) := dk_28 (dk_at dksX0_line_1 13 rfl rfl)
theorem dX0_line_36 : decode cX0_line 36 = .ok (.iload_n 3, 1) := dk_29 (dk_at dksX0_line_1 14 rfl rfl)
theorem dX0_line_37 : decode cX0_line 37 = .ok (.invokevirtual 287, 3) := dk_182 1 31 (dk_at dksX0_line_1 15 rfl rfl)
theorem dX0_line_40 : decode cX0_line 40 = .ok (.pop, 1) := dk_87 (dk_at dksX0_line_1 18 rfl rfl)
theorem dX0_line_41 : decode cX0_line 41 = .ok (.iload 4, 2) := dk_21 4 (dk_at dksX0_line_1 19 rfl rfl)
theorem dX0_line_43 : decode cX0_line 43 = .ok (.ifCond .ne 13, 3) := dk_154 0 13 (dk_at dksX0_line_1 21 rfl rfl)
theorem dX0_line_46 : decode cX0_line 46 = .ok (.aload_n 0, 1) := dk_42 (dk_at dksX0_line_2 0 rfl rfl)
theorem dX0_line_47 : decode cX0_line 47 = .ok (.getfield 79, 3) := dk_180 0 79 (dk_at dksX0_line_2 1 rfl rfl)
theorem dX0_line_50 : decode cX0_line 50 = .ok (.invokevirtual 291, 3) := dk_182 1 35 (dk_at dksX0_line_2 4 rfl rfl)
theorem dX0_line_53 : decode cX0_line 53 = .ok (.goto 29, 3) := dk_167 0 29 (dk_at dksX0_line_2 7 rfl rfl)
theorem dX0_line_56 : decode cX0_line 56 = .ok (.iload 4, 2) := dk_21 4 (dk_at dksX0_line_2 10 rfl rfl)
theorem dX0_line_58 : decode cX0_line 58 = .ok (.iconst 1, 1) := dk_4 (dk_at dksX0_line_2 12 rfl rfl)
theorem dX0_line_59 : decode cX0_line 59 = .ok (.if_icmp .ne 13, 3) := dk_160 0 13 (dk_at dksX0_line_2 13 rfl rfl)
theorem dX0_line_62 : decode cX0_line 62 = .ok (.aload_n 0, 1) := dk_42 (dk_at dksX0_line_2 16 rfl rfl)
theorem dX0_line_63 : decode cX0_line 63 = .ok (.getfield 79, 3) := dk_180 0 79 (dk_at dksX0_line_2 17 rfl rfl)
theorem dX0_line_66 : decode cX0_line 66 = .ok (.invokevirtual 293, 3) := dk_182 1 37 (dk_at dksX0_line_2 20 rfl rfl)
theorem dX0_line_69 : decode cX0_line 69 = .ok (.goto 13, 3) := dk_167 0 13 (dk_at dksX0_line_3 0 rfl rfl)
theorem dX0_line_72 : decode cX0_line 72 = .ok (.aload_n 0, 1) := dk_42 (dk_at dksX0_line_3 3 rfl rfl)
theorem dX0_line_73 : decode cX0_line 73 = .ok (.getfield 79, 3) := dk_180 0 79 (dk_at dksX0_line_3 4 rfl rfl)
theorem dX0_line_76 : decode cX0_line 76 = .ok (.invokevirtual 295, 3) := dk_182 1 39 (dk_at dksX0_line_3 7 rfl rfl)
theorem dX0_line_79 : decode cX0_line 79 = .ok (.getfield 299, 3) := dk_180 1 43 (dk_at dksX0_line_3 10 rfl rfl)
theorem dX0_line_82 : decode cX0_line 82 = .ok (.ireturn, 1) := dk_172 (dk_at dksX0_line_3 13 rfl rfl)
abbrev cX0_piece : ByteArray := prog_1_method_43_code
def yX0_piece : MethodName := ⟨RX0, "piece", "(IIIII)I"⟩
def dkwX0_piece_4 : List UInt8 := [21, 4, 46, 172]
abbrev dktX0_piece_4 : List UInt8 := dkwX0_piece_4 ++ []
def dkwX0_piece_3 : List UInt8 := [154, 0, 16, 42, 180, 0, 79, 180, 1, 46, 21, 4, 46, 167, 0, 13, 42, 180, 0, 79, 180, 1, 49]
abbrev dktX0_piece_3 : List UInt8 := dkwX0_piece_3 ++ dktX0_piece_4
def dkwX0_piece_2 : List UInt8 := [182, 1, 39, 87, 21, 4, 42, 180, 0, 79, 180, 1, 43, 161, 0, 7, 2, 167, 0, 31, 21, 5]
abbrev dktX0_piece_2 : List UInt8 := dkwX0_piece_2 ++ dktX0_piece_3
def dkwX0_piece_1 : List UInt8 := [21, 5, 3, 4, 184, 0, 149, 154, 0, 5, 2, 172, 42, 180, 0, 79, 27, 28, 29, 182, 1, 31]
abbrev dktX0_piece_1 : List UInt8 := dkwX0_piece_1 ++ dktX0_piece_2
def dkwX0_piece_0 : List UInt8 := [42, 27, 29, 182, 1, 25, 153, 0, 27, 42, 28, 29, 182, 1, 25, 153, 0, 18, 21, 4, 155, 0, 13]
abbrev dktX0_piece_0 : List UInt8 := dkwX0_piece_0 ++ dktX0_piece_1
theorem dksX0_piece_0 : cX0_piece.data.toList.drop 0 = dktX0_piece_0 := by decide +kernel
theorem dksX0_piece_1 : cX0_piece.data.toList.drop 23 = dktX0_piece_1 := dk_seg dksX0_piece_0 23 rfl rfl
theorem dksX0_piece_2 : cX0_piece.data.toList.drop 45 = dktX0_piece_2 := dk_seg dksX0_piece_1 22 rfl rfl
theorem dksX0_piece_3 : cX0_piece.data.toList.drop 67 = dktX0_piece_3 := dk_seg dksX0_piece_2 22 rfl rfl
theorem dksX0_piece_4 : cX0_piece.data.toList.drop 90 = dktX0_piece_4 := dk_seg dksX0_piece_3 23 rfl rfl
theorem dX0_piece_0 : decode cX0_piece 0 = .ok (.aload_n 0, 1) := dk_42 (dk_at dksX0_piece_0 0 rfl rfl)
theorem dX0_piece_1 : decode cX0_piece 1 = .ok (.iload_n 1, 1) := dk_27 (dk_at dksX0_piece_0 1 rfl rfl)
theorem dX0_piece_2 : decode cX0_piece 2 = .ok (.iload_n 3, 1) := dk_29 (dk_at dksX0_piece_0 2 rfl rfl)
theorem dX0_piece_3 : decode cX0_piece 3 = .ok (.invokevirtual 281, 3) := dk_182 1 25 (dk_at dksX0_piece_0 3 rfl rfl)
theorem dX0_piece_6 : decode cX0_piece 6 = .ok (.ifCond .eq 27, 3) := dk_153 0 27 (dk_at dksX0_piece_0 6 rfl rfl)
theorem dX0_piece_9 : decode cX0_piece 9 = .ok (.aload_n 0, 1) := dk_42 (dk_at dksX0_piece_0 9 rfl rfl)
theorem dX0_piece_10 : decode cX0_piece 10 = .ok (.iload_n 2, 1) := dk_28 (dk_at dksX0_piece_0 10 rfl rfl)
theorem dX0_piece_11 : decode cX0_piece 11 = .ok (.iload_n 3, 1) := dk_29 (dk_at dksX0_piece_0 11 rfl rfl)
theorem dX0_piece_12 : decode cX0_piece 12 = .ok (.invokevirtual 281, 3) := dk_182 1 25 (dk_at dksX0_piece_0 12 rfl rfl)
theorem dX0_piece_15 : decode cX0_piece 15 = .ok (.ifCond .eq 18, 3) := dk_153 0 18 (dk_at dksX0_piece_0 15 rfl rfl)
theorem dX0_piece_18 : decode cX0_piece 18 = .ok (.iload 4, 2) := dk_21 4 (dk_at dksX0_piece_0 18 rfl rfl)
theorem dX0_piece_20 : decode cX0_piece 20 = .ok (.ifCond .lt 13, 3) := dk_155 0 13 (dk_at dksX0_piece_0 20 rfl rfl)
theorem dX0_piece_23 : decode cX0_piece 23 = .ok (.iload 5, 2) := dk_21 5 (dk_at dksX0_piece_1 0 rfl rfl)
theorem dX0_piece_25 : decode cX0_piece 25 = .ok (.iconst 0, 1) := dk_3 (dk_at dksX0_piece_1 2 rfl rfl)
theorem dX0_piece_26 : decode cX0_piece 26 = .ok (.iconst 1, 1) := dk_4 (dk_at dksX0_piece_1 3 rfl rfl)
theorem dX0_piece_27 : decode cX0_piece 27 = .ok (.invokestatic 149, 3) := dk_184 0 149 (dk_at dksX0_piece_1 4 rfl rfl)
theorem dX0_piece_30 : decode cX0_piece 30 = .ok (.ifCond .ne 5, 3) := dk_154 0 5 (dk_at dksX0_piece_1 7 rfl rfl)
theorem dX0_piece_33 : decode cX0_piece 33 = .ok (.iconst (-1), 1) := dk_2 (dk_at dksX0_piece_1 10 rfl rfl)
theorem dX0_piece_34 : decode cX0_piece 34 = .ok (.ireturn, 1) := dk_172 (dk_at dksX0_piece_1 11 rfl rfl)
theorem dX0_piece_35 : decode cX0_piece 35 = .ok (.aload_n 0, 1) := dk_42 (dk_at dksX0_piece_1 12 rfl rfl)
theorem dX0_piece_36 : decode cX0_piece 36 = .ok (.getfield 79, 3) := dk_180 0 79 (dk_at dksX0_piece_1 13 rfl rfl)
theorem dX0_piece_39 : decode cX0_piece 39 = .ok (.iload_n 1, 1) := dk_27 (dk_at dksX0_piece_1 16 rfl rfl)
theorem dX0_piece_40 : decode cX0_piece 40 = .ok (.iload_n 2, 1) := dk_28 (dk_at dksX0_piece_1 17 rfl rfl)
theorem dX0_piece_41 : decode cX0_piece 41 = .ok (.iload_n 3, 1) := dk_29 (dk_at dksX0_piece_1 18 rfl rfl)
theorem dX0_piece_42 : decode cX0_piece 42 = .ok (.invokevirtual 287, 3) := dk_182 1 31 (dk_at dksX0_piece_1 19 rfl rfl)
theorem dX0_piece_45 : decode cX0_piece 45 = .ok (.invokevirtual 295, 3) := dk_182 1 39 (dk_at dksX0_piece_2 0 rfl rfl)
theorem dX0_piece_48 : decode cX0_piece 48 = .ok (.pop, 1) := dk_87 (dk_at dksX0_piece_2 3 rfl rfl)
theorem dX0_piece_49 : decode cX0_piece 49 = .ok (.iload 4, 2) := dk_21 4 (dk_at dksX0_piece_2 4 rfl rfl)
theorem dX0_piece_51 : decode cX0_piece 51 = .ok (.aload_n 0, 1) := dk_42 (dk_at dksX0_piece_2 6 rfl rfl)
theorem dX0_piece_52 : decode cX0_piece 52 = .ok (.getfield 79, 3) := dk_180 0 79 (dk_at dksX0_piece_2 7 rfl rfl)
theorem dX0_piece_55 : decode cX0_piece 55 = .ok (.getfield 299, 3) := dk_180 1 43 (dk_at dksX0_piece_2 10 rfl rfl)
theorem dX0_piece_58 : decode cX0_piece 58 = .ok (.if_icmp .lt 7, 3) := dk_161 0 7 (dk_at dksX0_piece_2 13 rfl rfl)
theorem dX0_piece_61 : decode cX0_piece 61 = .ok (.iconst (-1), 1) := dk_2 (dk_at dksX0_piece_2 16 rfl rfl)
theorem dX0_piece_62 : decode cX0_piece 62 = .ok (.goto 31, 3) := dk_167 0 31 (dk_at dksX0_piece_2 17 rfl rfl)
theorem dX0_piece_65 : decode cX0_piece 65 = .ok (.iload 5, 2) := dk_21 5 (dk_at dksX0_piece_2 20 rfl rfl)
theorem dX0_piece_67 : decode cX0_piece 67 = .ok (.ifCond .ne 16, 3) := dk_154 0 16 (dk_at dksX0_piece_3 0 rfl rfl)
theorem dX0_piece_70 : decode cX0_piece 70 = .ok (.aload_n 0, 1) := dk_42 (dk_at dksX0_piece_3 3 rfl rfl)
theorem dX0_piece_71 : decode cX0_piece 71 = .ok (.getfield 79, 3) := dk_180 0 79 (dk_at dksX0_piece_3 4 rfl rfl)
theorem dX0_piece_74 : decode cX0_piece 74 = .ok (.getfield 302, 3) := dk_180 1 46 (dk_at dksX0_piece_3 7 rfl rfl)
theorem dX0_piece_77 : decode cX0_piece 77 = .ok (.iload 4, 2) := dk_21 4 (dk_at dksX0_piece_3 10 rfl rfl)
theorem dX0_piece_79 : decode cX0_piece 79 = .ok (.iaload, 1) := dk_46 (dk_at dksX0_piece_3 12 rfl rfl)
theorem dX0_piece_80 : decode cX0_piece 80 = .ok (.goto 13, 3) := dk_167 0 13 (dk_at dksX0_piece_3 13 rfl rfl)
theorem dX0_piece_83 : decode cX0_piece 83 = .ok (.aload_n 0, 1) := dk_42 (dk_at dksX0_piece_3 16 rfl rfl)
theorem dX0_piece_84 : decode cX0_piece 84 = .ok (.getfield 79, 3) := dk_180 0 79 (dk_at dksX0_piece_3 17 rfl rfl)
theorem dX0_piece_87 : decode cX0_piece 87 = .ok (.getfield 305, 3) := dk_180 1 49 (dk_at dksX0_piece_3 20 rfl rfl)
theorem dX0_piece_90 : decode cX0_piece 90 = .ok (.iload 4, 2) := dk_21 4 (dk_at dksX0_piece_4 0 rfl rfl)
theorem dX0_piece_92 : decode cX0_piece 92 = .ok (.iaload, 1) := dk_46 (dk_at dksX0_piece_4 2 rfl rfl)
theorem dX0_piece_93 : decode cX0_piece 93 = .ok (.ireturn, 1) := dk_172 (dk_at dksX0_piece_4 3 rfl rfl)
abbrev cX0_best : ByteArray := prog_1_method_44_code
def yX0_best : MethodName := ⟨RX0, "best", "(I)I"⟩
def dkwX0_best_2 : List UInt8 := [29, 161, 0, 6, 167, 0, 9, 21, 5, 62, 21, 4, 61, 132, 4, 1, 167, 255, 213, 28, 172]
abbrev dktX0_best_2 : List UInt8 := dkwX0_best_2 ++ []
def dkwX0_best_1 : List UInt8 := [182, 0, 145, 162, 0, 40, 42, 180, 0, 79, 27, 21, 4, 3, 182, 1, 31, 182, 1, 35, 54, 5, 21, 5]
abbrev dktX0_best_1 : List UInt8 := dkwX0_best_1 ++ dktX0_best_2
def dkwX0_best_0 : List UInt8 := [42, 27, 182, 0, 168, 154, 0, 5, 2, 172, 2, 61, 19, 1, 51, 62, 3, 54, 4, 21, 4, 42]
abbrev dktX0_best_0 : List UInt8 := dkwX0_best_0 ++ dktX0_best_1
theorem dksX0_best_0 : cX0_best.data.toList.drop 0 = dktX0_best_0 := by decide +kernel
theorem dksX0_best_1 : cX0_best.data.toList.drop 22 = dktX0_best_1 := dk_seg dksX0_best_0 22 rfl rfl
theorem dksX0_best_2 : cX0_best.data.toList.drop 46 = dktX0_best_2 := dk_seg dksX0_best_1 24 rfl rfl
theorem dX0_best_0 : decode cX0_best 0 = .ok (.aload_n 0, 1) := dk_42 (dk_at dksX0_best_0 0 rfl rfl)
theorem dX0_best_1 : decode cX0_best 1 = .ok (.iload_n 1, 1) := dk_27 (dk_at dksX0_best_0 1 rfl rfl)
theorem dX0_best_2 : decode cX0_best 2 = .ok (.invokevirtual 168, 3) := dk_182 0 168 (dk_at dksX0_best_0 2 rfl rfl)
theorem dX0_best_5 : decode cX0_best 5 = .ok (.ifCond .ne 5, 3) := dk_154 0 5 (dk_at dksX0_best_0 5 rfl rfl)
theorem dX0_best_8 : decode cX0_best 8 = .ok (.iconst (-1), 1) := dk_2 (dk_at dksX0_best_0 8 rfl rfl)
theorem dX0_best_9 : decode cX0_best 9 = .ok (.ireturn, 1) := dk_172 (dk_at dksX0_best_0 9 rfl rfl)
theorem dX0_best_10 : decode cX0_best 10 = .ok (.iconst (-1), 1) := dk_2 (dk_at dksX0_best_0 10 rfl rfl)
theorem dX0_best_11 : decode cX0_best 11 = .ok (.istore_n 2, 1) := dk_61 (dk_at dksX0_best_0 11 rfl rfl)
theorem dX0_best_12 : decode cX0_best 12 = .ok (.ldc_w 307, 3) := dk_19 1 51 (dk_at dksX0_best_0 12 rfl rfl)
theorem dX0_best_15 : decode cX0_best 15 = .ok (.istore_n 3, 1) := dk_62 (dk_at dksX0_best_0 15 rfl rfl)
theorem dX0_best_16 : decode cX0_best 16 = .ok (.iconst 0, 1) := dk_3 (dk_at dksX0_best_0 16 rfl rfl)
theorem dX0_best_17 : decode cX0_best 17 = .ok (.istore 4, 2) := dk_54 4 (dk_at dksX0_best_0 17 rfl rfl)
theorem dX0_best_19 : decode cX0_best 19 = .ok (.iload 4, 2) := dk_21 4 (dk_at dksX0_best_0 19 rfl rfl)
theorem dX0_best_21 : decode cX0_best 21 = .ok (.aload_n 0, 1) := dk_42 (dk_at dksX0_best_0 21 rfl rfl)
theorem dX0_best_22 : decode cX0_best 22 = .ok (.invokevirtual 145, 3) := dk_182 0 145 (dk_at dksX0_best_1 0 rfl rfl)
theorem dX0_best_25 : decode cX0_best 25 = .ok (.if_icmp .ge 40, 3) := dk_162 0 40 (dk_at dksX0_best_1 3 rfl rfl)
theorem dX0_best_28 : decode cX0_best 28 = .ok (.aload_n 0, 1) := dk_42 (dk_at dksX0_best_1 6 rfl rfl)
theorem dX0_best_29 : decode cX0_best 29 = .ok (.getfield 79, 3) := dk_180 0 79 (dk_at dksX0_best_1 7 rfl rfl)
theorem dX0_best_32 : decode cX0_best 32 = .ok (.iload_n 1, 1) := dk_27 (dk_at dksX0_best_1 10 rfl rfl)
theorem dX0_best_33 : decode cX0_best 33 = .ok (.iload 4, 2) := dk_21 4 (dk_at dksX0_best_1 11 rfl rfl)
theorem dX0_best_35 : decode cX0_best 35 = .ok (.iconst 0, 1) := dk_3 (dk_at dksX0_best_1 13 rfl rfl)
theorem dX0_best_36 : decode cX0_best 36 = .ok (.invokevirtual 287, 3) := dk_182 1 31 (dk_at dksX0_best_1 14 rfl rfl)
theorem dX0_best_39 : decode cX0_best 39 = .ok (.invokevirtual 291, 3) := dk_182 1 35 (dk_at dksX0_best_1 17 rfl rfl)
theorem dX0_best_42 : decode cX0_best 42 = .ok (.istore 5, 2) := dk_54 5 (dk_at dksX0_best_1 20 rfl rfl)
theorem dX0_best_44 : decode cX0_best 44 = .ok (.iload 5, 2) := dk_21 5 (dk_at dksX0_best_1 22 rfl rfl)
theorem dX0_best_46 : decode cX0_best 46 = .ok (.iload_n 3, 1) := dk_29 (dk_at dksX0_best_2 0 rfl rfl)
theorem dX0_best_47 : decode cX0_best 47 = .ok (.if_icmp .lt 6, 3) := dk_161 0 6 (dk_at dksX0_best_2 1 rfl rfl)
theorem dX0_best_50 : decode cX0_best 50 = .ok (.goto 9, 3) := dk_167 0 9 (dk_at dksX0_best_2 4 rfl rfl)
theorem dX0_best_53 : decode cX0_best 53 = .ok (.iload 5, 2) := dk_21 5 (dk_at dksX0_best_2 7 rfl rfl)
theorem dX0_best_55 : decode cX0_best 55 = .ok (.istore_n 3, 1) := dk_62 (dk_at dksX0_best_2 9 rfl rfl)
theorem dX0_best_56 : decode cX0_best 56 = .ok (.iload 4, 2) := dk_21 4 (dk_at dksX0_best_2 10 rfl rfl)
theorem dX0_best_58 : decode cX0_best 58 = .ok (.istore_n 2, 1) := dk_61 (dk_at dksX0_best_2 12 rfl rfl)
theorem dX0_best_59 : decode cX0_best 59 = .ok (.iinc 4 1, 3) := dk_132 4 1 (dk_at dksX0_best_2 13 rfl rfl)
theorem dX0_best_62 : decode cX0_best 62 = .ok (.goto (-43), 3) := dk_167 255 213 (dk_at dksX0_best_2 16 rfl rfl)
theorem dX0_best_65 : decode cX0_best 65 = .ok (.iload_n 2, 1) := dk_28 (dk_at dksX0_best_2 19 rfl rfl)
theorem dX0_best_66 : decode cX0_best 66 = .ok (.ireturn, 1) := dk_172 (dk_at dksX0_best_2 20 rfl rfl)
abbrev cX0_hand : ByteArray := prog_1_method_45_code
def yX0_hand : MethodName := ⟨RX0, "hand", "(II)I"⟩
def dkwX0_hand_3 : List UInt8 := [182, 1, 35, 162, 0, 7, 4, 167, 0, 4, 3, 172]
abbrev dktX0_hand_3 : List UInt8 := dkwX0_hand_3 ++ []
def dkwX0_hand_2 : List UInt8 := [180, 0, 79, 27, 28, 4, 182, 1, 31, 182, 1, 35, 42, 180, 0, 79, 27, 28, 3, 182, 1, 31]
abbrev dktX0_hand_2 : List UInt8 := dkwX0_hand_2 ++ dktX0_hand_3
def dkwX0_hand_1 : List UInt8 := [153, 0, 16, 42, 28, 4, 182, 1, 25, 153, 0, 7, 4, 167, 0, 4, 3, 62, 29, 153, 0, 36, 42]
abbrev dktX0_hand_1 : List UInt8 := dkwX0_hand_1 ++ dktX0_hand_2
def dkwX0_hand_0 : List UInt8 := [42, 27, 182, 0, 168, 153, 0, 11, 42, 28, 182, 0, 168, 154, 0, 5, 2, 172, 42, 27, 4, 182, 1, 25]
abbrev dktX0_hand_0 : List UInt8 := dkwX0_hand_0 ++ dktX0_hand_1
theorem dksX0_hand_0 : cX0_hand.data.toList.drop 0 = dktX0_hand_0 := by decide +kernel
theorem dksX0_hand_1 : cX0_hand.data.toList.drop 24 = dktX0_hand_1 := dk_seg dksX0_hand_0 24 rfl rfl
theorem dksX0_hand_2 : cX0_hand.data.toList.drop 47 = dktX0_hand_2 := dk_seg dksX0_hand_1 23 rfl rfl
theorem dksX0_hand_3 : cX0_hand.data.toList.drop 69 = dktX0_hand_3 := dk_seg dksX0_hand_2 22 rfl rfl
theorem dX0_hand_0 : decode cX0_hand 0 = .ok (.aload_n 0, 1) := dk_42 (dk_at dksX0_hand_0 0 rfl rfl)
theorem dX0_hand_1 : decode cX0_hand 1 = .ok (.iload_n 1, 1) := dk_27 (dk_at dksX0_hand_0 1 rfl rfl)
theorem dX0_hand_2 : decode cX0_hand 2 = .ok (.invokevirtual 168, 3) := dk_182 0 168 (dk_at dksX0_hand_0 2 rfl rfl)
theorem dX0_hand_5 : decode cX0_hand 5 = .ok (.ifCond .eq 11, 3) := dk_153 0 11 (dk_at dksX0_hand_0 5 rfl rfl)
theorem dX0_hand_8 : decode cX0_hand 8 = .ok (.aload_n 0, 1) := dk_42 (dk_at dksX0_hand_0 8 rfl rfl)
theorem dX0_hand_9 : decode cX0_hand 9 = .ok (.iload_n 2, 1) := dk_28 (dk_at dksX0_hand_0 9 rfl rfl)
theorem dX0_hand_10 : decode cX0_hand 10 = .ok (.invokevirtual 168, 3) := dk_182 0 168 (dk_at dksX0_hand_0 10 rfl rfl)
theorem dX0_hand_13 : decode cX0_hand 13 = .ok (.ifCond .ne 5, 3) := dk_154 0 5 (dk_at dksX0_hand_0 13 rfl rfl)
theorem dX0_hand_16 : decode cX0_hand 16 = .ok (.iconst (-1), 1) := dk_2 (dk_at dksX0_hand_0 16 rfl rfl)
theorem dX0_hand_17 : decode cX0_hand 17 = .ok (.ireturn, 1) := dk_172 (dk_at dksX0_hand_0 17 rfl rfl)
theorem dX0_hand_18 : decode cX0_hand 18 = .ok (.aload_n 0, 1) := dk_42 (dk_at dksX0_hand_0 18 rfl rfl)
theorem dX0_hand_19 : decode cX0_hand 19 = .ok (.iload_n 1, 1) := dk_27 (dk_at dksX0_hand_0 19 rfl rfl)
theorem dX0_hand_20 : decode cX0_hand 20 = .ok (.iconst 1, 1) := dk_4 (dk_at dksX0_hand_0 20 rfl rfl)
theorem dX0_hand_21 : decode cX0_hand 21 = .ok (.invokevirtual 281, 3) := dk_182 1 25 (dk_at dksX0_hand_0 21 rfl rfl)
theorem dX0_hand_24 : decode cX0_hand 24 = .ok (.ifCond .eq 16, 3) := dk_153 0 16 (dk_at dksX0_hand_1 0 rfl rfl)
theorem dX0_hand_27 : decode cX0_hand 27 = .ok (.aload_n 0, 1) := dk_42 (dk_at dksX0_hand_1 3 rfl rfl)
theorem dX0_hand_28 : decode cX0_hand 28 = .ok (.iload_n 2, 1) := dk_28 (dk_at dksX0_hand_1 4 rfl rfl)
theorem dX0_hand_29 : decode cX0_hand 29 = .ok (.iconst 1, 1) := dk_4 (dk_at dksX0_hand_1 5 rfl rfl)
theorem dX0_hand_30 : decode cX0_hand 30 = .ok (.invokevirtual 281, 3) := dk_182 1 25 (dk_at dksX0_hand_1 6 rfl rfl)
theorem dX0_hand_33 : decode cX0_hand 33 = .ok (.ifCond .eq 7, 3) := dk_153 0 7 (dk_at dksX0_hand_1 9 rfl rfl)
theorem dX0_hand_36 : decode cX0_hand 36 = .ok (.iconst 1, 1) := dk_4 (dk_at dksX0_hand_1 12 rfl rfl)
theorem dX0_hand_37 : decode cX0_hand 37 = .ok (.goto 4, 3) := dk_167 0 4 (dk_at dksX0_hand_1 13 rfl rfl)
theorem dX0_hand_40 : decode cX0_hand 40 = .ok (.iconst 0, 1) := dk_3 (dk_at dksX0_hand_1 16 rfl rfl)
theorem dX0_hand_41 : decode cX0_hand 41 = .ok (.istore_n 3, 1) := dk_62 (dk_at dksX0_hand_1 17 rfl rfl)
theorem dX0_hand_42 : decode cX0_hand 42 = .ok (.iload_n 3, 1) := dk_29 (dk_at dksX0_hand_1 18 rfl rfl)
theorem dX0_hand_43 : decode cX0_hand 43 = .ok (.ifCond .eq 36, 3) := dk_153 0 36 (dk_at dksX0_hand_1 19 rfl rfl)
theorem dX0_hand_46 : decode cX0_hand 46 = .ok (.aload_n 0, 1) := dk_42 (dk_at dksX0_hand_1 22 rfl rfl)
theorem dX0_hand_47 : decode cX0_hand 47 = .ok (.getfield 79, 3) := dk_180 0 79 (dk_at dksX0_hand_2 0 rfl rfl)
theorem dX0_hand_50 : decode cX0_hand 50 = .ok (.iload_n 1, 1) := dk_27 (dk_at dksX0_hand_2 3 rfl rfl)
theorem dX0_hand_51 : decode cX0_hand 51 = .ok (.iload_n 2, 1) := dk_28 (dk_at dksX0_hand_2 4 rfl rfl)
theorem dX0_hand_52 : decode cX0_hand 52 = .ok (.iconst 1, 1) := dk_4 (dk_at dksX0_hand_2 5 rfl rfl)
theorem dX0_hand_53 : decode cX0_hand 53 = .ok (.invokevirtual 287, 3) := dk_182 1 31 (dk_at dksX0_hand_2 6 rfl rfl)
theorem dX0_hand_56 : decode cX0_hand 56 = .ok (.invokevirtual 291, 3) := dk_182 1 35 (dk_at dksX0_hand_2 9 rfl rfl)
theorem dX0_hand_59 : decode cX0_hand 59 = .ok (.aload_n 0, 1) := dk_42 (dk_at dksX0_hand_2 12 rfl rfl)
theorem dX0_hand_60 : decode cX0_hand 60 = .ok (.getfield 79, 3) := dk_180 0 79 (dk_at dksX0_hand_2 13 rfl rfl)
theorem dX0_hand_63 : decode cX0_hand 63 = .ok (.iload_n 1, 1) := dk_27 (dk_at dksX0_hand_2 16 rfl rfl)
theorem dX0_hand_64 : decode cX0_hand 64 = .ok (.iload_n 2, 1) := dk_28 (dk_at dksX0_hand_2 17 rfl rfl)
theorem dX0_hand_65 : decode cX0_hand 65 = .ok (.iconst 0, 1) := dk_3 (dk_at dksX0_hand_2 18 rfl rfl)
theorem dX0_hand_66 : decode cX0_hand 66 = .ok (.invokevirtual 287, 3) := dk_182 1 31 (dk_at dksX0_hand_2 19 rfl rfl)
theorem dX0_hand_69 : decode cX0_hand 69 = .ok (.invokevirtual 291, 3) := dk_182 1 35 (dk_at dksX0_hand_3 0 rfl rfl)
theorem dX0_hand_72 : decode cX0_hand 72 = .ok (.if_icmp .ge 7, 3) := dk_162 0 7 (dk_at dksX0_hand_3 3 rfl rfl)
theorem dX0_hand_75 : decode cX0_hand 75 = .ok (.iconst 1, 1) := dk_4 (dk_at dksX0_hand_3 6 rfl rfl)
theorem dX0_hand_76 : decode cX0_hand 76 = .ok (.goto 4, 3) := dk_167 0 4 (dk_at dksX0_hand_3 7 rfl rfl)
theorem dX0_hand_79 : decode cX0_hand 79 = .ok (.iconst 0, 1) := dk_3 (dk_at dksX0_hand_3 10 rfl rfl)
theorem dX0_hand_80 : decode cX0_hand 80 = .ok (.ireturn, 1) := dk_172 (dk_at dksX0_hand_3 11 rfl rfl)
abbrev cX0_been : ByteArray := prog_1_method_47_code
def yX0_been : MethodName := ⟨RX0, "been", "(I)I"⟩
def dkwX0_been_2 : List UInt8 := [172]
abbrev dktX0_been_2 : List UInt8 := dkwX0_been_2 ++ []
def dkwX0_been_1 : List UInt8 := [27, 29, 182, 1, 52, 153, 0, 9, 4, 29, 120, 167, 0, 4, 3, 128, 61, 132, 3, 1, 167, 255, 226, 28]
abbrev dktX0_been_1 : List UInt8 := dkwX0_been_1 ++ dktX0_been_2
def dkwX0_been_0 : List UInt8 := [42, 27, 182, 0, 233, 154, 0, 5, 2, 172, 3, 61, 3, 62, 29, 42, 182, 0, 145, 162, 0, 28, 28, 42]
abbrev dktX0_been_0 : List UInt8 := dkwX0_been_0 ++ dktX0_been_1
theorem dksX0_been_0 : cX0_been.data.toList.drop 0 = dktX0_been_0 := by decide +kernel
theorem dksX0_been_1 : cX0_been.data.toList.drop 24 = dktX0_been_1 := dk_seg dksX0_been_0 24 rfl rfl
theorem dksX0_been_2 : cX0_been.data.toList.drop 48 = dktX0_been_2 := dk_seg dksX0_been_1 24 rfl rfl
theorem dX0_been_0 : decode cX0_been 0 = .ok (.aload_n 0, 1) := dk_42 (dk_at dksX0_been_0 0 rfl rfl)
theorem dX0_been_1 : decode cX0_been 1 = .ok (.iload_n 1, 1) := dk_27 (dk_at dksX0_been_0 1 rfl rfl)
theorem dX0_been_2 : decode cX0_been 2 = .ok (.invokevirtual 233, 3) := dk_182 0 233 (dk_at dksX0_been_0 2 rfl rfl)
theorem dX0_been_5 : decode cX0_been 5 = .ok (.ifCond .ne 5, 3) := dk_154 0 5 (dk_at dksX0_been_0 5 rfl rfl)
theorem dX0_been_8 : decode cX0_been 8 = .ok (.iconst (-1), 1) := dk_2 (dk_at dksX0_been_0 8 rfl rfl)
theorem dX0_been_9 : decode cX0_been 9 = .ok (.ireturn, 1) := dk_172 (dk_at dksX0_been_0 9 rfl rfl)
theorem dX0_been_10 : decode cX0_been 10 = .ok (.iconst 0, 1) := dk_3 (dk_at dksX0_been_0 10 rfl rfl)
theorem dX0_been_11 : decode cX0_been 11 = .ok (.istore_n 2, 1) := dk_61 (dk_at dksX0_been_0 11 rfl rfl)
theorem dX0_been_12 : decode cX0_been 12 = .ok (.iconst 0, 1) := dk_3 (dk_at dksX0_been_0 12 rfl rfl)
theorem dX0_been_13 : decode cX0_been 13 = .ok (.istore_n 3, 1) := dk_62 (dk_at dksX0_been_0 13 rfl rfl)
theorem dX0_been_14 : decode cX0_been 14 = .ok (.iload_n 3, 1) := dk_29 (dk_at dksX0_been_0 14 rfl rfl)
theorem dX0_been_15 : decode cX0_been 15 = .ok (.aload_n 0, 1) := dk_42 (dk_at dksX0_been_0 15 rfl rfl)
theorem dX0_been_16 : decode cX0_been 16 = .ok (.invokevirtual 145, 3) := dk_182 0 145 (dk_at dksX0_been_0 16 rfl rfl)
theorem dX0_been_19 : decode cX0_been 19 = .ok (.if_icmp .ge 28, 3) := dk_162 0 28 (dk_at dksX0_been_0 19 rfl rfl)
theorem dX0_been_22 : decode cX0_been 22 = .ok (.iload_n 2, 1) := dk_28 (dk_at dksX0_been_0 22 rfl rfl)
theorem dX0_been_23 : decode cX0_been 23 = .ok (.aload_n 0, 1) := dk_42 (dk_at dksX0_been_0 23 rfl rfl)
theorem dX0_been_24 : decode cX0_been 24 = .ok (.iload_n 1, 1) := dk_27 (dk_at dksX0_been_1 0 rfl rfl)
theorem dX0_been_25 : decode cX0_been 25 = .ok (.iload_n 3, 1) := dk_29 (dk_at dksX0_been_1 1 rfl rfl)
theorem dX0_been_26 : decode cX0_been 26 = .ok (.invokevirtual 308, 3) := dk_182 1 52 (dk_at dksX0_been_1 2 rfl rfl)
theorem dX0_been_29 : decode cX0_been 29 = .ok (.ifCond .eq 9, 3) := dk_153 0 9 (dk_at dksX0_been_1 5 rfl rfl)
theorem dX0_been_32 : decode cX0_been 32 = .ok (.iconst 1, 1) := dk_4 (dk_at dksX0_been_1 8 rfl rfl)
theorem dX0_been_33 : decode cX0_been 33 = .ok (.iload_n 3, 1) := dk_29 (dk_at dksX0_been_1 9 rfl rfl)
theorem dX0_been_34 : decode cX0_been 34 = .ok (.ishl, 1) := dk_120 (dk_at dksX0_been_1 10 rfl rfl)
theorem dX0_been_35 : decode cX0_been 35 = .ok (.goto 4, 3) := dk_167 0 4 (dk_at dksX0_been_1 11 rfl rfl)
theorem dX0_been_38 : decode cX0_been 38 = .ok (.iconst 0, 1) := dk_3 (dk_at dksX0_been_1 14 rfl rfl)
theorem dX0_been_39 : decode cX0_been 39 = .ok (.ior, 1) := dk_128 (dk_at dksX0_been_1 15 rfl rfl)
theorem dX0_been_40 : decode cX0_been 40 = .ok (.istore_n 2, 1) := dk_61 (dk_at dksX0_been_1 16 rfl rfl)
theorem dX0_been_41 : decode cX0_been 41 = .ok (.iinc 3 1, 3) := dk_132 3 1 (dk_at dksX0_been_1 17 rfl rfl)
theorem dX0_been_44 : decode cX0_been 44 = .ok (.goto (-30), 3) := dk_167 255 226 (dk_at dksX0_been_1 20 rfl rfl)
theorem dX0_been_47 : decode cX0_been 47 = .ok (.iload_n 2, 1) := dk_28 (dk_at dksX0_been_1 23 rfl rfl)
theorem dX0_been_48 : decode cX0_been 48 = .ok (.ireturn, 1) := dk_172 (dk_at dksX0_been_2 0 rfl rfl)
abbrev cX0_canHaveBeen : ByteArray := prog_1_method_46_code
def yX0_canHaveBeen : MethodName := ⟨RX0, "canHaveBeen", "(II)Z"⟩
def dkwX0_canHaveBeen_4 : List UInt8 := [153, 0, 5, 3, 172, 132, 3, 1, 167, 255, 204, 4, 172]
abbrev dktX0_canHaveBeen_4 : List UInt8 := dkwX0_canHaveBeen_4 ++ []
def dkwX0_canHaveBeen_3 : List UInt8 := [29, 46, 42, 180, 0, 31, 42, 180, 0, 69, 180, 0, 239, 27, 46, 28, 29, 182, 1, 29, 2, 130, 126]
abbrev dktX0_canHaveBeen_3 : List UInt8 := dkwX0_canHaveBeen_3 ++ dktX0_canHaveBeen_4
def dkwX0_canHaveBeen_2 : List UInt8 := [172, 3, 62, 29, 42, 180, 0, 69, 27, 182, 0, 242, 162, 0, 46, 42, 180, 0, 69, 180, 0, 248, 27, 50]
abbrev dktX0_canHaveBeen_2 : List UInt8 := dkwX0_canHaveBeen_2 ++ dktX0_canHaveBeen_3
def dkwX0_canHaveBeen_1 : List UInt8 := [182, 0, 242, 160, 0, 20, 42, 28, 42, 180, 0, 69, 180, 0, 239, 27, 46, 182, 1, 25, 154, 0, 5, 3]
abbrev dktX0_canHaveBeen_1 : List UInt8 := dkwX0_canHaveBeen_1 ++ dktX0_canHaveBeen_2
def dkwX0_canHaveBeen_0 : List UInt8 := [42, 180, 0, 31, 180, 0, 133, 28, 185, 0, 156, 2, 0, 192, 0, 171, 182, 1, 28, 42, 180, 0, 69, 27]
abbrev dktX0_canHaveBeen_0 : List UInt8 := dkwX0_canHaveBeen_0 ++ dktX0_canHaveBeen_1
theorem dksX0_canHaveBeen_0 : cX0_canHaveBeen.data.toList.drop 0 = dktX0_canHaveBeen_0 := by decide +kernel
theorem dksX0_canHaveBeen_1 : cX0_canHaveBeen.data.toList.drop 24 = dktX0_canHaveBeen_1 := dk_seg dksX0_canHaveBeen_0 24 rfl rfl
theorem dksX0_canHaveBeen_2 : cX0_canHaveBeen.data.toList.drop 48 = dktX0_canHaveBeen_2 := dk_seg dksX0_canHaveBeen_1 24 rfl rfl
theorem dksX0_canHaveBeen_3 : cX0_canHaveBeen.data.toList.drop 72 = dktX0_canHaveBeen_3 := dk_seg dksX0_canHaveBeen_2 24 rfl rfl
theorem dksX0_canHaveBeen_4 : cX0_canHaveBeen.data.toList.drop 95 = dktX0_canHaveBeen_4 := dk_seg dksX0_canHaveBeen_3 23 rfl rfl
theorem dX0_canHaveBeen_0 : decode cX0_canHaveBeen 0 = .ok (.aload_n 0, 1) := dk_42 (dk_at dksX0_canHaveBeen_0 0 rfl rfl)
theorem dX0_canHaveBeen_1 : decode cX0_canHaveBeen 1 = .ok (.getfield 31, 3) := dk_180 0 31 (dk_at dksX0_canHaveBeen_0 1 rfl rfl)
theorem dX0_canHaveBeen_4 : decode cX0_canHaveBeen 4 = .ok (.getfield 133, 3) := dk_180 0 133 (dk_at dksX0_canHaveBeen_0 4 rfl rfl)
theorem dX0_canHaveBeen_7 : decode cX0_canHaveBeen 7 = .ok (.iload_n 2, 1) := dk_28 (dk_at dksX0_canHaveBeen_0 7 rfl rfl)
theorem dX0_canHaveBeen_8 : decode cX0_canHaveBeen 8 = .ok (.invokeinterface 156 2, 5) := by decide +kernel
theorem dX0_canHaveBeen_13 : decode cX0_canHaveBeen 13 = .ok (.checkcast 171, 3) := dk_192 0 171 (dk_at dksX0_canHaveBeen_0 13 rfl rfl)
theorem dX0_canHaveBeen_16 : decode cX0_canHaveBeen 16 = .ok (.invokevirtual 284, 3) := dk_182 1 28 (dk_at dksX0_canHaveBeen_0 16 rfl rfl)
theorem dX0_canHaveBeen_19 : decode cX0_canHaveBeen 19 = .ok (.aload_n 0, 1) := dk_42 (dk_at dksX0_canHaveBeen_0 19 rfl rfl)
theorem dX0_canHaveBeen_20 : decode cX0_canHaveBeen 20 = .ok (.getfield 69, 3) := dk_180 0 69 (dk_at dksX0_canHaveBeen_0 20 rfl rfl)
theorem dX0_canHaveBeen_23 : decode cX0_canHaveBeen 23 = .ok (.iload_n 1, 1) := dk_27 (dk_at dksX0_canHaveBeen_0 23 rfl rfl)
theorem dX0_canHaveBeen_24 : decode cX0_canHaveBeen 24 = .ok (.invokevirtual 242, 3) := dk_182 0 242 (dk_at dksX0_canHaveBeen_1 0 rfl rfl)
theorem dX0_canHaveBeen_27 : decode cX0_canHaveBeen 27 = .ok (.if_icmp .ne 20, 3) := dk_160 0 20 (dk_at dksX0_canHaveBeen_1 3 rfl rfl)
theorem dX0_canHaveBeen_30 : decode cX0_canHaveBeen 30 = .ok (.aload_n 0, 1) := dk_42 (dk_at dksX0_canHaveBeen_1 6 rfl rfl)
theorem dX0_canHaveBeen_31 : decode cX0_canHaveBeen 31 = .ok (.iload_n 2, 1) := dk_28 (dk_at dksX0_canHaveBeen_1 7 rfl rfl)
theorem dX0_canHaveBeen_32 : decode cX0_canHaveBeen 32 = .ok (.aload_n 0, 1) := dk_42 (dk_at dksX0_canHaveBeen_1 8 rfl rfl)
theorem dX0_canHaveBeen_33 : decode cX0_canHaveBeen 33 = .ok (.getfield 69, 3) := dk_180 0 69 (dk_at dksX0_canHaveBeen_1 9 rfl rfl)
theorem dX0_canHaveBeen_36 : decode cX0_canHaveBeen 36 = .ok (.getfield 239, 3) := dk_180 0 239 (dk_at dksX0_canHaveBeen_1 12 rfl rfl)
theorem dX0_canHaveBeen_39 : decode cX0_canHaveBeen 39 = .ok (.iload_n 1, 1) := dk_27 (dk_at dksX0_canHaveBeen_1 15 rfl rfl)
theorem dX0_canHaveBeen_40 : decode cX0_canHaveBeen 40 = .ok (.iaload, 1) := dk_46 (dk_at dksX0_canHaveBeen_1 16 rfl rfl)
theorem dX0_canHaveBeen_41 : decode cX0_canHaveBeen 41 = .ok (.invokevirtual 281, 3) := dk_182 1 25 (dk_at dksX0_canHaveBeen_1 17 rfl rfl)
theorem dX0_canHaveBeen_44 : decode cX0_canHaveBeen 44 = .ok (.ifCond .ne 5, 3) := dk_154 0 5 (dk_at dksX0_canHaveBeen_1 20 rfl rfl)
theorem dX0_canHaveBeen_47 : decode cX0_canHaveBeen 47 = .ok (.iconst 0, 1) := dk_3 (dk_at dksX0_canHaveBeen_1 23 rfl rfl)
theorem dX0_canHaveBeen_48 : decode cX0_canHaveBeen 48 = .ok (.ireturn, 1) := dk_172 (dk_at dksX0_canHaveBeen_2 0 rfl rfl)
theorem dX0_canHaveBeen_49 : decode cX0_canHaveBeen 49 = .ok (.iconst 0, 1) := dk_3 (dk_at dksX0_canHaveBeen_2 1 rfl rfl)
theorem dX0_canHaveBeen_50 : decode cX0_canHaveBeen 50 = .ok (.istore_n 3, 1) := dk_62 (dk_at dksX0_canHaveBeen_2 2 rfl rfl)
theorem dX0_canHaveBeen_51 : decode cX0_canHaveBeen 51 = .ok (.iload_n 3, 1) := dk_29 (dk_at dksX0_canHaveBeen_2 3 rfl rfl)
theorem dX0_canHaveBeen_52 : decode cX0_canHaveBeen 52 = .ok (.aload_n 0, 1) := dk_42 (dk_at dksX0_canHaveBeen_2 4 rfl rfl)
theorem dX0_canHaveBeen_53 : decode cX0_canHaveBeen 53 = .ok (.getfield 69, 3) := dk_180 0 69 (dk_at dksX0_canHaveBeen_2 5 rfl rfl)
theorem dX0_canHaveBeen_56 : decode cX0_canHaveBeen 56 = .ok (.iload_n 1, 1) := dk_27 (dk_at dksX0_canHaveBeen_2 8 rfl rfl)
theorem dX0_canHaveBeen_57 : decode cX0_canHaveBeen 57 = .ok (.invokevirtual 242, 3) := dk_182 0 242 (dk_at dksX0_canHaveBeen_2 9 rfl rfl)
theorem dX0_canHaveBeen_60 : decode cX0_canHaveBeen 60 = .ok (.if_icmp .ge 46, 3) := dk_162 0 46 (dk_at dksX0_canHaveBeen_2 12 rfl rfl)
theorem dX0_canHaveBeen_63 : decode cX0_canHaveBeen 63 = .ok (.aload_n 0, 1) := dk_42 (dk_at dksX0_canHaveBeen_2 15 rfl rfl)
theorem dX0_canHaveBeen_64 : decode cX0_canHaveBeen 64 = .ok (.getfield 69, 3) := dk_180 0 69 (dk_at dksX0_canHaveBeen_2 16 rfl rfl)
theorem dX0_canHaveBeen_67 : decode cX0_canHaveBeen 67 = .ok (.getfield 248, 3) := dk_180 0 248 (dk_at dksX0_canHaveBeen_2 19 rfl rfl)
theorem dX0_canHaveBeen_70 : decode cX0_canHaveBeen 70 = .ok (.iload_n 1, 1) := dk_27 (dk_at dksX0_canHaveBeen_2 22 rfl rfl)
theorem dX0_canHaveBeen_71 : decode cX0_canHaveBeen 71 = .ok (.aaload, 1) := dk_50 (dk_at dksX0_canHaveBeen_2 23 rfl rfl)
theorem dX0_canHaveBeen_72 : decode cX0_canHaveBeen 72 = .ok (.iload_n 3, 1) := dk_29 (dk_at dksX0_canHaveBeen_3 0 rfl rfl)
theorem dX0_canHaveBeen_73 : decode cX0_canHaveBeen 73 = .ok (.iaload, 1) := dk_46 (dk_at dksX0_canHaveBeen_3 1 rfl rfl)
theorem dX0_canHaveBeen_74 : decode cX0_canHaveBeen 74 = .ok (.aload_n 0, 1) := dk_42 (dk_at dksX0_canHaveBeen_3 2 rfl rfl)
theorem dX0_canHaveBeen_75 : decode cX0_canHaveBeen 75 = .ok (.getfield 31, 3) := dk_180 0 31 (dk_at dksX0_canHaveBeen_3 3 rfl rfl)
theorem dX0_canHaveBeen_78 : decode cX0_canHaveBeen 78 = .ok (.aload_n 0, 1) := dk_42 (dk_at dksX0_canHaveBeen_3 6 rfl rfl)
theorem dX0_canHaveBeen_79 : decode cX0_canHaveBeen 79 = .ok (.getfield 69, 3) := dk_180 0 69 (dk_at dksX0_canHaveBeen_3 7 rfl rfl)
theorem dX0_canHaveBeen_82 : decode cX0_canHaveBeen 82 = .ok (.getfield 239, 3) := dk_180 0 239 (dk_at dksX0_canHaveBeen_3 10 rfl rfl)
theorem dX0_canHaveBeen_85 : decode cX0_canHaveBeen 85 = .ok (.iload_n 1, 1) := dk_27 (dk_at dksX0_canHaveBeen_3 13 rfl rfl)
theorem dX0_canHaveBeen_86 : decode cX0_canHaveBeen 86 = .ok (.iaload, 1) := dk_46 (dk_at dksX0_canHaveBeen_3 14 rfl rfl)
theorem dX0_canHaveBeen_87 : decode cX0_canHaveBeen 87 = .ok (.iload_n 2, 1) := dk_28 (dk_at dksX0_canHaveBeen_3 15 rfl rfl)
theorem dX0_canHaveBeen_88 : decode cX0_canHaveBeen 88 = .ok (.iload_n 3, 1) := dk_29 (dk_at dksX0_canHaveBeen_3 16 rfl rfl)
theorem dX0_canHaveBeen_89 : decode cX0_canHaveBeen 89 = .ok (.invokevirtual 285, 3) := dk_182 1 29 (dk_at dksX0_canHaveBeen_3 17 rfl rfl)
theorem dX0_canHaveBeen_92 : decode cX0_canHaveBeen 92 = .ok (.iconst (-1), 1) := dk_2 (dk_at dksX0_canHaveBeen_3 20 rfl rfl)
theorem dX0_canHaveBeen_93 : decode cX0_canHaveBeen 93 = .ok (.ixor, 1) := dk_130 (dk_at dksX0_canHaveBeen_3 21 rfl rfl)
theorem dX0_canHaveBeen_94 : decode cX0_canHaveBeen 94 = .ok (.iand, 1) := dk_126 (dk_at dksX0_canHaveBeen_3 22 rfl rfl)
theorem dX0_canHaveBeen_95 : decode cX0_canHaveBeen 95 = .ok (.ifCond .eq 5, 3) := dk_153 0 5 (dk_at dksX0_canHaveBeen_4 0 rfl rfl)
theorem dX0_canHaveBeen_98 : decode cX0_canHaveBeen 98 = .ok (.iconst 0, 1) := dk_3 (dk_at dksX0_canHaveBeen_4 3 rfl rfl)
theorem dX0_canHaveBeen_99 : decode cX0_canHaveBeen 99 = .ok (.ireturn, 1) := dk_172 (dk_at dksX0_canHaveBeen_4 4 rfl rfl)
theorem dX0_canHaveBeen_100 : decode cX0_canHaveBeen 100 = .ok (.iinc 3 1, 3) := dk_132 3 1 (dk_at dksX0_canHaveBeen_4 5 rfl rfl)
theorem dX0_canHaveBeen_103 : decode cX0_canHaveBeen 103 = .ok (.goto (-52), 3) := dk_167 255 204 (dk_at dksX0_canHaveBeen_4 8 rfl rfl)
theorem dX0_canHaveBeen_106 : decode cX0_canHaveBeen 106 = .ok (.iconst 1, 1) := dk_4 (dk_at dksX0_canHaveBeen_4 11 rfl rfl)
theorem dX0_canHaveBeen_107 : decode cX0_canHaveBeen 107 = .ok (.ireturn, 1) := dk_172 (dk_at dksX0_canHaveBeen_4 12 rfl rfl)
abbrev cX0_lasts : ByteArray := prog_1_method_48_code
def yX0_lasts : MethodName := ⟨RX0, "lasts", "(I)I"⟩
def dkwX0_lasts_3 : List UInt8 := [28, 172]
abbrev dktX0_lasts_3 : List UInt8 := dkwX0_lasts_3 ++ []
def dkwX0_lasts_2 : List UInt8 := [153, 0, 24, 42, 180, 0, 73, 4, 182, 1, 17, 27, 182, 1, 55, 153, 0, 9, 132, 2, 1, 167, 255, 225]
abbrev dktX0_lasts_2 : List UInt8 := dkwX0_lasts_2 ++ dktX0_lasts_3
def dkwX0_lasts_1 : List UInt8 := [180, 0, 73, 42, 180, 0, 69, 182, 1, 13, 87, 3, 61, 42, 28, 4, 96, 4, 16, 60, 182, 1, 10]
abbrev dktX0_lasts_1 : List UInt8 := dkwX0_lasts_1 ++ dktX0_lasts_2
def dkwX0_lasts_0 : List UInt8 := [42, 27, 182, 0, 233, 153, 0, 14, 42, 180, 0, 69, 27, 182, 1, 55, 154, 0, 5, 2, 172, 42]
abbrev dktX0_lasts_0 : List UInt8 := dkwX0_lasts_0 ++ dktX0_lasts_1
theorem dksX0_lasts_0 : cX0_lasts.data.toList.drop 0 = dktX0_lasts_0 := by decide +kernel
theorem dksX0_lasts_1 : cX0_lasts.data.toList.drop 22 = dktX0_lasts_1 := dk_seg dksX0_lasts_0 22 rfl rfl
theorem dksX0_lasts_2 : cX0_lasts.data.toList.drop 45 = dktX0_lasts_2 := dk_seg dksX0_lasts_1 23 rfl rfl
theorem dksX0_lasts_3 : cX0_lasts.data.toList.drop 69 = dktX0_lasts_3 := dk_seg dksX0_lasts_2 24 rfl rfl
theorem dX0_lasts_0 : decode cX0_lasts 0 = .ok (.aload_n 0, 1) := dk_42 (dk_at dksX0_lasts_0 0 rfl rfl)
theorem dX0_lasts_1 : decode cX0_lasts 1 = .ok (.iload_n 1, 1) := dk_27 (dk_at dksX0_lasts_0 1 rfl rfl)
theorem dX0_lasts_2 : decode cX0_lasts 2 = .ok (.invokevirtual 233, 3) := dk_182 0 233 (dk_at dksX0_lasts_0 2 rfl rfl)
theorem dX0_lasts_5 : decode cX0_lasts 5 = .ok (.ifCond .eq 14, 3) := dk_153 0 14 (dk_at dksX0_lasts_0 5 rfl rfl)
theorem dX0_lasts_8 : decode cX0_lasts 8 = .ok (.aload_n 0, 1) := dk_42 (dk_at dksX0_lasts_0 8 rfl rfl)
theorem dX0_lasts_9 : decode cX0_lasts 9 = .ok (.getfield 69, 3) := dk_180 0 69 (dk_at dksX0_lasts_0 9 rfl rfl)
theorem dX0_lasts_12 : decode cX0_lasts 12 = .ok (.iload_n 1, 1) := dk_27 (dk_at dksX0_lasts_0 12 rfl rfl)
theorem dX0_lasts_13 : decode cX0_lasts 13 = .ok (.invokevirtual 311, 3) := dk_182 1 55 (dk_at dksX0_lasts_0 13 rfl rfl)
theorem dX0_lasts_16 : decode cX0_lasts 16 = .ok (.ifCond .ne 5, 3) := dk_154 0 5 (dk_at dksX0_lasts_0 16 rfl rfl)
theorem dX0_lasts_19 : decode cX0_lasts 19 = .ok (.iconst (-1), 1) := dk_2 (dk_at dksX0_lasts_0 19 rfl rfl)
theorem dX0_lasts_20 : decode cX0_lasts 20 = .ok (.ireturn, 1) := dk_172 (dk_at dksX0_lasts_0 20 rfl rfl)
theorem dX0_lasts_21 : decode cX0_lasts 21 = .ok (.aload_n 0, 1) := dk_42 (dk_at dksX0_lasts_0 21 rfl rfl)
theorem dX0_lasts_22 : decode cX0_lasts 22 = .ok (.getfield 73, 3) := dk_180 0 73 (dk_at dksX0_lasts_1 0 rfl rfl)
theorem dX0_lasts_25 : decode cX0_lasts 25 = .ok (.aload_n 0, 1) := dk_42 (dk_at dksX0_lasts_1 3 rfl rfl)
theorem dX0_lasts_26 : decode cX0_lasts 26 = .ok (.getfield 69, 3) := dk_180 0 69 (dk_at dksX0_lasts_1 4 rfl rfl)
theorem dX0_lasts_29 : decode cX0_lasts 29 = .ok (.invokevirtual 269, 3) := dk_182 1 13 (dk_at dksX0_lasts_1 7 rfl rfl)
theorem dX0_lasts_32 : decode cX0_lasts 32 = .ok (.pop, 1) := dk_87 (dk_at dksX0_lasts_1 10 rfl rfl)
theorem dX0_lasts_33 : decode cX0_lasts 33 = .ok (.iconst 0, 1) := dk_3 (dk_at dksX0_lasts_1 11 rfl rfl)
theorem dX0_lasts_34 : decode cX0_lasts 34 = .ok (.istore_n 2, 1) := dk_61 (dk_at dksX0_lasts_1 12 rfl rfl)
theorem dX0_lasts_35 : decode cX0_lasts 35 = .ok (.aload_n 0, 1) := dk_42 (dk_at dksX0_lasts_1 13 rfl rfl)
theorem dX0_lasts_36 : decode cX0_lasts 36 = .ok (.iload_n 2, 1) := dk_28 (dk_at dksX0_lasts_1 14 rfl rfl)
theorem dX0_lasts_37 : decode cX0_lasts 37 = .ok (.iconst 1, 1) := dk_4 (dk_at dksX0_lasts_1 15 rfl rfl)
theorem dX0_lasts_38 : decode cX0_lasts 38 = .ok (.iadd, 1) := dk_96 (dk_at dksX0_lasts_1 16 rfl rfl)
theorem dX0_lasts_39 : decode cX0_lasts 39 = .ok (.iconst 1, 1) := dk_4 (dk_at dksX0_lasts_1 17 rfl rfl)
theorem dX0_lasts_40 : decode cX0_lasts 40 = .ok (.bipush 60, 2) := dk_16 60 (dk_at dksX0_lasts_1 18 rfl rfl)
theorem dX0_lasts_42 : decode cX0_lasts 42 = .ok (.invokevirtual 266, 3) := dk_182 1 10 (dk_at dksX0_lasts_1 20 rfl rfl)
theorem dX0_lasts_45 : decode cX0_lasts 45 = .ok (.ifCond .eq 24, 3) := dk_153 0 24 (dk_at dksX0_lasts_2 0 rfl rfl)
theorem dX0_lasts_48 : decode cX0_lasts 48 = .ok (.aload_n 0, 1) := dk_42 (dk_at dksX0_lasts_2 3 rfl rfl)
theorem dX0_lasts_49 : decode cX0_lasts 49 = .ok (.getfield 73, 3) := dk_180 0 73 (dk_at dksX0_lasts_2 4 rfl rfl)
theorem dX0_lasts_52 : decode cX0_lasts 52 = .ok (.iconst 1, 1) := dk_4 (dk_at dksX0_lasts_2 7 rfl rfl)
theorem dX0_lasts_53 : decode cX0_lasts 53 = .ok (.invokevirtual 273, 3) := dk_182 1 17 (dk_at dksX0_lasts_2 8 rfl rfl)
theorem dX0_lasts_56 : decode cX0_lasts 56 = .ok (.iload_n 1, 1) := dk_27 (dk_at dksX0_lasts_2 11 rfl rfl)
theorem dX0_lasts_57 : decode cX0_lasts 57 = .ok (.invokevirtual 311, 3) := dk_182 1 55 (dk_at dksX0_lasts_2 12 rfl rfl)
theorem dX0_lasts_60 : decode cX0_lasts 60 = .ok (.ifCond .eq 9, 3) := dk_153 0 9 (dk_at dksX0_lasts_2 15 rfl rfl)
theorem dX0_lasts_63 : decode cX0_lasts 63 = .ok (.iinc 2 1, 3) := dk_132 2 1 (dk_at dksX0_lasts_2 18 rfl rfl)
theorem dX0_lasts_66 : decode cX0_lasts 66 = .ok (.goto (-31), 3) := dk_167 255 225 (dk_at dksX0_lasts_2 21 rfl rfl)
theorem dX0_lasts_69 : decode cX0_lasts 69 = .ok (.iload_n 2, 1) := dk_28 (dk_at dksX0_lasts_3 0 rfl rfl)
theorem dX0_lasts_70 : decode cX0_lasts 70 = .ok (.ireturn, 1) := dk_172 (dk_at dksX0_lasts_3 1 rfl rfl)
abbrev cX0_mend : ByteArray := prog_1_method_49_code
def yX0_mend : MethodName := ⟨RX0, "mend", "(III)I"⟩
def dkwX0_mend_7 : List UInt8 := [160, 0, 8, 21, 6, 167, 0, 4, 2, 172]
abbrev dktX0_mend_7 : List UInt8 := dkwX0_mend_7 ++ []
def dkwX0_mend_6 : List UInt8 := [167, 255, 182, 42, 42, 180, 0, 69, 180, 0, 239, 27, 46, 21, 5, 182, 1, 7, 25, 4, 180, 0, 215]
abbrev dktX0_mend_6 : List UInt8 := dkwX0_mend_6 ++ dktX0_mend_7
def dkwX0_mend_5 : List UInt8 := [184, 1, 58, 154, 0, 6, 167, 0, 15, 21, 5, 4, 21, 7, 120, 128, 54, 5, 132, 6, 1, 132, 7, 1]
abbrev dktX0_mend_5 : List UInt8 := dkwX0_mend_5 ++ dktX0_mend_6
def dkwX0_mend_4 : List UInt8 := [160, 0, 6, 21, 6, 172, 21, 5, 21, 7, 184, 1, 58, 154, 0, 31, 25, 4, 180, 0, 177, 21, 7]
abbrev dktX0_mend_4 : List UInt8 := dkwX0_mend_4 ++ dktX0_mend_5
def dkwX0_mend_3 : List UInt8 := [162, 0, 73, 42, 42, 180, 0, 69, 180, 0, 239, 27, 46, 21, 5, 182, 1, 7, 25, 4, 180, 0, 215]
abbrev dktX0_mend_3 : List UInt8 := dkwX0_mend_3 ++ dktX0_mend_4
def dkwX0_mend_2 : List UInt8 := [180, 0, 69, 180, 0, 248, 27, 50, 28, 46, 54, 5, 3, 54, 6, 3, 54, 7, 21, 7, 16, 15]
abbrev dktX0_mend_2 : List UInt8 := dkwX0_mend_2 ++ dktX0_mend_3
def dkwX0_mend_1 : List UInt8 := [154, 0, 5, 2, 172, 42, 42, 180, 0, 69, 180, 0, 239, 27, 46, 29, 182, 0, 207, 58, 4, 42]
abbrev dktX0_mend_1 : List UInt8 := dkwX0_mend_1 ++ dktX0_mend_2
def dkwX0_mend_0 : List UInt8 := [42, 27, 28, 182, 0, 245, 153, 0, 20, 42, 42, 180, 0, 69, 180, 0, 239, 27, 46, 29, 182, 0, 227]
abbrev dktX0_mend_0 : List UInt8 := dkwX0_mend_0 ++ dktX0_mend_1
theorem dksX0_mend_0 : cX0_mend.data.toList.drop 0 = dktX0_mend_0 := by decide +kernel
theorem dksX0_mend_1 : cX0_mend.data.toList.drop 23 = dktX0_mend_1 := dk_seg dksX0_mend_0 23 rfl rfl
theorem dksX0_mend_2 : cX0_mend.data.toList.drop 45 = dktX0_mend_2 := dk_seg dksX0_mend_1 22 rfl rfl
theorem dksX0_mend_3 : cX0_mend.data.toList.drop 67 = dktX0_mend_3 := dk_seg dksX0_mend_2 22 rfl rfl
theorem dksX0_mend_4 : cX0_mend.data.toList.drop 90 = dktX0_mend_4 := dk_seg dksX0_mend_3 23 rfl rfl
theorem dksX0_mend_5 : cX0_mend.data.toList.drop 113 = dktX0_mend_5 := dk_seg dksX0_mend_4 23 rfl rfl
theorem dksX0_mend_6 : cX0_mend.data.toList.drop 137 = dktX0_mend_6 := dk_seg dksX0_mend_5 24 rfl rfl
theorem dksX0_mend_7 : cX0_mend.data.toList.drop 160 = dktX0_mend_7 := dk_seg dksX0_mend_6 23 rfl rfl
theorem dX0_mend_0 : decode cX0_mend 0 = .ok (.aload_n 0, 1) := dk_42 (dk_at dksX0_mend_0 0 rfl rfl)
theorem dX0_mend_1 : decode cX0_mend 1 = .ok (.iload_n 1, 1) := dk_27 (dk_at dksX0_mend_0 1 rfl rfl)
theorem dX0_mend_2 : decode cX0_mend 2 = .ok (.iload_n 2, 1) := dk_28 (dk_at dksX0_mend_0 2 rfl rfl)
theorem dX0_mend_3 : decode cX0_mend 3 = .ok (.invokevirtual 245, 3) := dk_182 0 245 (dk_at dksX0_mend_0 3 rfl rfl)
theorem dX0_mend_6 : decode cX0_mend 6 = .ok (.ifCond .eq 20, 3) := dk_153 0 20 (dk_at dksX0_mend_0 6 rfl rfl)
theorem dX0_mend_9 : decode cX0_mend 9 = .ok (.aload_n 0, 1) := dk_42 (dk_at dksX0_mend_0 9 rfl rfl)
theorem dX0_mend_10 : decode cX0_mend 10 = .ok (.aload_n 0, 1) := dk_42 (dk_at dksX0_mend_0 10 rfl rfl)
theorem dX0_mend_11 : decode cX0_mend 11 = .ok (.getfield 69, 3) := dk_180 0 69 (dk_at dksX0_mend_0 11 rfl rfl)
theorem dX0_mend_14 : decode cX0_mend 14 = .ok (.getfield 239, 3) := dk_180 0 239 (dk_at dksX0_mend_0 14 rfl rfl)
theorem dX0_mend_17 : decode cX0_mend 17 = .ok (.iload_n 1, 1) := dk_27 (dk_at dksX0_mend_0 17 rfl rfl)
theorem dX0_mend_18 : decode cX0_mend 18 = .ok (.iaload, 1) := dk_46 (dk_at dksX0_mend_0 18 rfl rfl)
theorem dX0_mend_19 : decode cX0_mend 19 = .ok (.iload_n 3, 1) := dk_29 (dk_at dksX0_mend_0 19 rfl rfl)
theorem dX0_mend_20 : decode cX0_mend 20 = .ok (.invokevirtual 227, 3) := dk_182 0 227 (dk_at dksX0_mend_0 20 rfl rfl)
theorem dX0_mend_23 : decode cX0_mend 23 = .ok (.ifCond .ne 5, 3) := dk_154 0 5 (dk_at dksX0_mend_1 0 rfl rfl)
theorem dX0_mend_26 : decode cX0_mend 26 = .ok (.iconst (-1), 1) := dk_2 (dk_at dksX0_mend_1 3 rfl rfl)
theorem dX0_mend_27 : decode cX0_mend 27 = .ok (.ireturn, 1) := dk_172 (dk_at dksX0_mend_1 4 rfl rfl)
theorem dX0_mend_28 : decode cX0_mend 28 = .ok (.aload_n 0, 1) := dk_42 (dk_at dksX0_mend_1 5 rfl rfl)
theorem dX0_mend_29 : decode cX0_mend 29 = .ok (.aload_n 0, 1) := dk_42 (dk_at dksX0_mend_1 6 rfl rfl)
theorem dX0_mend_30 : decode cX0_mend 30 = .ok (.getfield 69, 3) := dk_180 0 69 (dk_at dksX0_mend_1 7 rfl rfl)
theorem dX0_mend_33 : decode cX0_mend 33 = .ok (.getfield 239, 3) := dk_180 0 239 (dk_at dksX0_mend_1 10 rfl rfl)
theorem dX0_mend_36 : decode cX0_mend 36 = .ok (.iload_n 1, 1) := dk_27 (dk_at dksX0_mend_1 13 rfl rfl)
theorem dX0_mend_37 : decode cX0_mend 37 = .ok (.iaload, 1) := dk_46 (dk_at dksX0_mend_1 14 rfl rfl)
theorem dX0_mend_38 : decode cX0_mend 38 = .ok (.iload_n 3, 1) := dk_29 (dk_at dksX0_mend_1 15 rfl rfl)
theorem dX0_mend_39 : decode cX0_mend 39 = .ok (.invokevirtual 207, 3) := dk_182 0 207 (dk_at dksX0_mend_1 16 rfl rfl)
theorem dX0_mend_42 : decode cX0_mend 42 = .ok (.astore 4, 2) := dk_58 4 (dk_at dksX0_mend_1 19 rfl rfl)
theorem dX0_mend_44 : decode cX0_mend 44 = .ok (.aload_n 0, 1) := dk_42 (dk_at dksX0_mend_1 21 rfl rfl)
theorem dX0_mend_45 : decode cX0_mend 45 = .ok (.getfield 69, 3) := dk_180 0 69 (dk_at dksX0_mend_2 0 rfl rfl)
theorem dX0_mend_48 : decode cX0_mend 48 = .ok (.getfield 248, 3) := dk_180 0 248 (dk_at dksX0_mend_2 3 rfl rfl)
theorem dX0_mend_51 : decode cX0_mend 51 = .ok (.iload_n 1, 1) := dk_27 (dk_at dksX0_mend_2 6 rfl rfl)
theorem dX0_mend_52 : decode cX0_mend 52 = .ok (.aaload, 1) := dk_50 (dk_at dksX0_mend_2 7 rfl rfl)
theorem dX0_mend_53 : decode cX0_mend 53 = .ok (.iload_n 2, 1) := dk_28 (dk_at dksX0_mend_2 8 rfl rfl)
theorem dX0_mend_54 : decode cX0_mend 54 = .ok (.iaload, 1) := dk_46 (dk_at dksX0_mend_2 9 rfl rfl)
theorem dX0_mend_55 : decode cX0_mend 55 = .ok (.istore 5, 2) := dk_54 5 (dk_at dksX0_mend_2 10 rfl rfl)
theorem dX0_mend_57 : decode cX0_mend 57 = .ok (.iconst 0, 1) := dk_3 (dk_at dksX0_mend_2 12 rfl rfl)
theorem dX0_mend_58 : decode cX0_mend 58 = .ok (.istore 6, 2) := dk_54 6 (dk_at dksX0_mend_2 13 rfl rfl)
theorem dX0_mend_60 : decode cX0_mend 60 = .ok (.iconst 0, 1) := dk_3 (dk_at dksX0_mend_2 15 rfl rfl)
theorem dX0_mend_61 : decode cX0_mend 61 = .ok (.istore 7, 2) := dk_54 7 (dk_at dksX0_mend_2 16 rfl rfl)
theorem dX0_mend_63 : decode cX0_mend 63 = .ok (.iload 7, 2) := dk_21 7 (dk_at dksX0_mend_2 18 rfl rfl)
theorem dX0_mend_65 : decode cX0_mend 65 = .ok (.bipush 15, 2) := dk_16 15 (dk_at dksX0_mend_2 20 rfl rfl)
theorem dX0_mend_67 : decode cX0_mend 67 = .ok (.if_icmp .ge 73, 3) := dk_162 0 73 (dk_at dksX0_mend_3 0 rfl rfl)
theorem dX0_mend_70 : decode cX0_mend 70 = .ok (.aload_n 0, 1) := dk_42 (dk_at dksX0_mend_3 3 rfl rfl)
theorem dX0_mend_71 : decode cX0_mend 71 = .ok (.aload_n 0, 1) := dk_42 (dk_at dksX0_mend_3 4 rfl rfl)
theorem dX0_mend_72 : decode cX0_mend 72 = .ok (.getfield 69, 3) := dk_180 0 69 (dk_at dksX0_mend_3 5 rfl rfl)
theorem dX0_mend_75 : decode cX0_mend 75 = .ok (.getfield 239, 3) := dk_180 0 239 (dk_at dksX0_mend_3 8 rfl rfl)
theorem dX0_mend_78 : decode cX0_mend 78 = .ok (.iload_n 1, 1) := dk_27 (dk_at dksX0_mend_3 11 rfl rfl)
theorem dX0_mend_79 : decode cX0_mend 79 = .ok (.iaload, 1) := dk_46 (dk_at dksX0_mend_3 12 rfl rfl)
theorem dX0_mend_80 : decode cX0_mend 80 = .ok (.iload 5, 2) := dk_21 5 (dk_at dksX0_mend_3 13 rfl rfl)
theorem dX0_mend_82 : decode cX0_mend 82 = .ok (.invokevirtual 263, 3) := dk_182 1 7 (dk_at dksX0_mend_3 15 rfl rfl)
theorem dX0_mend_85 : decode cX0_mend 85 = .ok (.aload 4, 2) := dk_25 4 (dk_at dksX0_mend_3 18 rfl rfl)
theorem dX0_mend_87 : decode cX0_mend 87 = .ok (.getfield 215, 3) := dk_180 0 215 (dk_at dksX0_mend_3 20 rfl rfl)
theorem dX0_mend_90 : decode cX0_mend 90 = .ok (.if_icmp .ne 6, 3) := dk_160 0 6 (dk_at dksX0_mend_4 0 rfl rfl)
theorem dX0_mend_93 : decode cX0_mend 93 = .ok (.iload 6, 2) := dk_21 6 (dk_at dksX0_mend_4 3 rfl rfl)
theorem dX0_mend_95 : decode cX0_mend 95 = .ok (.ireturn, 1) := dk_172 (dk_at dksX0_mend_4 5 rfl rfl)
theorem dX0_mend_96 : decode cX0_mend 96 = .ok (.iload 5, 2) := dk_21 5 (dk_at dksX0_mend_4 6 rfl rfl)
theorem dX0_mend_98 : decode cX0_mend 98 = .ok (.iload 7, 2) := dk_21 7 (dk_at dksX0_mend_4 8 rfl rfl)
theorem dX0_mend_100 : decode cX0_mend 100 = .ok (.invokestatic 314, 3) := dk_184 1 58 (dk_at dksX0_mend_4 10 rfl rfl)
theorem dX0_mend_103 : decode cX0_mend 103 = .ok (.ifCond .ne 31, 3) := dk_154 0 31 (dk_at dksX0_mend_4 13 rfl rfl)
theorem dX0_mend_106 : decode cX0_mend 106 = .ok (.aload 4, 2) := dk_25 4 (dk_at dksX0_mend_4 16 rfl rfl)
theorem dX0_mend_108 : decode cX0_mend 108 = .ok (.getfield 177, 3) := dk_180 0 177 (dk_at dksX0_mend_4 18 rfl rfl)
theorem dX0_mend_111 : decode cX0_mend 111 = .ok (.iload 7, 2) := dk_21 7 (dk_at dksX0_mend_4 21 rfl rfl)
theorem dX0_mend_113 : decode cX0_mend 113 = .ok (.invokestatic 314, 3) := dk_184 1 58 (dk_at dksX0_mend_5 0 rfl rfl)
theorem dX0_mend_116 : decode cX0_mend 116 = .ok (.ifCond .ne 6, 3) := dk_154 0 6 (dk_at dksX0_mend_5 3 rfl rfl)
theorem dX0_mend_119 : decode cX0_mend 119 = .ok (.goto 15, 3) := dk_167 0 15 (dk_at dksX0_mend_5 6 rfl rfl)
theorem dX0_mend_122 : decode cX0_mend 122 = .ok (.iload 5, 2) := dk_21 5 (dk_at dksX0_mend_5 9 rfl rfl)
theorem dX0_mend_124 : decode cX0_mend 124 = .ok (.iconst 1, 1) := dk_4 (dk_at dksX0_mend_5 11 rfl rfl)
theorem dX0_mend_125 : decode cX0_mend 125 = .ok (.iload 7, 2) := dk_21 7 (dk_at dksX0_mend_5 12 rfl rfl)
theorem dX0_mend_127 : decode cX0_mend 127 = .ok (.ishl, 1) := dk_120 (dk_at dksX0_mend_5 14 rfl rfl)
theorem dX0_mend_128 : decode cX0_mend 128 = .ok (.ior, 1) := dk_128 (dk_at dksX0_mend_5 15 rfl rfl)
theorem dX0_mend_129 : decode cX0_mend 129 = .ok (.istore 5, 2) := dk_54 5 (dk_at dksX0_mend_5 16 rfl rfl)
theorem dX0_mend_131 : decode cX0_mend 131 = .ok (.iinc 6 1, 3) := dk_132 6 1 (dk_at dksX0_mend_5 18 rfl rfl)
theorem dX0_mend_134 : decode cX0_mend 134 = .ok (.iinc 7 1, 3) := dk_132 7 1 (dk_at dksX0_mend_5 21 rfl rfl)
theorem dX0_mend_137 : decode cX0_mend 137 = .ok (.goto (-74), 3) := dk_167 255 182 (dk_at dksX0_mend_6 0 rfl rfl)
theorem dX0_mend_140 : decode cX0_mend 140 = .ok (.aload_n 0, 1) := dk_42 (dk_at dksX0_mend_6 3 rfl rfl)
theorem dX0_mend_141 : decode cX0_mend 141 = .ok (.aload_n 0, 1) := dk_42 (dk_at dksX0_mend_6 4 rfl rfl)
theorem dX0_mend_142 : decode cX0_mend 142 = .ok (.getfield 69, 3) := dk_180 0 69 (dk_at dksX0_mend_6 5 rfl rfl)
theorem dX0_mend_145 : decode cX0_mend 145 = .ok (.getfield 239, 3) := dk_180 0 239 (dk_at dksX0_mend_6 8 rfl rfl)
theorem dX0_mend_148 : decode cX0_mend 148 = .ok (.iload_n 1, 1) := dk_27 (dk_at dksX0_mend_6 11 rfl rfl)
theorem dX0_mend_149 : decode cX0_mend 149 = .ok (.iaload, 1) := dk_46 (dk_at dksX0_mend_6 12 rfl rfl)
theorem dX0_mend_150 : decode cX0_mend 150 = .ok (.iload 5, 2) := dk_21 5 (dk_at dksX0_mend_6 13 rfl rfl)
theorem dX0_mend_152 : decode cX0_mend 152 = .ok (.invokevirtual 263, 3) := dk_182 1 7 (dk_at dksX0_mend_6 15 rfl rfl)
theorem dX0_mend_155 : decode cX0_mend 155 = .ok (.aload 4, 2) := dk_25 4 (dk_at dksX0_mend_6 18 rfl rfl)
theorem dX0_mend_157 : decode cX0_mend 157 = .ok (.getfield 215, 3) := dk_180 0 215 (dk_at dksX0_mend_6 20 rfl rfl)
theorem dX0_mend_160 : decode cX0_mend 160 = .ok (.if_icmp .ne 8, 3) := dk_160 0 8 (dk_at dksX0_mend_7 0 rfl rfl)
theorem dX0_mend_163 : decode cX0_mend 163 = .ok (.iload 6, 2) := dk_21 6 (dk_at dksX0_mend_7 3 rfl rfl)
theorem dX0_mend_165 : decode cX0_mend 165 = .ok (.goto 4, 3) := dk_167 0 4 (dk_at dksX0_mend_7 5 rfl rfl)
theorem dX0_mend_168 : decode cX0_mend 168 = .ok (.iconst (-1), 1) := dk_2 (dk_at dksX0_mend_7 8 rfl rfl)
theorem dX0_mend_169 : decode cX0_mend 169 = .ok (.ireturn, 1) := dk_172 (dk_at dksX0_mend_7 9 rfl rfl)
abbrev cX0_undo : ByteArray := prog_1_method_51_code
def yX0_undo : MethodName := ⟨RX0, "undo", "()Z"⟩
def dkwX0_undo_2 : List UInt8 := [87, 4, 172]
abbrev dktX0_undo_2 : List UInt8 := dkwX0_undo_2 ++ []
def dkwX0_undo_1 : List UInt8 := [180, 0, 127, 4, 100, 181, 0, 127, 42, 180, 0, 69, 42, 180, 0, 83, 42, 180, 0, 127, 50, 182, 1, 13]
abbrev dktX0_undo_1 : List UInt8 := dkwX0_undo_1 ++ dktX0_undo_2
def dkwX0_undo_0 : List UInt8 := [42, 180, 0, 127, 154, 0, 17, 42, 7, 182, 0, 97, 155, 0, 7, 4, 167, 0, 4, 3, 172, 42, 89]
abbrev dktX0_undo_0 : List UInt8 := dkwX0_undo_0 ++ dktX0_undo_1
theorem dksX0_undo_0 : cX0_undo.data.toList.drop 0 = dktX0_undo_0 := by decide +kernel
theorem dksX0_undo_1 : cX0_undo.data.toList.drop 23 = dktX0_undo_1 := dk_seg dksX0_undo_0 23 rfl rfl
theorem dksX0_undo_2 : cX0_undo.data.toList.drop 47 = dktX0_undo_2 := dk_seg dksX0_undo_1 24 rfl rfl
theorem dX0_undo_0 : decode cX0_undo 0 = .ok (.aload_n 0, 1) := dk_42 (dk_at dksX0_undo_0 0 rfl rfl)
theorem dX0_undo_1 : decode cX0_undo 1 = .ok (.getfield 127, 3) := dk_180 0 127 (dk_at dksX0_undo_0 1 rfl rfl)
theorem dX0_undo_4 : decode cX0_undo 4 = .ok (.ifCond .ne 17, 3) := dk_154 0 17 (dk_at dksX0_undo_0 4 rfl rfl)
theorem dX0_undo_7 : decode cX0_undo 7 = .ok (.aload_n 0, 1) := dk_42 (dk_at dksX0_undo_0 7 rfl rfl)
theorem dX0_undo_8 : decode cX0_undo 8 = .ok (.iconst 4, 1) := dk_7 (dk_at dksX0_undo_0 8 rfl rfl)
theorem dX0_undo_9 : decode cX0_undo 9 = .ok (.invokevirtual 97, 3) := dk_182 0 97 (dk_at dksX0_undo_0 9 rfl rfl)
theorem dX0_undo_12 : decode cX0_undo 12 = .ok (.ifCond .lt 7, 3) := dk_155 0 7 (dk_at dksX0_undo_0 12 rfl rfl)
theorem dX0_undo_15 : decode cX0_undo 15 = .ok (.iconst 1, 1) := dk_4 (dk_at dksX0_undo_0 15 rfl rfl)
theorem dX0_undo_16 : decode cX0_undo 16 = .ok (.goto 4, 3) := dk_167 0 4 (dk_at dksX0_undo_0 16 rfl rfl)
theorem dX0_undo_19 : decode cX0_undo 19 = .ok (.iconst 0, 1) := dk_3 (dk_at dksX0_undo_0 19 rfl rfl)
theorem dX0_undo_20 : decode cX0_undo 20 = .ok (.ireturn, 1) := dk_172 (dk_at dksX0_undo_0 20 rfl rfl)
theorem dX0_undo_21 : decode cX0_undo 21 = .ok (.aload_n 0, 1) := dk_42 (dk_at dksX0_undo_0 21 rfl rfl)
theorem dX0_undo_22 : decode cX0_undo 22 = .ok (.dup, 1) := dk_89 (dk_at dksX0_undo_0 22 rfl rfl)
theorem dX0_undo_23 : decode cX0_undo 23 = .ok (.getfield 127, 3) := dk_180 0 127 (dk_at dksX0_undo_1 0 rfl rfl)
theorem dX0_undo_26 : decode cX0_undo 26 = .ok (.iconst 1, 1) := dk_4 (dk_at dksX0_undo_1 3 rfl rfl)
theorem dX0_undo_27 : decode cX0_undo 27 = .ok (.isub, 1) := dk_100 (dk_at dksX0_undo_1 4 rfl rfl)
theorem dX0_undo_28 : decode cX0_undo 28 = .ok (.putfield 127, 3) := dk_181 0 127 (dk_at dksX0_undo_1 5 rfl rfl)
theorem dX0_undo_31 : decode cX0_undo 31 = .ok (.aload_n 0, 1) := dk_42 (dk_at dksX0_undo_1 8 rfl rfl)
theorem dX0_undo_32 : decode cX0_undo 32 = .ok (.getfield 69, 3) := dk_180 0 69 (dk_at dksX0_undo_1 9 rfl rfl)
theorem dX0_undo_35 : decode cX0_undo 35 = .ok (.aload_n 0, 1) := dk_42 (dk_at dksX0_undo_1 12 rfl rfl)
theorem dX0_undo_36 : decode cX0_undo 36 = .ok (.getfield 83, 3) := dk_180 0 83 (dk_at dksX0_undo_1 13 rfl rfl)
theorem dX0_undo_39 : decode cX0_undo 39 = .ok (.aload_n 0, 1) := dk_42 (dk_at dksX0_undo_1 16 rfl rfl)
theorem dX0_undo_40 : decode cX0_undo 40 = .ok (.getfield 127, 3) := dk_180 0 127 (dk_at dksX0_undo_1 17 rfl rfl)
theorem dX0_undo_43 : decode cX0_undo 43 = .ok (.aaload, 1) := dk_50 (dk_at dksX0_undo_1 20 rfl rfl)
theorem dX0_undo_44 : decode cX0_undo 44 = .ok (.invokevirtual 269, 3) := dk_182 1 13 (dk_at dksX0_undo_1 21 rfl rfl)
theorem dX0_undo_47 : decode cX0_undo 47 = .ok (.pop, 1) := dk_87 (dk_at dksX0_undo_2 0 rfl rfl)
theorem dX0_undo_48 : decode cX0_undo 48 = .ok (.iconst 1, 1) := dk_4 (dk_at dksX0_undo_2 1 rfl rfl)
theorem dX0_undo_49 : decode cX0_undo 49 = .ok (.ireturn, 1) := dk_172 (dk_at dksX0_undo_2 2 rfl rfl)
abbrev cX0_years : ByteArray := prog_1_method_52_code
def yX0_years : MethodName := ⟨RX0, "years", "(I)I"⟩
def dkwX0_years_1 : List UInt8 := [180, 0, 69, 3, 181, 1, 63, 42, 180, 0, 69, 27, 182, 1, 17, 87, 42, 180, 0, 69, 180, 1, 63, 172]
abbrev dktX0_years_1 : List UInt8 := dkwX0_years_1 ++ []
def dkwX0_years_0 : List UInt8 := [42, 27, 4, 16, 100, 182, 1, 10, 154, 0, 9, 42, 6, 182, 0, 97, 172, 42, 182, 1, 61, 42]
abbrev dktX0_years_0 : List UInt8 := dkwX0_years_0 ++ dktX0_years_1
theorem dksX0_years_0 : cX0_years.data.toList.drop 0 = dktX0_years_0 := by decide +kernel
theorem dksX0_years_1 : cX0_years.data.toList.drop 22 = dktX0_years_1 := dk_seg dksX0_years_0 22 rfl rfl
theorem dX0_years_0 : decode cX0_years 0 = .ok (.aload_n 0, 1) := dk_42 (dk_at dksX0_years_0 0 rfl rfl)
theorem dX0_years_1 : decode cX0_years 1 = .ok (.iload_n 1, 1) := dk_27 (dk_at dksX0_years_0 1 rfl rfl)
theorem dX0_years_2 : decode cX0_years 2 = .ok (.iconst 1, 1) := dk_4 (dk_at dksX0_years_0 2 rfl rfl)
theorem dX0_years_3 : decode cX0_years 3 = .ok (.bipush 100, 2) := dk_16 100 (dk_at dksX0_years_0 3 rfl rfl)
theorem dX0_years_5 : decode cX0_years 5 = .ok (.invokevirtual 266, 3) := dk_182 1 10 (dk_at dksX0_years_0 5 rfl rfl)
theorem dX0_years_8 : decode cX0_years 8 = .ok (.ifCond .ne 9, 3) := dk_154 0 9 (dk_at dksX0_years_0 8 rfl rfl)
theorem dX0_years_11 : decode cX0_years 11 = .ok (.aload_n 0, 1) := dk_42 (dk_at dksX0_years_0 11 rfl rfl)
theorem dX0_years_12 : decode cX0_years 12 = .ok (.iconst 3, 1) := dk_6 (dk_at dksX0_years_0 12 rfl rfl)
theorem dX0_years_13 : decode cX0_years 13 = .ok (.invokevirtual 97, 3) := dk_182 0 97 (dk_at dksX0_years_0 13 rfl rfl)
theorem dX0_years_16 : decode cX0_years 16 = .ok (.ireturn, 1) := dk_172 (dk_at dksX0_years_0 16 rfl rfl)
theorem dX0_years_17 : decode cX0_years 17 = .ok (.aload_n 0, 1) := dk_42 (dk_at dksX0_years_0 17 rfl rfl)
theorem dX0_years_18 : decode cX0_years 18 = .ok (.invokevirtual 317, 3) := dk_182 1 61 (dk_at dksX0_years_0 18 rfl rfl)
theorem dX0_years_21 : decode cX0_years 21 = .ok (.aload_n 0, 1) := dk_42 (dk_at dksX0_years_0 21 rfl rfl)
theorem dX0_years_22 : decode cX0_years 22 = .ok (.getfield 69, 3) := dk_180 0 69 (dk_at dksX0_years_1 0 rfl rfl)
theorem dX0_years_25 : decode cX0_years 25 = .ok (.iconst 0, 1) := dk_3 (dk_at dksX0_years_1 3 rfl rfl)
theorem dX0_years_26 : decode cX0_years 26 = .ok (.putfield 319, 3) := dk_181 1 63 (dk_at dksX0_years_1 4 rfl rfl)
theorem dX0_years_29 : decode cX0_years 29 = .ok (.aload_n 0, 1) := dk_42 (dk_at dksX0_years_1 7 rfl rfl)
theorem dX0_years_30 : decode cX0_years 30 = .ok (.getfield 69, 3) := dk_180 0 69 (dk_at dksX0_years_1 8 rfl rfl)
theorem dX0_years_33 : decode cX0_years 33 = .ok (.iload_n 1, 1) := dk_27 (dk_at dksX0_years_1 11 rfl rfl)
theorem dX0_years_34 : decode cX0_years 34 = .ok (.invokevirtual 273, 3) := dk_182 1 17 (dk_at dksX0_years_1 12 rfl rfl)
theorem dX0_years_37 : decode cX0_years 37 = .ok (.pop, 1) := dk_87 (dk_at dksX0_years_1 15 rfl rfl)
theorem dX0_years_38 : decode cX0_years 38 = .ok (.aload_n 0, 1) := dk_42 (dk_at dksX0_years_1 16 rfl rfl)
theorem dX0_years_39 : decode cX0_years 39 = .ok (.getfield 69, 3) := dk_180 0 69 (dk_at dksX0_years_1 17 rfl rfl)
theorem dX0_years_42 : decode cX0_years 42 = .ok (.getfield 319, 3) := dk_180 1 63 (dk_at dksX0_years_1 20 rfl rfl)
theorem dX0_years_45 : decode cX0_years 45 = .ok (.ireturn, 1) := dk_172 (dk_at dksX0_years_1 23 rfl rfl)
abbrev cX0_keeps : ByteArray := prog_1_method_50_code
def yX0_keeps : MethodName := ⟨RX0, "keeps", "()V"⟩
def dkwX0_keeps_3 : List UInt8 := [180, 0, 69, 182, 1, 13, 87, 42, 89, 180, 0, 127, 4, 96, 181, 0, 127, 177]
abbrev dktX0_keeps_3 : List UInt8 := dkwX0_keeps_3 ++ []
def dkwX0_keeps_2 : List UInt8 := [16, 19, 43, 83, 42, 89, 180, 0, 127, 4, 100, 181, 0, 127, 42, 180, 0, 83, 42, 180, 0, 127, 50, 42]
abbrev dktX0_keeps_2 : List UInt8 := dkwX0_keeps_2 ++ dktX0_keeps_3
def dkwX0_keeps_1 : List UInt8 := [42, 180, 0, 83, 28, 4, 100, 42, 180, 0, 83, 28, 50, 83, 132, 2, 1, 167, 255, 233, 42, 180, 0, 83]
abbrev dktX0_keeps_1 : List UInt8 := dkwX0_keeps_1 ++ dktX0_keeps_2
def dkwX0_keeps_0 : List UInt8 := [42, 180, 0, 127, 16, 20, 160, 0, 56, 42, 180, 0, 83, 3, 50, 76, 4, 61, 28, 16, 20, 162, 0, 23]
abbrev dktX0_keeps_0 : List UInt8 := dkwX0_keeps_0 ++ dktX0_keeps_1
theorem dksX0_keeps_0 : cX0_keeps.data.toList.drop 0 = dktX0_keeps_0 := by decide +kernel
theorem dksX0_keeps_1 : cX0_keeps.data.toList.drop 24 = dktX0_keeps_1 := dk_seg dksX0_keeps_0 24 rfl rfl
theorem dksX0_keeps_2 : cX0_keeps.data.toList.drop 48 = dktX0_keeps_2 := dk_seg dksX0_keeps_1 24 rfl rfl
theorem dksX0_keeps_3 : cX0_keeps.data.toList.drop 72 = dktX0_keeps_3 := dk_seg dksX0_keeps_2 24 rfl rfl
theorem dX0_keeps_0 : decode cX0_keeps 0 = .ok (.aload_n 0, 1) := dk_42 (dk_at dksX0_keeps_0 0 rfl rfl)
theorem dX0_keeps_1 : decode cX0_keeps 1 = .ok (.getfield 127, 3) := dk_180 0 127 (dk_at dksX0_keeps_0 1 rfl rfl)
theorem dX0_keeps_4 : decode cX0_keeps 4 = .ok (.bipush 20, 2) := dk_16 20 (dk_at dksX0_keeps_0 4 rfl rfl)
theorem dX0_keeps_6 : decode cX0_keeps 6 = .ok (.if_icmp .ne 56, 3) := dk_160 0 56 (dk_at dksX0_keeps_0 6 rfl rfl)
theorem dX0_keeps_9 : decode cX0_keeps 9 = .ok (.aload_n 0, 1) := dk_42 (dk_at dksX0_keeps_0 9 rfl rfl)
theorem dX0_keeps_10 : decode cX0_keeps 10 = .ok (.getfield 83, 3) := dk_180 0 83 (dk_at dksX0_keeps_0 10 rfl rfl)
theorem dX0_keeps_13 : decode cX0_keeps 13 = .ok (.iconst 0, 1) := dk_3 (dk_at dksX0_keeps_0 13 rfl rfl)
theorem dX0_keeps_14 : decode cX0_keeps 14 = .ok (.aaload, 1) := dk_50 (dk_at dksX0_keeps_0 14 rfl rfl)
theorem dX0_keeps_15 : decode cX0_keeps 15 = .ok (.astore_n 1, 1) := dk_76 (dk_at dksX0_keeps_0 15 rfl rfl)
theorem dX0_keeps_16 : decode cX0_keeps 16 = .ok (.iconst 1, 1) := dk_4 (dk_at dksX0_keeps_0 16 rfl rfl)
theorem dX0_keeps_17 : decode cX0_keeps 17 = .ok (.istore_n 2, 1) := dk_61 (dk_at dksX0_keeps_0 17 rfl rfl)
theorem dX0_keeps_18 : decode cX0_keeps 18 = .ok (.iload_n 2, 1) := dk_28 (dk_at dksX0_keeps_0 18 rfl rfl)
theorem dX0_keeps_19 : decode cX0_keeps 19 = .ok (.bipush 20, 2) := dk_16 20 (dk_at dksX0_keeps_0 19 rfl rfl)
theorem dX0_keeps_21 : decode cX0_keeps 21 = .ok (.if_icmp .ge 23, 3) := dk_162 0 23 (dk_at dksX0_keeps_0 21 rfl rfl)
theorem dX0_keeps_24 : decode cX0_keeps 24 = .ok (.aload_n 0, 1) := dk_42 (dk_at dksX0_keeps_1 0 rfl rfl)
theorem dX0_keeps_25 : decode cX0_keeps 25 = .ok (.getfield 83, 3) := dk_180 0 83 (dk_at dksX0_keeps_1 1 rfl rfl)
theorem dX0_keeps_28 : decode cX0_keeps 28 = .ok (.iload_n 2, 1) := dk_28 (dk_at dksX0_keeps_1 4 rfl rfl)
theorem dX0_keeps_29 : decode cX0_keeps 29 = .ok (.iconst 1, 1) := dk_4 (dk_at dksX0_keeps_1 5 rfl rfl)
theorem dX0_keeps_30 : decode cX0_keeps 30 = .ok (.isub, 1) := dk_100 (dk_at dksX0_keeps_1 6 rfl rfl)
theorem dX0_keeps_31 : decode cX0_keeps 31 = .ok (.aload_n 0, 1) := dk_42 (dk_at dksX0_keeps_1 7 rfl rfl)
theorem dX0_keeps_32 : decode cX0_keeps 32 = .ok (.getfield 83, 3) := dk_180 0 83 (dk_at dksX0_keeps_1 8 rfl rfl)
theorem dX0_keeps_35 : decode cX0_keeps 35 = .ok (.iload_n 2, 1) := dk_28 (dk_at dksX0_keeps_1 11 rfl rfl)
theorem dX0_keeps_36 : decode cX0_keeps 36 = .ok (.aaload, 1) := dk_50 (dk_at dksX0_keeps_1 12 rfl rfl)
theorem dX0_keeps_37 : decode cX0_keeps 37 = .ok (.aastore, 1) := dk_83 (dk_at dksX0_keeps_1 13 rfl rfl)
theorem dX0_keeps_38 : decode cX0_keeps 38 = .ok (.iinc 2 1, 3) := dk_132 2 1 (dk_at dksX0_keeps_1 14 rfl rfl)
theorem dX0_keeps_41 : decode cX0_keeps 41 = .ok (.goto (-23), 3) := dk_167 255 233 (dk_at dksX0_keeps_1 17 rfl rfl)
theorem dX0_keeps_44 : decode cX0_keeps 44 = .ok (.aload_n 0, 1) := dk_42 (dk_at dksX0_keeps_1 20 rfl rfl)
theorem dX0_keeps_45 : decode cX0_keeps 45 = .ok (.getfield 83, 3) := dk_180 0 83 (dk_at dksX0_keeps_1 21 rfl rfl)
theorem dX0_keeps_48 : decode cX0_keeps 48 = .ok (.bipush 19, 2) := dk_16 19 (dk_at dksX0_keeps_2 0 rfl rfl)
theorem dX0_keeps_50 : decode cX0_keeps 50 = .ok (.aload_n 1, 1) := dk_43 (dk_at dksX0_keeps_2 2 rfl rfl)
theorem dX0_keeps_51 : decode cX0_keeps 51 = .ok (.aastore, 1) := dk_83 (dk_at dksX0_keeps_2 3 rfl rfl)
theorem dX0_keeps_52 : decode cX0_keeps 52 = .ok (.aload_n 0, 1) := dk_42 (dk_at dksX0_keeps_2 4 rfl rfl)
theorem dX0_keeps_53 : decode cX0_keeps 53 = .ok (.dup, 1) := dk_89 (dk_at dksX0_keeps_2 5 rfl rfl)
theorem dX0_keeps_54 : decode cX0_keeps 54 = .ok (.getfield 127, 3) := dk_180 0 127 (dk_at dksX0_keeps_2 6 rfl rfl)
theorem dX0_keeps_57 : decode cX0_keeps 57 = .ok (.iconst 1, 1) := dk_4 (dk_at dksX0_keeps_2 9 rfl rfl)
theorem dX0_keeps_58 : decode cX0_keeps 58 = .ok (.isub, 1) := dk_100 (dk_at dksX0_keeps_2 10 rfl rfl)
theorem dX0_keeps_59 : decode cX0_keeps 59 = .ok (.putfield 127, 3) := dk_181 0 127 (dk_at dksX0_keeps_2 11 rfl rfl)
theorem dX0_keeps_62 : decode cX0_keeps 62 = .ok (.aload_n 0, 1) := dk_42 (dk_at dksX0_keeps_2 14 rfl rfl)
theorem dX0_keeps_63 : decode cX0_keeps 63 = .ok (.getfield 83, 3) := dk_180 0 83 (dk_at dksX0_keeps_2 15 rfl rfl)
theorem dX0_keeps_66 : decode cX0_keeps 66 = .ok (.aload_n 0, 1) := dk_42 (dk_at dksX0_keeps_2 18 rfl rfl)
theorem dX0_keeps_67 : decode cX0_keeps 67 = .ok (.getfield 127, 3) := dk_180 0 127 (dk_at dksX0_keeps_2 19 rfl rfl)
theorem dX0_keeps_70 : decode cX0_keeps 70 = .ok (.aaload, 1) := dk_50 (dk_at dksX0_keeps_2 22 rfl rfl)
theorem dX0_keeps_71 : decode cX0_keeps 71 = .ok (.aload_n 0, 1) := dk_42 (dk_at dksX0_keeps_2 23 rfl rfl)
theorem dX0_keeps_72 : decode cX0_keeps 72 = .ok (.getfield 69, 3) := dk_180 0 69 (dk_at dksX0_keeps_3 0 rfl rfl)
theorem dX0_keeps_75 : decode cX0_keeps 75 = .ok (.invokevirtual 269, 3) := dk_182 1 13 (dk_at dksX0_keeps_3 3 rfl rfl)
theorem dX0_keeps_78 : decode cX0_keeps 78 = .ok (.pop, 1) := dk_87 (dk_at dksX0_keeps_3 6 rfl rfl)
theorem dX0_keeps_79 : decode cX0_keeps 79 = .ok (.aload_n 0, 1) := dk_42 (dk_at dksX0_keeps_3 7 rfl rfl)
theorem dX0_keeps_80 : decode cX0_keeps 80 = .ok (.dup, 1) := dk_89 (dk_at dksX0_keeps_3 8 rfl rfl)
theorem dX0_keeps_81 : decode cX0_keeps 81 = .ok (.getfield 127, 3) := dk_180 0 127 (dk_at dksX0_keeps_3 9 rfl rfl)
theorem dX0_keeps_84 : decode cX0_keeps 84 = .ok (.iconst 1, 1) := dk_4 (dk_at dksX0_keeps_3 12 rfl rfl)
theorem dX0_keeps_85 : decode cX0_keeps 85 = .ok (.iadd, 1) := dk_96 (dk_at dksX0_keeps_3 13 rfl rfl)
theorem dX0_keeps_86 : decode cX0_keeps 86 = .ok (.putfield 127, 3) := dk_181 0 127 (dk_at dksX0_keeps_3 14 rfl rfl)
theorem dX0_keeps_89 : decode cX0_keeps 89 = .ok (.return_, 1) := dk_177 (dk_at dksX0_keeps_3 17 rfl rfl)
abbrev cX0_chance : ByteArray := prog_1_method_54_code
def yX0_chance : MethodName := ⟨RX0, "chance", "(I)I"⟩
def dkwX0_chance_3 : List UInt8 := [182, 1, 83, 132, 2, 1, 167, 255, 213, 42, 180, 0, 69, 180, 1, 74, 172]
abbrev dktX0_chance_3 : List UInt8 := dkwX0_chance_3 ++ []
def dkwX0_chance_2 : List UInt8 := [42, 180, 0, 31, 180, 1, 80, 162, 0, 14, 42, 182, 0, 147, 158, 0, 7, 4, 167, 0, 4, 3]
abbrev dktX0_chance_2 : List UInt8 := dkwX0_chance_2 ++ dktX0_chance_3
def dkwX0_chance_1 : List UInt8 := [180, 0, 69, 3, 181, 1, 74, 3, 61, 28, 27, 162, 0, 44, 42, 180, 0, 69, 42, 16, 100, 182, 1, 77]
abbrev dktX0_chance_1 : List UInt8 := dkwX0_chance_1 ++ dktX0_chance_2
def dkwX0_chance_0 : List UInt8 := [42, 27, 4, 16, 100, 182, 1, 10, 154, 0, 9, 42, 6, 182, 0, 97, 172, 42, 182, 1, 61, 42]
abbrev dktX0_chance_0 : List UInt8 := dkwX0_chance_0 ++ dktX0_chance_1
theorem dksX0_chance_0 : cX0_chance.data.toList.drop 0 = dktX0_chance_0 := by decide +kernel
theorem dksX0_chance_1 : cX0_chance.data.toList.drop 22 = dktX0_chance_1 := dk_seg dksX0_chance_0 22 rfl rfl
theorem dksX0_chance_2 : cX0_chance.data.toList.drop 46 = dktX0_chance_2 := dk_seg dksX0_chance_1 24 rfl rfl
theorem dksX0_chance_3 : cX0_chance.data.toList.drop 68 = dktX0_chance_3 := dk_seg dksX0_chance_2 22 rfl rfl
theorem dX0_chance_0 : decode cX0_chance 0 = .ok (.aload_n 0, 1) := dk_42 (dk_at dksX0_chance_0 0 rfl rfl)
theorem dX0_chance_1 : decode cX0_chance 1 = .ok (.iload_n 1, 1) := dk_27 (dk_at dksX0_chance_0 1 rfl rfl)
theorem dX0_chance_2 : decode cX0_chance 2 = .ok (.iconst 1, 1) := dk_4 (dk_at dksX0_chance_0 2 rfl rfl)
theorem dX0_chance_3 : decode cX0_chance 3 = .ok (.bipush 100, 2) := dk_16 100 (dk_at dksX0_chance_0 3 rfl rfl)
theorem dX0_chance_5 : decode cX0_chance 5 = .ok (.invokevirtual 266, 3) := dk_182 1 10 (dk_at dksX0_chance_0 5 rfl rfl)
theorem dX0_chance_8 : decode cX0_chance 8 = .ok (.ifCond .ne 9, 3) := dk_154 0 9 (dk_at dksX0_chance_0 8 rfl rfl)
theorem dX0_chance_11 : decode cX0_chance 11 = .ok (.aload_n 0, 1) := dk_42 (dk_at dksX0_chance_0 11 rfl rfl)
theorem dX0_chance_12 : decode cX0_chance 12 = .ok (.iconst 3, 1) := dk_6 (dk_at dksX0_chance_0 12 rfl rfl)
theorem dX0_chance_13 : decode cX0_chance 13 = .ok (.invokevirtual 97, 3) := dk_182 0 97 (dk_at dksX0_chance_0 13 rfl rfl)
theorem dX0_chance_16 : decode cX0_chance 16 = .ok (.ireturn, 1) := dk_172 (dk_at dksX0_chance_0 16 rfl rfl)
theorem dX0_chance_17 : decode cX0_chance 17 = .ok (.aload_n 0, 1) := dk_42 (dk_at dksX0_chance_0 17 rfl rfl)
theorem dX0_chance_18 : decode cX0_chance 18 = .ok (.invokevirtual 317, 3) := dk_182 1 61 (dk_at dksX0_chance_0 18 rfl rfl)
theorem dX0_chance_21 : decode cX0_chance 21 = .ok (.aload_n 0, 1) := dk_42 (dk_at dksX0_chance_0 21 rfl rfl)
theorem dX0_chance_22 : decode cX0_chance 22 = .ok (.getfield 69, 3) := dk_180 0 69 (dk_at dksX0_chance_1 0 rfl rfl)
theorem dX0_chance_25 : decode cX0_chance 25 = .ok (.iconst 0, 1) := dk_3 (dk_at dksX0_chance_1 3 rfl rfl)
theorem dX0_chance_26 : decode cX0_chance 26 = .ok (.putfield 330, 3) := dk_181 1 74 (dk_at dksX0_chance_1 4 rfl rfl)
theorem dX0_chance_29 : decode cX0_chance 29 = .ok (.iconst 0, 1) := dk_3 (dk_at dksX0_chance_1 7 rfl rfl)
theorem dX0_chance_30 : decode cX0_chance 30 = .ok (.istore_n 2, 1) := dk_61 (dk_at dksX0_chance_1 8 rfl rfl)
theorem dX0_chance_31 : decode cX0_chance 31 = .ok (.iload_n 2, 1) := dk_28 (dk_at dksX0_chance_1 9 rfl rfl)
theorem dX0_chance_32 : decode cX0_chance 32 = .ok (.iload_n 1, 1) := dk_27 (dk_at dksX0_chance_1 10 rfl rfl)
theorem dX0_chance_33 : decode cX0_chance 33 = .ok (.if_icmp .ge 44, 3) := dk_162 0 44 (dk_at dksX0_chance_1 11 rfl rfl)
theorem dX0_chance_36 : decode cX0_chance 36 = .ok (.aload_n 0, 1) := dk_42 (dk_at dksX0_chance_1 14 rfl rfl)
theorem dX0_chance_37 : decode cX0_chance 37 = .ok (.getfield 69, 3) := dk_180 0 69 (dk_at dksX0_chance_1 15 rfl rfl)
theorem dX0_chance_40 : decode cX0_chance 40 = .ok (.aload_n 0, 1) := dk_42 (dk_at dksX0_chance_1 18 rfl rfl)
theorem dX0_chance_41 : decode cX0_chance 41 = .ok (.bipush 100, 2) := dk_16 100 (dk_at dksX0_chance_1 19 rfl rfl)
theorem dX0_chance_43 : decode cX0_chance 43 = .ok (.invokevirtual 333, 3) := dk_182 1 77 (dk_at dksX0_chance_1 21 rfl rfl)
theorem dX0_chance_46 : decode cX0_chance 46 = .ok (.aload_n 0, 1) := dk_42 (dk_at dksX0_chance_2 0 rfl rfl)
theorem dX0_chance_47 : decode cX0_chance 47 = .ok (.getfield 31, 3) := dk_180 0 31 (dk_at dksX0_chance_2 1 rfl rfl)
theorem dX0_chance_50 : decode cX0_chance 50 = .ok (.getfield 336, 3) := dk_180 1 80 (dk_at dksX0_chance_2 4 rfl rfl)
theorem dX0_chance_53 : decode cX0_chance 53 = .ok (.if_icmp .ge 14, 3) := dk_162 0 14 (dk_at dksX0_chance_2 7 rfl rfl)
theorem dX0_chance_56 : decode cX0_chance 56 = .ok (.aload_n 0, 1) := dk_42 (dk_at dksX0_chance_2 10 rfl rfl)
theorem dX0_chance_57 : decode cX0_chance 57 = .ok (.invokevirtual 147, 3) := dk_182 0 147 (dk_at dksX0_chance_2 11 rfl rfl)
theorem dX0_chance_60 : decode cX0_chance 60 = .ok (.ifCond .le 7, 3) := dk_158 0 7 (dk_at dksX0_chance_2 14 rfl rfl)
theorem dX0_chance_63 : decode cX0_chance 63 = .ok (.iconst 1, 1) := dk_4 (dk_at dksX0_chance_2 17 rfl rfl)
theorem dX0_chance_64 : decode cX0_chance 64 = .ok (.goto 4, 3) := dk_167 0 4 (dk_at dksX0_chance_2 18 rfl rfl)
theorem dX0_chance_67 : decode cX0_chance 67 = .ok (.iconst 0, 1) := dk_3 (dk_at dksX0_chance_2 21 rfl rfl)
theorem dX0_chance_68 : decode cX0_chance 68 = .ok (.invokevirtual 339, 3) := dk_182 1 83 (dk_at dksX0_chance_3 0 rfl rfl)
theorem dX0_chance_71 : decode cX0_chance 71 = .ok (.iinc 2 1, 3) := dk_132 2 1 (dk_at dksX0_chance_3 3 rfl rfl)
theorem dX0_chance_74 : decode cX0_chance 74 = .ok (.goto (-43), 3) := dk_167 255 213 (dk_at dksX0_chance_3 6 rfl rfl)
theorem dX0_chance_77 : decode cX0_chance 77 = .ok (.aload_n 0, 1) := dk_42 (dk_at dksX0_chance_3 9 rfl rfl)
theorem dX0_chance_78 : decode cX0_chance 78 = .ok (.getfield 69, 3) := dk_180 0 69 (dk_at dksX0_chance_3 10 rfl rfl)
theorem dX0_chance_81 : decode cX0_chance 81 = .ok (.getfield 330, 3) := dk_180 1 74 (dk_at dksX0_chance_3 13 rfl rfl)
theorem dX0_chance_84 : decode cX0_chance 84 = .ok (.ireturn, 1) := dk_172 (dk_at dksX0_chance_3 16 rfl rfl)
abbrev cX0_stroke : ByteArray := prog_1_method_55_code
def yX0_stroke : MethodName := ⟨RX0, "stroke", "(IIII)Z"⟩
def dkwX0_stroke_3 : List UInt8 := [172, 42, 182, 1, 61, 42, 180, 0, 69, 180, 0, 248, 27, 50, 28, 92, 46, 4, 29, 120, 130, 79, 4, 172]
abbrev dktX0_stroke_3 : List UInt8 := dkwX0_stroke_3 ++ []
def dkwX0_stroke_2 : List UInt8 := [160, 0, 7, 4, 167, 0, 4, 3, 160, 0, 17, 42, 5, 182, 0, 97, 155, 0, 7, 4, 167, 0, 4, 3]
abbrev dktX0_stroke_2 : List UInt8 := dkwX0_stroke_2 ++ dktX0_stroke_3
def dkwX0_stroke_1 : List UInt8 := [184, 0, 149, 153, 0, 32, 42, 180, 0, 69, 180, 0, 248, 27, 50, 28, 46, 29, 184, 1, 58, 21, 4, 4]
abbrev dktX0_stroke_1 : List UInt8 := dkwX0_stroke_1 ++ dktX0_stroke_2
def dkwX0_stroke_0 : List UInt8 := [42, 27, 28, 182, 0, 245, 153, 0, 52, 29, 3, 16, 14, 184, 0, 149, 153, 0, 42, 21, 4, 3, 4]
abbrev dktX0_stroke_0 : List UInt8 := dkwX0_stroke_0 ++ dktX0_stroke_1
theorem dksX0_stroke_0 : cX0_stroke.data.toList.drop 0 = dktX0_stroke_0 := by decide +kernel
theorem dksX0_stroke_1 : cX0_stroke.data.toList.drop 23 = dktX0_stroke_1 := dk_seg dksX0_stroke_0 23 rfl rfl
theorem dksX0_stroke_2 : cX0_stroke.data.toList.drop 47 = dktX0_stroke_2 := dk_seg dksX0_stroke_1 24 rfl rfl
theorem dksX0_stroke_3 : cX0_stroke.data.toList.drop 71 = dktX0_stroke_3 := dk_seg dksX0_stroke_2 24 rfl rfl
theorem dX0_stroke_0 : decode cX0_stroke 0 = .ok (.aload_n 0, 1) := dk_42 (dk_at dksX0_stroke_0 0 rfl rfl)
theorem dX0_stroke_1 : decode cX0_stroke 1 = .ok (.iload_n 1, 1) := dk_27 (dk_at dksX0_stroke_0 1 rfl rfl)
theorem dX0_stroke_2 : decode cX0_stroke 2 = .ok (.iload_n 2, 1) := dk_28 (dk_at dksX0_stroke_0 2 rfl rfl)
theorem dX0_stroke_3 : decode cX0_stroke 3 = .ok (.invokevirtual 245, 3) := dk_182 0 245 (dk_at dksX0_stroke_0 3 rfl rfl)
theorem dX0_stroke_6 : decode cX0_stroke 6 = .ok (.ifCond .eq 52, 3) := dk_153 0 52 (dk_at dksX0_stroke_0 6 rfl rfl)
theorem dX0_stroke_9 : decode cX0_stroke 9 = .ok (.iload_n 3, 1) := dk_29 (dk_at dksX0_stroke_0 9 rfl rfl)
theorem dX0_stroke_10 : decode cX0_stroke 10 = .ok (.iconst 0, 1) := dk_3 (dk_at dksX0_stroke_0 10 rfl rfl)
theorem dX0_stroke_11 : decode cX0_stroke 11 = .ok (.bipush 14, 2) := dk_16 14 (dk_at dksX0_stroke_0 11 rfl rfl)
theorem dX0_stroke_13 : decode cX0_stroke 13 = .ok (.invokestatic 149, 3) := dk_184 0 149 (dk_at dksX0_stroke_0 13 rfl rfl)
theorem dX0_stroke_16 : decode cX0_stroke 16 = .ok (.ifCond .eq 42, 3) := dk_153 0 42 (dk_at dksX0_stroke_0 16 rfl rfl)
theorem dX0_stroke_19 : decode cX0_stroke 19 = .ok (.iload 4, 2) := dk_21 4 (dk_at dksX0_stroke_0 19 rfl rfl)
theorem dX0_stroke_21 : decode cX0_stroke 21 = .ok (.iconst 0, 1) := dk_3 (dk_at dksX0_stroke_0 21 rfl rfl)
theorem dX0_stroke_22 : decode cX0_stroke 22 = .ok (.iconst 1, 1) := dk_4 (dk_at dksX0_stroke_0 22 rfl rfl)
theorem dX0_stroke_23 : decode cX0_stroke 23 = .ok (.invokestatic 149, 3) := dk_184 0 149 (dk_at dksX0_stroke_1 0 rfl rfl)
theorem dX0_stroke_26 : decode cX0_stroke 26 = .ok (.ifCond .eq 32, 3) := dk_153 0 32 (dk_at dksX0_stroke_1 3 rfl rfl)
theorem dX0_stroke_29 : decode cX0_stroke 29 = .ok (.aload_n 0, 1) := dk_42 (dk_at dksX0_stroke_1 6 rfl rfl)
theorem dX0_stroke_30 : decode cX0_stroke 30 = .ok (.getfield 69, 3) := dk_180 0 69 (dk_at dksX0_stroke_1 7 rfl rfl)
theorem dX0_stroke_33 : decode cX0_stroke 33 = .ok (.getfield 248, 3) := dk_180 0 248 (dk_at dksX0_stroke_1 10 rfl rfl)
theorem dX0_stroke_36 : decode cX0_stroke 36 = .ok (.iload_n 1, 1) := dk_27 (dk_at dksX0_stroke_1 13 rfl rfl)
theorem dX0_stroke_37 : decode cX0_stroke 37 = .ok (.aaload, 1) := dk_50 (dk_at dksX0_stroke_1 14 rfl rfl)
theorem dX0_stroke_38 : decode cX0_stroke 38 = .ok (.iload_n 2, 1) := dk_28 (dk_at dksX0_stroke_1 15 rfl rfl)
theorem dX0_stroke_39 : decode cX0_stroke 39 = .ok (.iaload, 1) := dk_46 (dk_at dksX0_stroke_1 16 rfl rfl)
theorem dX0_stroke_40 : decode cX0_stroke 40 = .ok (.iload_n 3, 1) := dk_29 (dk_at dksX0_stroke_1 17 rfl rfl)
theorem dX0_stroke_41 : decode cX0_stroke 41 = .ok (.invokestatic 314, 3) := dk_184 1 58 (dk_at dksX0_stroke_1 18 rfl rfl)
theorem dX0_stroke_44 : decode cX0_stroke 44 = .ok (.iload 4, 2) := dk_21 4 (dk_at dksX0_stroke_1 21 rfl rfl)
theorem dX0_stroke_46 : decode cX0_stroke 46 = .ok (.iconst 1, 1) := dk_4 (dk_at dksX0_stroke_1 23 rfl rfl)
theorem dX0_stroke_47 : decode cX0_stroke 47 = .ok (.if_icmp .ne 7, 3) := dk_160 0 7 (dk_at dksX0_stroke_2 0 rfl rfl)
theorem dX0_stroke_50 : decode cX0_stroke 50 = .ok (.iconst 1, 1) := dk_4 (dk_at dksX0_stroke_2 3 rfl rfl)
theorem dX0_stroke_51 : decode cX0_stroke 51 = .ok (.goto 4, 3) := dk_167 0 4 (dk_at dksX0_stroke_2 4 rfl rfl)
theorem dX0_stroke_54 : decode cX0_stroke 54 = .ok (.iconst 0, 1) := dk_3 (dk_at dksX0_stroke_2 7 rfl rfl)
theorem dX0_stroke_55 : decode cX0_stroke 55 = .ok (.if_icmp .ne 17, 3) := dk_160 0 17 (dk_at dksX0_stroke_2 8 rfl rfl)
theorem dX0_stroke_58 : decode cX0_stroke 58 = .ok (.aload_n 0, 1) := dk_42 (dk_at dksX0_stroke_2 11 rfl rfl)
theorem dX0_stroke_59 : decode cX0_stroke 59 = .ok (.iconst 2, 1) := dk_5 (dk_at dksX0_stroke_2 12 rfl rfl)
theorem dX0_stroke_60 : decode cX0_stroke 60 = .ok (.invokevirtual 97, 3) := dk_182 0 97 (dk_at dksX0_stroke_2 13 rfl rfl)
theorem dX0_stroke_63 : decode cX0_stroke 63 = .ok (.ifCond .lt 7, 3) := dk_155 0 7 (dk_at dksX0_stroke_2 16 rfl rfl)
theorem dX0_stroke_66 : decode cX0_stroke 66 = .ok (.iconst 1, 1) := dk_4 (dk_at dksX0_stroke_2 19 rfl rfl)
theorem dX0_stroke_67 : decode cX0_stroke 67 = .ok (.goto 4, 3) := dk_167 0 4 (dk_at dksX0_stroke_2 20 rfl rfl)
theorem dX0_stroke_70 : decode cX0_stroke 70 = .ok (.iconst 0, 1) := dk_3 (dk_at dksX0_stroke_2 23 rfl rfl)
theorem dX0_stroke_71 : decode cX0_stroke 71 = .ok (.ireturn, 1) := dk_172 (dk_at dksX0_stroke_3 0 rfl rfl)
theorem dX0_stroke_72 : decode cX0_stroke 72 = .ok (.aload_n 0, 1) := dk_42 (dk_at dksX0_stroke_3 1 rfl rfl)
theorem dX0_stroke_73 : decode cX0_stroke 73 = .ok (.invokevirtual 317, 3) := dk_182 1 61 (dk_at dksX0_stroke_3 2 rfl rfl)
theorem dX0_stroke_76 : decode cX0_stroke 76 = .ok (.aload_n 0, 1) := dk_42 (dk_at dksX0_stroke_3 5 rfl rfl)
theorem dX0_stroke_77 : decode cX0_stroke 77 = .ok (.getfield 69, 3) := dk_180 0 69 (dk_at dksX0_stroke_3 6 rfl rfl)
theorem dX0_stroke_80 : decode cX0_stroke 80 = .ok (.getfield 248, 3) := dk_180 0 248 (dk_at dksX0_stroke_3 9 rfl rfl)
theorem dX0_stroke_83 : decode cX0_stroke 83 = .ok (.iload_n 1, 1) := dk_27 (dk_at dksX0_stroke_3 12 rfl rfl)
theorem dX0_stroke_84 : decode cX0_stroke 84 = .ok (.aaload, 1) := dk_50 (dk_at dksX0_stroke_3 13 rfl rfl)
theorem dX0_stroke_85 : decode cX0_stroke 85 = .ok (.iload_n 2, 1) := dk_28 (dk_at dksX0_stroke_3 14 rfl rfl)
theorem dX0_stroke_86 : decode cX0_stroke 86 = .ok (.dup2, 1) := dk_92 (dk_at dksX0_stroke_3 15 rfl rfl)
theorem dX0_stroke_87 : decode cX0_stroke 87 = .ok (.iaload, 1) := dk_46 (dk_at dksX0_stroke_3 16 rfl rfl)
theorem dX0_stroke_88 : decode cX0_stroke 88 = .ok (.iconst 1, 1) := dk_4 (dk_at dksX0_stroke_3 17 rfl rfl)
theorem dX0_stroke_89 : decode cX0_stroke 89 = .ok (.iload_n 3, 1) := dk_29 (dk_at dksX0_stroke_3 18 rfl rfl)
theorem dX0_stroke_90 : decode cX0_stroke 90 = .ok (.ishl, 1) := dk_120 (dk_at dksX0_stroke_3 19 rfl rfl)
theorem dX0_stroke_91 : decode cX0_stroke 91 = .ok (.ixor, 1) := dk_130 (dk_at dksX0_stroke_3 20 rfl rfl)
theorem dX0_stroke_92 : decode cX0_stroke 92 = .ok (.iastore, 1) := dk_79 (dk_at dksX0_stroke_3 21 rfl rfl)
theorem dX0_stroke_93 : decode cX0_stroke 93 = .ok (.iconst 1, 1) := dk_4 (dk_at dksX0_stroke_3 22 rfl rfl)
theorem dX0_stroke_94 : decode cX0_stroke 94 = .ok (.ireturn, 1) := dk_172 (dk_at dksX0_stroke_3 23 rfl rfl)
abbrev cX0_paint : ByteArray := prog_1_method_56_code
def yX0_paint : MethodName := ⟨RX0, "paint", "(III)Z"⟩
def dkwX0_paint_2 : List UInt8 := [172]
abbrev dktX0_paint_2 : List UInt8 := dkwX0_paint_2 ++ []
def dkwX0_paint_1 : List UInt8 := [155, 0, 7, 4, 167, 0, 4, 3, 172, 42, 182, 1, 61, 42, 180, 0, 69, 27, 28, 29, 182, 1, 87, 4]
abbrev dktX0_paint_1 : List UInt8 := dkwX0_paint_1 ++ dktX0_paint_2
def dkwX0_paint_0 : List UInt8 := [42, 27, 182, 0, 233, 153, 0, 12, 42, 28, 29, 182, 1, 25, 154, 0, 17, 42, 5, 182, 0, 97]
abbrev dktX0_paint_0 : List UInt8 := dkwX0_paint_0 ++ dktX0_paint_1
theorem dksX0_paint_0 : cX0_paint.data.toList.drop 0 = dktX0_paint_0 := by decide +kernel
theorem dksX0_paint_1 : cX0_paint.data.toList.drop 22 = dktX0_paint_1 := dk_seg dksX0_paint_0 22 rfl rfl
theorem dksX0_paint_2 : cX0_paint.data.toList.drop 46 = dktX0_paint_2 := dk_seg dksX0_paint_1 24 rfl rfl
theorem dX0_paint_0 : decode cX0_paint 0 = .ok (.aload_n 0, 1) := dk_42 (dk_at dksX0_paint_0 0 rfl rfl)
theorem dX0_paint_1 : decode cX0_paint 1 = .ok (.iload_n 1, 1) := dk_27 (dk_at dksX0_paint_0 1 rfl rfl)
theorem dX0_paint_2 : decode cX0_paint 2 = .ok (.invokevirtual 233, 3) := dk_182 0 233 (dk_at dksX0_paint_0 2 rfl rfl)
theorem dX0_paint_5 : decode cX0_paint 5 = .ok (.ifCond .eq 12, 3) := dk_153 0 12 (dk_at dksX0_paint_0 5 rfl rfl)
theorem dX0_paint_8 : decode cX0_paint 8 = .ok (.aload_n 0, 1) := dk_42 (dk_at dksX0_paint_0 8 rfl rfl)
theorem dX0_paint_9 : decode cX0_paint 9 = .ok (.iload_n 2, 1) := dk_28 (dk_at dksX0_paint_0 9 rfl rfl)
theorem dX0_paint_10 : decode cX0_paint 10 = .ok (.iload_n 3, 1) := dk_29 (dk_at dksX0_paint_0 10 rfl rfl)
theorem dX0_paint_11 : decode cX0_paint 11 = .ok (.invokevirtual 281, 3) := dk_182 1 25 (dk_at dksX0_paint_0 11 rfl rfl)
theorem dX0_paint_14 : decode cX0_paint 14 = .ok (.ifCond .ne 17, 3) := dk_154 0 17 (dk_at dksX0_paint_0 14 rfl rfl)
theorem dX0_paint_17 : decode cX0_paint 17 = .ok (.aload_n 0, 1) := dk_42 (dk_at dksX0_paint_0 17 rfl rfl)
theorem dX0_paint_18 : decode cX0_paint 18 = .ok (.iconst 2, 1) := dk_5 (dk_at dksX0_paint_0 18 rfl rfl)
theorem dX0_paint_19 : decode cX0_paint 19 = .ok (.invokevirtual 97, 3) := dk_182 0 97 (dk_at dksX0_paint_0 19 rfl rfl)
theorem dX0_paint_22 : decode cX0_paint 22 = .ok (.ifCond .lt 7, 3) := dk_155 0 7 (dk_at dksX0_paint_1 0 rfl rfl)
theorem dX0_paint_25 : decode cX0_paint 25 = .ok (.iconst 1, 1) := dk_4 (dk_at dksX0_paint_1 3 rfl rfl)
theorem dX0_paint_26 : decode cX0_paint 26 = .ok (.goto 4, 3) := dk_167 0 4 (dk_at dksX0_paint_1 4 rfl rfl)
theorem dX0_paint_29 : decode cX0_paint 29 = .ok (.iconst 0, 1) := dk_3 (dk_at dksX0_paint_1 7 rfl rfl)
theorem dX0_paint_30 : decode cX0_paint 30 = .ok (.ireturn, 1) := dk_172 (dk_at dksX0_paint_1 8 rfl rfl)
theorem dX0_paint_31 : decode cX0_paint 31 = .ok (.aload_n 0, 1) := dk_42 (dk_at dksX0_paint_1 9 rfl rfl)
theorem dX0_paint_32 : decode cX0_paint 32 = .ok (.invokevirtual 317, 3) := dk_182 1 61 (dk_at dksX0_paint_1 10 rfl rfl)
theorem dX0_paint_35 : decode cX0_paint 35 = .ok (.aload_n 0, 1) := dk_42 (dk_at dksX0_paint_1 13 rfl rfl)
theorem dX0_paint_36 : decode cX0_paint 36 = .ok (.getfield 69, 3) := dk_180 0 69 (dk_at dksX0_paint_1 14 rfl rfl)
theorem dX0_paint_39 : decode cX0_paint 39 = .ok (.iload_n 1, 1) := dk_27 (dk_at dksX0_paint_1 17 rfl rfl)
theorem dX0_paint_40 : decode cX0_paint 40 = .ok (.iload_n 2, 1) := dk_28 (dk_at dksX0_paint_1 18 rfl rfl)
theorem dX0_paint_41 : decode cX0_paint 41 = .ok (.iload_n 3, 1) := dk_29 (dk_at dksX0_paint_1 19 rfl rfl)
theorem dX0_paint_42 : decode cX0_paint 42 = .ok (.invokevirtual 343, 3) := dk_182 1 87 (dk_at dksX0_paint_1 20 rfl rfl)
theorem dX0_paint_45 : decode cX0_paint 45 = .ok (.iconst 1, 1) := dk_4 (dk_at dksX0_paint_1 23 rfl rfl)
theorem dX0_paint_46 : decode cX0_paint 46 = .ok (.ireturn, 1) := dk_172 (dk_at dksX0_paint_2 0 rfl rfl)
abbrev cX0_seed : ByteArray := prog_1_method_57_code
def yX0_seed : MethodName := ⟨RX0, "seed", "(I)Z"⟩
def dkwX0_seed_1 : List UInt8 := [4, 172]
abbrev dktX0_seed_1 : List UInt8 := dkwX0_seed_1 ++ []
def dkwX0_seed_0 : List UInt8 := [27, 156, 0, 17, 42, 8, 182, 0, 97, 155, 0, 7, 4, 167, 0, 4, 3, 172, 42, 27, 133, 181, 0, 87]
abbrev dktX0_seed_0 : List UInt8 := dkwX0_seed_0 ++ dktX0_seed_1
theorem dksX0_seed_0 : cX0_seed.data.toList.drop 0 = dktX0_seed_0 := by decide +kernel
theorem dksX0_seed_1 : cX0_seed.data.toList.drop 24 = dktX0_seed_1 := dk_seg dksX0_seed_0 24 rfl rfl
theorem dX0_seed_0 : decode cX0_seed 0 = .ok (.iload_n 1, 1) := dk_27 (dk_at dksX0_seed_0 0 rfl rfl)
theorem dX0_seed_1 : decode cX0_seed 1 = .ok (.ifCond .ge 17, 3) := dk_156 0 17 (dk_at dksX0_seed_0 1 rfl rfl)
theorem dX0_seed_4 : decode cX0_seed 4 = .ok (.aload_n 0, 1) := dk_42 (dk_at dksX0_seed_0 4 rfl rfl)
theorem dX0_seed_5 : decode cX0_seed 5 = .ok (.iconst 5, 1) := dk_8 (dk_at dksX0_seed_0 5 rfl rfl)
theorem dX0_seed_6 : decode cX0_seed 6 = .ok (.invokevirtual 97, 3) := dk_182 0 97 (dk_at dksX0_seed_0 6 rfl rfl)
theorem dX0_seed_9 : decode cX0_seed 9 = .ok (.ifCond .lt 7, 3) := dk_155 0 7 (dk_at dksX0_seed_0 9 rfl rfl)
theorem dX0_seed_12 : decode cX0_seed 12 = .ok (.iconst 1, 1) := dk_4 (dk_at dksX0_seed_0 12 rfl rfl)
theorem dX0_seed_13 : decode cX0_seed 13 = .ok (.goto 4, 3) := dk_167 0 4 (dk_at dksX0_seed_0 13 rfl rfl)
theorem dX0_seed_16 : decode cX0_seed 16 = .ok (.iconst 0, 1) := dk_3 (dk_at dksX0_seed_0 16 rfl rfl)
theorem dX0_seed_17 : decode cX0_seed 17 = .ok (.ireturn, 1) := dk_172 (dk_at dksX0_seed_0 17 rfl rfl)
theorem dX0_seed_18 : decode cX0_seed 18 = .ok (.aload_n 0, 1) := dk_42 (dk_at dksX0_seed_0 18 rfl rfl)
theorem dX0_seed_19 : decode cX0_seed 19 = .ok (.iload_n 1, 1) := dk_27 (dk_at dksX0_seed_0 19 rfl rfl)
theorem dX0_seed_20 : decode cX0_seed 20 = .ok (.i2l, 1) := dk_133 (dk_at dksX0_seed_0 20 rfl rfl)
theorem dX0_seed_21 : decode cX0_seed 21 = .ok (.putfield 87, 3) := dk_181 0 87 (dk_at dksX0_seed_0 21 rfl rfl)
theorem dX0_seed_24 : decode cX0_seed 24 = .ok (.iconst 1, 1) := dk_4 (dk_at dksX0_seed_1 0 rfl rfl)
theorem dX0_seed_25 : decode cX0_seed 25 = .ok (.ireturn, 1) := dk_172 (dk_at dksX0_seed_1 1 rfl rfl)
abbrev cX0_ask : ByteArray := prog_1_method_60_code
def yX0_ask : MethodName := ⟨RX0, "ask", "()J"⟩
def dkwX0_ask_7 : List UInt8 := [181, 1, 91, 167, 255, 139, 44, 182, 1, 109, 173]
abbrev dktX0_ask_7 : List UInt8 := dkwX0_ask_7 ++ []
def dkwX0_ask_6 : List UInt8 := [182, 1, 28, 133, 80, 44, 42, 180, 1, 91, 42, 180, 0, 59, 182, 1, 103, 42, 89, 180, 1, 91, 4, 96]
abbrev dktX0_ask_6 : List UInt8 := dkwX0_ask_6 ++ dktX0_ask_7
def dkwX0_ask_5 : List UInt8 := [180, 0, 191, 16, 9, 42, 180, 0, 31, 180, 0, 133, 42, 180, 1, 91, 185, 0, 156, 2, 0, 192, 0, 171]
abbrev dktX0_ask_5 : List UInt8 := dkwX0_ask_5 ++ dktX0_ask_6
def dkwX0_ask_4 : List UInt8 := [180, 0, 218, 133, 80, 42, 180, 0, 59, 180, 0, 191, 16, 8, 42, 180, 1, 91, 133, 80, 42, 180, 0, 59]
abbrev dktX0_ask_4 : List UInt8 := dkwX0_ask_4 ++ dktX0_ask_5
def dkwX0_ask_3 : List UInt8 := [42, 42, 180, 1, 91, 182, 1, 100, 133, 80, 42, 180, 0, 59, 180, 0, 191, 16, 7, 42, 180, 0, 69]
abbrev dktX0_ask_3 : List UInt8 := dkwX0_ask_3 ++ dktX0_ask_4
def dkwX0_ask_2 : List UInt8 := [42, 3, 181, 1, 91, 42, 180, 1, 91, 42, 182, 0, 145, 162, 0, 112, 42, 180, 0, 59, 180, 0, 191, 5]
abbrev dktX0_ask_2 : List UInt8 := dkwX0_ask_2 ++ dktX0_ask_3
def dkwX0_ask_1 : List UInt8 := [167, 0, 24, 78, 42, 45, 180, 0, 118, 181, 0, 105, 42, 45, 180, 0, 121, 181, 0, 39, 20, 1, 5, 173]
abbrev dktX0_ask_1 : List UInt8 := dkwX0_ask_1 ++ dktX0_ask_2
def dkwX0_ask_0 : List UInt8 := [42, 182, 0, 108, 60, 42, 3, 181, 0, 105, 42, 2, 181, 0, 39, 42, 180, 0, 48, 27, 182, 1, 96, 77]
abbrev dktX0_ask_0 : List UInt8 := dkwX0_ask_0 ++ dktX0_ask_1
theorem dksX0_ask_0 : cX0_ask.data.toList.drop 0 = dktX0_ask_0 := by decide +kernel
theorem dksX0_ask_1 : cX0_ask.data.toList.drop 24 = dktX0_ask_1 := dk_seg dksX0_ask_0 24 rfl rfl
theorem dksX0_ask_2 : cX0_ask.data.toList.drop 48 = dktX0_ask_2 := dk_seg dksX0_ask_1 24 rfl rfl
theorem dksX0_ask_3 : cX0_ask.data.toList.drop 72 = dktX0_ask_3 := dk_seg dksX0_ask_2 24 rfl rfl
theorem dksX0_ask_4 : cX0_ask.data.toList.drop 95 = dktX0_ask_4 := dk_seg dksX0_ask_3 23 rfl rfl
theorem dksX0_ask_5 : cX0_ask.data.toList.drop 119 = dktX0_ask_5 := dk_seg dksX0_ask_4 24 rfl rfl
theorem dksX0_ask_6 : cX0_ask.data.toList.drop 143 = dktX0_ask_6 := dk_seg dksX0_ask_5 24 rfl rfl
theorem dksX0_ask_7 : cX0_ask.data.toList.drop 167 = dktX0_ask_7 := dk_seg dksX0_ask_6 24 rfl rfl
theorem dX0_ask_0 : decode cX0_ask 0 = .ok (.aload_n 0, 1) := dk_42 (dk_at dksX0_ask_0 0 rfl rfl)
theorem dX0_ask_1 : decode cX0_ask 1 = .ok (.invokevirtual 108, 3) := dk_182 0 108 (dk_at dksX0_ask_0 1 rfl rfl)
theorem dX0_ask_4 : decode cX0_ask 4 = .ok (.istore_n 1, 1) := dk_60 (dk_at dksX0_ask_0 4 rfl rfl)
theorem dX0_ask_5 : decode cX0_ask 5 = .ok (.aload_n 0, 1) := dk_42 (dk_at dksX0_ask_0 5 rfl rfl)
theorem dX0_ask_6 : decode cX0_ask 6 = .ok (.iconst 0, 1) := dk_3 (dk_at dksX0_ask_0 6 rfl rfl)
theorem dX0_ask_7 : decode cX0_ask 7 = .ok (.putfield 105, 3) := dk_181 0 105 (dk_at dksX0_ask_0 7 rfl rfl)
theorem dX0_ask_10 : decode cX0_ask 10 = .ok (.aload_n 0, 1) := dk_42 (dk_at dksX0_ask_0 10 rfl rfl)
theorem dX0_ask_11 : decode cX0_ask 11 = .ok (.iconst (-1), 1) := dk_2 (dk_at dksX0_ask_0 11 rfl rfl)
theorem dX0_ask_12 : decode cX0_ask 12 = .ok (.putfield 39, 3) := dk_181 0 39 (dk_at dksX0_ask_0 12 rfl rfl)
theorem dX0_ask_15 : decode cX0_ask 15 = .ok (.aload_n 0, 1) := dk_42 (dk_at dksX0_ask_0 15 rfl rfl)
theorem dX0_ask_16 : decode cX0_ask 16 = .ok (.getfield 48, 3) := dk_180 0 48 (dk_at dksX0_ask_0 16 rfl rfl)
theorem dX0_ask_19 : decode cX0_ask 19 = .ok (.iload_n 1, 1) := dk_27 (dk_at dksX0_ask_0 19 rfl rfl)
theorem dX0_ask_20 : decode cX0_ask 20 = .ok (.invokevirtual 352, 3) := dk_182 1 96 (dk_at dksX0_ask_0 20 rfl rfl)
theorem dX0_ask_23 : decode cX0_ask 23 = .ok (.astore_n 2, 1) := dk_77 (dk_at dksX0_ask_0 23 rfl rfl)
theorem dX0_ask_24 : decode cX0_ask 24 = .ok (.goto 24, 3) := dk_167 0 24 (dk_at dksX0_ask_1 0 rfl rfl)
theorem dX0_ask_27 : decode cX0_ask 27 = .ok (.astore_n 3, 1) := dk_78 (dk_at dksX0_ask_1 3 rfl rfl)
theorem dX0_ask_28 : decode cX0_ask 28 = .ok (.aload_n 0, 1) := dk_42 (dk_at dksX0_ask_1 4 rfl rfl)
theorem dX0_ask_29 : decode cX0_ask 29 = .ok (.aload_n 3, 1) := dk_45 (dk_at dksX0_ask_1 5 rfl rfl)
theorem dX0_ask_30 : decode cX0_ask 30 = .ok (.getfield 118, 3) := dk_180 0 118 (dk_at dksX0_ask_1 6 rfl rfl)
theorem dX0_ask_33 : decode cX0_ask 33 = .ok (.putfield 105, 3) := dk_181 0 105 (dk_at dksX0_ask_1 9 rfl rfl)
theorem dX0_ask_36 : decode cX0_ask 36 = .ok (.aload_n 0, 1) := dk_42 (dk_at dksX0_ask_1 12 rfl rfl)
theorem dX0_ask_37 : decode cX0_ask 37 = .ok (.aload_n 3, 1) := dk_45 (dk_at dksX0_ask_1 13 rfl rfl)
theorem dX0_ask_38 : decode cX0_ask 38 = .ok (.getfield 121, 3) := dk_180 0 121 (dk_at dksX0_ask_1 14 rfl rfl)
theorem dX0_ask_41 : decode cX0_ask 41 = .ok (.putfield 39, 3) := dk_181 0 39 (dk_at dksX0_ask_1 17 rfl rfl)
theorem dX0_ask_44 : decode cX0_ask 44 = .ok (.ldc2_w 261, 3) := dk_20 1 5 (dk_at dksX0_ask_1 20 rfl rfl)
theorem dX0_ask_47 : decode cX0_ask 47 = .ok (.lreturn, 1) := dk_173 (dk_at dksX0_ask_1 23 rfl rfl)
theorem dX0_ask_48 : decode cX0_ask 48 = .ok (.aload_n 0, 1) := dk_42 (dk_at dksX0_ask_2 0 rfl rfl)
theorem dX0_ask_49 : decode cX0_ask 49 = .ok (.iconst 0, 1) := dk_3 (dk_at dksX0_ask_2 1 rfl rfl)
theorem dX0_ask_50 : decode cX0_ask 50 = .ok (.putfield 347, 3) := dk_181 1 91 (dk_at dksX0_ask_2 2 rfl rfl)
theorem dX0_ask_53 : decode cX0_ask 53 = .ok (.aload_n 0, 1) := dk_42 (dk_at dksX0_ask_2 5 rfl rfl)
theorem dX0_ask_54 : decode cX0_ask 54 = .ok (.getfield 347, 3) := dk_180 1 91 (dk_at dksX0_ask_2 6 rfl rfl)
theorem dX0_ask_57 : decode cX0_ask 57 = .ok (.aload_n 0, 1) := dk_42 (dk_at dksX0_ask_2 9 rfl rfl)
theorem dX0_ask_58 : decode cX0_ask 58 = .ok (.invokevirtual 145, 3) := dk_182 0 145 (dk_at dksX0_ask_2 10 rfl rfl)
theorem dX0_ask_61 : decode cX0_ask 61 = .ok (.if_icmp .ge 112, 3) := dk_162 0 112 (dk_at dksX0_ask_2 13 rfl rfl)
theorem dX0_ask_64 : decode cX0_ask 64 = .ok (.aload_n 0, 1) := dk_42 (dk_at dksX0_ask_2 16 rfl rfl)
theorem dX0_ask_65 : decode cX0_ask 65 = .ok (.getfield 59, 3) := dk_180 0 59 (dk_at dksX0_ask_2 17 rfl rfl)
theorem dX0_ask_68 : decode cX0_ask 68 = .ok (.getfield 191, 3) := dk_180 0 191 (dk_at dksX0_ask_2 20 rfl rfl)
theorem dX0_ask_71 : decode cX0_ask 71 = .ok (.iconst 2, 1) := dk_5 (dk_at dksX0_ask_2 23 rfl rfl)
theorem dX0_ask_72 : decode cX0_ask 72 = .ok (.aload_n 0, 1) := dk_42 (dk_at dksX0_ask_3 0 rfl rfl)
theorem dX0_ask_73 : decode cX0_ask 73 = .ok (.aload_n 0, 1) := dk_42 (dk_at dksX0_ask_3 1 rfl rfl)
theorem dX0_ask_74 : decode cX0_ask 74 = .ok (.getfield 347, 3) := dk_180 1 91 (dk_at dksX0_ask_3 2 rfl rfl)
theorem dX0_ask_77 : decode cX0_ask 77 = .ok (.invokevirtual 356, 3) := dk_182 1 100 (dk_at dksX0_ask_3 5 rfl rfl)
theorem dX0_ask_80 : decode cX0_ask 80 = .ok (.i2l, 1) := dk_133 (dk_at dksX0_ask_3 8 rfl rfl)
theorem dX0_ask_81 : decode cX0_ask 81 = .ok (.lastore, 1) := dk_80 (dk_at dksX0_ask_3 9 rfl rfl)
theorem dX0_ask_82 : decode cX0_ask 82 = .ok (.aload_n 0, 1) := dk_42 (dk_at dksX0_ask_3 10 rfl rfl)
theorem dX0_ask_83 : decode cX0_ask 83 = .ok (.getfield 59, 3) := dk_180 0 59 (dk_at dksX0_ask_3 11 rfl rfl)
theorem dX0_ask_86 : decode cX0_ask 86 = .ok (.getfield 191, 3) := dk_180 0 191 (dk_at dksX0_ask_3 14 rfl rfl)
theorem dX0_ask_89 : decode cX0_ask 89 = .ok (.bipush 7, 2) := dk_16 7 (dk_at dksX0_ask_3 17 rfl rfl)
theorem dX0_ask_91 : decode cX0_ask 91 = .ok (.aload_n 0, 1) := dk_42 (dk_at dksX0_ask_3 19 rfl rfl)
theorem dX0_ask_92 : decode cX0_ask 92 = .ok (.getfield 69, 3) := dk_180 0 69 (dk_at dksX0_ask_3 20 rfl rfl)
theorem dX0_ask_95 : decode cX0_ask 95 = .ok (.getfield 218, 3) := dk_180 0 218 (dk_at dksX0_ask_4 0 rfl rfl)
theorem dX0_ask_98 : decode cX0_ask 98 = .ok (.i2l, 1) := dk_133 (dk_at dksX0_ask_4 3 rfl rfl)
theorem dX0_ask_99 : decode cX0_ask 99 = .ok (.lastore, 1) := dk_80 (dk_at dksX0_ask_4 4 rfl rfl)
theorem dX0_ask_100 : decode cX0_ask 100 = .ok (.aload_n 0, 1) := dk_42 (dk_at dksX0_ask_4 5 rfl rfl)
theorem dX0_ask_101 : decode cX0_ask 101 = .ok (.getfield 59, 3) := dk_180 0 59 (dk_at dksX0_ask_4 6 rfl rfl)
theorem dX0_ask_104 : decode cX0_ask 104 = .ok (.getfield 191, 3) := dk_180 0 191 (dk_at dksX0_ask_4 9 rfl rfl)
theorem dX0_ask_107 : decode cX0_ask 107 = .ok (.bipush 8, 2) := dk_16 8 (dk_at dksX0_ask_4 12 rfl rfl)
theorem dX0_ask_109 : decode cX0_ask 109 = .ok (.aload_n 0, 1) := dk_42 (dk_at dksX0_ask_4 14 rfl rfl)
theorem dX0_ask_110 : decode cX0_ask 110 = .ok (.getfield 347, 3) := dk_180 1 91 (dk_at dksX0_ask_4 15 rfl rfl)
theorem dX0_ask_113 : decode cX0_ask 113 = .ok (.i2l, 1) := dk_133 (dk_at dksX0_ask_4 18 rfl rfl)
theorem dX0_ask_114 : decode cX0_ask 114 = .ok (.lastore, 1) := dk_80 (dk_at dksX0_ask_4 19 rfl rfl)
theorem dX0_ask_115 : decode cX0_ask 115 = .ok (.aload_n 0, 1) := dk_42 (dk_at dksX0_ask_4 20 rfl rfl)
theorem dX0_ask_116 : decode cX0_ask 116 = .ok (.getfield 59, 3) := dk_180 0 59 (dk_at dksX0_ask_4 21 rfl rfl)
theorem dX0_ask_119 : decode cX0_ask 119 = .ok (.getfield 191, 3) := dk_180 0 191 (dk_at dksX0_ask_5 0 rfl rfl)
theorem dX0_ask_122 : decode cX0_ask 122 = .ok (.bipush 9, 2) := dk_16 9 (dk_at dksX0_ask_5 3 rfl rfl)
theorem dX0_ask_124 : decode cX0_ask 124 = .ok (.aload_n 0, 1) := dk_42 (dk_at dksX0_ask_5 5 rfl rfl)
theorem dX0_ask_125 : decode cX0_ask 125 = .ok (.getfield 31, 3) := dk_180 0 31 (dk_at dksX0_ask_5 6 rfl rfl)
theorem dX0_ask_128 : decode cX0_ask 128 = .ok (.getfield 133, 3) := dk_180 0 133 (dk_at dksX0_ask_5 9 rfl rfl)
theorem dX0_ask_131 : decode cX0_ask 131 = .ok (.aload_n 0, 1) := dk_42 (dk_at dksX0_ask_5 12 rfl rfl)
theorem dX0_ask_132 : decode cX0_ask 132 = .ok (.getfield 347, 3) := dk_180 1 91 (dk_at dksX0_ask_5 13 rfl rfl)
theorem dX0_ask_135 : decode cX0_ask 135 = .ok (.invokeinterface 156 2, 5) := by decide +kernel
theorem dX0_ask_140 : decode cX0_ask 140 = .ok (.checkcast 171, 3) := dk_192 0 171 (dk_at dksX0_ask_5 21 rfl rfl)
theorem dX0_ask_143 : decode cX0_ask 143 = .ok (.invokevirtual 284, 3) := dk_182 1 28 (dk_at dksX0_ask_6 0 rfl rfl)
theorem dX0_ask_146 : decode cX0_ask 146 = .ok (.i2l, 1) := dk_133 (dk_at dksX0_ask_6 3 rfl rfl)
theorem dX0_ask_147 : decode cX0_ask 147 = .ok (.lastore, 1) := dk_80 (dk_at dksX0_ask_6 4 rfl rfl)
theorem dX0_ask_148 : decode cX0_ask 148 = .ok (.aload_n 2, 1) := dk_44 (dk_at dksX0_ask_6 5 rfl rfl)
theorem dX0_ask_149 : decode cX0_ask 149 = .ok (.aload_n 0, 1) := dk_42 (dk_at dksX0_ask_6 6 rfl rfl)
theorem dX0_ask_150 : decode cX0_ask 150 = .ok (.getfield 347, 3) := dk_180 1 91 (dk_at dksX0_ask_6 7 rfl rfl)
theorem dX0_ask_153 : decode cX0_ask 153 = .ok (.aload_n 0, 1) := dk_42 (dk_at dksX0_ask_6 10 rfl rfl)
theorem dX0_ask_154 : decode cX0_ask 154 = .ok (.getfield 59, 3) := dk_180 0 59 (dk_at dksX0_ask_6 11 rfl rfl)
theorem dX0_ask_157 : decode cX0_ask 157 = .ok (.invokevirtual 359, 3) := dk_182 1 103 (dk_at dksX0_ask_6 14 rfl rfl)
theorem dX0_ask_160 : decode cX0_ask 160 = .ok (.aload_n 0, 1) := dk_42 (dk_at dksX0_ask_6 17 rfl rfl)
theorem dX0_ask_161 : decode cX0_ask 161 = .ok (.dup, 1) := dk_89 (dk_at dksX0_ask_6 18 rfl rfl)
theorem dX0_ask_162 : decode cX0_ask 162 = .ok (.getfield 347, 3) := dk_180 1 91 (dk_at dksX0_ask_6 19 rfl rfl)
theorem dX0_ask_165 : decode cX0_ask 165 = .ok (.iconst 1, 1) := dk_4 (dk_at dksX0_ask_6 22 rfl rfl)
theorem dX0_ask_166 : decode cX0_ask 166 = .ok (.iadd, 1) := dk_96 (dk_at dksX0_ask_6 23 rfl rfl)
theorem dX0_ask_167 : decode cX0_ask 167 = .ok (.putfield 347, 3) := dk_181 1 91 (dk_at dksX0_ask_7 0 rfl rfl)
theorem dX0_ask_170 : decode cX0_ask 170 = .ok (.goto (-117), 3) := dk_167 255 139 (dk_at dksX0_ask_7 3 rfl rfl)
theorem dX0_ask_173 : decode cX0_ask 173 = .ok (.aload_n 2, 1) := dk_44 (dk_at dksX0_ask_7 6 rfl rfl)
theorem dX0_ask_174 : decode cX0_ask 174 = .ok (.invokevirtual 365, 3) := dk_182 1 109 (dk_at dksX0_ask_7 7 rfl rfl)
theorem dX0_ask_177 : decode cX0_ask 177 = .ok (.lreturn, 1) := dk_173 (dk_at dksX0_ask_7 10 rfl rfl)
abbrev cX0_inkOf : ByteArray := prog_1_method_59_code
def yX0_inkOf : MethodName := ⟨RX0, "inkOf", "(I)I"⟩
def dkwX0_inkOf_2 : List UInt8 := [167, 255, 214, 28, 172]
abbrev dktX0_inkOf_2 : List UInt8 := dkwX0_inkOf_2 ++ []
def dkwX0_inkOf_1 : List UInt8 := [162, 0, 25, 28, 42, 180, 0, 31, 3, 27, 29, 182, 1, 29, 184, 0, 180, 96, 61, 132, 3, 1]
abbrev dktX0_inkOf_1 : List UInt8 := dkwX0_inkOf_1 ++ dktX0_inkOf_2
def dkwX0_inkOf_0 : List UInt8 := [3, 61, 3, 62, 29, 42, 180, 0, 31, 180, 0, 133, 27, 185, 0, 156, 2, 0, 192, 0, 171, 182, 1, 28]
abbrev dktX0_inkOf_0 : List UInt8 := dkwX0_inkOf_0 ++ dktX0_inkOf_1
theorem dksX0_inkOf_0 : cX0_inkOf.data.toList.drop 0 = dktX0_inkOf_0 := by decide +kernel
theorem dksX0_inkOf_1 : cX0_inkOf.data.toList.drop 24 = dktX0_inkOf_1 := dk_seg dksX0_inkOf_0 24 rfl rfl
theorem dksX0_inkOf_2 : cX0_inkOf.data.toList.drop 46 = dktX0_inkOf_2 := dk_seg dksX0_inkOf_1 22 rfl rfl
theorem dX0_inkOf_0 : decode cX0_inkOf 0 = .ok (.iconst 0, 1) := dk_3 (dk_at dksX0_inkOf_0 0 rfl rfl)
theorem dX0_inkOf_1 : decode cX0_inkOf 1 = .ok (.istore_n 2, 1) := dk_61 (dk_at dksX0_inkOf_0 1 rfl rfl)
theorem dX0_inkOf_2 : decode cX0_inkOf 2 = .ok (.iconst 0, 1) := dk_3 (dk_at dksX0_inkOf_0 2 rfl rfl)
theorem dX0_inkOf_3 : decode cX0_inkOf 3 = .ok (.istore_n 3, 1) := dk_62 (dk_at dksX0_inkOf_0 3 rfl rfl)
theorem dX0_inkOf_4 : decode cX0_inkOf 4 = .ok (.iload_n 3, 1) := dk_29 (dk_at dksX0_inkOf_0 4 rfl rfl)
theorem dX0_inkOf_5 : decode cX0_inkOf 5 = .ok (.aload_n 0, 1) := dk_42 (dk_at dksX0_inkOf_0 5 rfl rfl)
theorem dX0_inkOf_6 : decode cX0_inkOf 6 = .ok (.getfield 31, 3) := dk_180 0 31 (dk_at dksX0_inkOf_0 6 rfl rfl)
theorem dX0_inkOf_9 : decode cX0_inkOf 9 = .ok (.getfield 133, 3) := dk_180 0 133 (dk_at dksX0_inkOf_0 9 rfl rfl)
theorem dX0_inkOf_12 : decode cX0_inkOf 12 = .ok (.iload_n 1, 1) := dk_27 (dk_at dksX0_inkOf_0 12 rfl rfl)
theorem dX0_inkOf_13 : decode cX0_inkOf 13 = .ok (.invokeinterface 156 2, 5) := by decide +kernel
theorem dX0_inkOf_18 : decode cX0_inkOf 18 = .ok (.checkcast 171, 3) := dk_192 0 171 (dk_at dksX0_inkOf_0 18 rfl rfl)
theorem dX0_inkOf_21 : decode cX0_inkOf 21 = .ok (.invokevirtual 284, 3) := dk_182 1 28 (dk_at dksX0_inkOf_0 21 rfl rfl)
theorem dX0_inkOf_24 : decode cX0_inkOf 24 = .ok (.if_icmp .ge 25, 3) := dk_162 0 25 (dk_at dksX0_inkOf_1 0 rfl rfl)
theorem dX0_inkOf_27 : decode cX0_inkOf 27 = .ok (.iload_n 2, 1) := dk_28 (dk_at dksX0_inkOf_1 3 rfl rfl)
theorem dX0_inkOf_28 : decode cX0_inkOf 28 = .ok (.aload_n 0, 1) := dk_42 (dk_at dksX0_inkOf_1 4 rfl rfl)
theorem dX0_inkOf_29 : decode cX0_inkOf 29 = .ok (.getfield 31, 3) := dk_180 0 31 (dk_at dksX0_inkOf_1 5 rfl rfl)
theorem dX0_inkOf_32 : decode cX0_inkOf 32 = .ok (.iconst 0, 1) := dk_3 (dk_at dksX0_inkOf_1 8 rfl rfl)
theorem dX0_inkOf_33 : decode cX0_inkOf 33 = .ok (.iload_n 1, 1) := dk_27 (dk_at dksX0_inkOf_1 9 rfl rfl)
theorem dX0_inkOf_34 : decode cX0_inkOf 34 = .ok (.iload_n 3, 1) := dk_29 (dk_at dksX0_inkOf_1 10 rfl rfl)
theorem dX0_inkOf_35 : decode cX0_inkOf 35 = .ok (.invokevirtual 285, 3) := dk_182 1 29 (dk_at dksX0_inkOf_1 11 rfl rfl)
theorem dX0_inkOf_38 : decode cX0_inkOf 38 = .ok (.invokestatic 180, 3) := dk_184 0 180 (dk_at dksX0_inkOf_1 14 rfl rfl)
theorem dX0_inkOf_41 : decode cX0_inkOf 41 = .ok (.iadd, 1) := dk_96 (dk_at dksX0_inkOf_1 17 rfl rfl)
theorem dX0_inkOf_42 : decode cX0_inkOf 42 = .ok (.istore_n 2, 1) := dk_61 (dk_at dksX0_inkOf_1 18 rfl rfl)
theorem dX0_inkOf_43 : decode cX0_inkOf 43 = .ok (.iinc 3 1, 3) := dk_132 3 1 (dk_at dksX0_inkOf_1 19 rfl rfl)
theorem dX0_inkOf_46 : decode cX0_inkOf 46 = .ok (.goto (-42), 3) := dk_167 255 214 (dk_at dksX0_inkOf_2 0 rfl rfl)
theorem dX0_inkOf_49 : decode cX0_inkOf 49 = .ok (.iload_n 2, 1) := dk_28 (dk_at dksX0_inkOf_2 3 rfl rfl)
theorem dX0_inkOf_50 : decode cX0_inkOf 50 = .ok (.ireturn, 1) := dk_172 (dk_at dksX0_inkOf_2 4 rfl rfl)
abbrev cX0_image : ByteArray := prog_1_method_63_code
def yX0_image : MethodName := ⟨RX0, "image", "()I"⟩
def dkwX0_image_4 : List UInt8 := [42, 180, 0, 91, 42, 180, 1, 113, 184, 1, 120, 4, 182, 1, 116, 42, 180, 1, 113, 172]
abbrev dktX0_image_4 : List UInt8 := dkwX0_image_4 ++ []
def dkwX0_image_3 : List UInt8 := [180, 0, 248, 27, 50, 28, 46, 5, 182, 1, 116, 132, 2, 1, 167, 255, 231, 132, 1, 1, 167, 255, 187, 42]
abbrev dktX0_image_3 : List UInt8 := dkwX0_image_3 ++ dktX0_image_4
def dkwX0_image_2 : List UInt8 := [180, 0, 239, 27, 46, 4, 182, 1, 116, 3, 61, 28, 16, 6, 162, 0, 25, 42, 42, 180, 0, 69]
abbrev dktX0_image_2 : List UInt8 := dkwX0_image_2 ++ dktX0_image_3
def dkwX0_image_1 : List UInt8 := [162, 0, 67, 42, 42, 180, 0, 69, 180, 0, 236, 27, 46, 4, 182, 1, 116, 42, 42, 180, 0, 69]
abbrev dktX0_image_1 : List UInt8 := dkwX0_image_1 ++ dktX0_image_2
def dkwX0_image_0 : List UInt8 := [42, 3, 181, 1, 113, 42, 42, 180, 0, 69, 180, 0, 218, 5, 182, 1, 116, 3, 60, 27, 42, 182, 0, 147]
abbrev dktX0_image_0 : List UInt8 := dkwX0_image_0 ++ dktX0_image_1
theorem dksX0_image_0 : cX0_image.data.toList.drop 0 = dktX0_image_0 := by decide +kernel
theorem dksX0_image_1 : cX0_image.data.toList.drop 24 = dktX0_image_1 := dk_seg dksX0_image_0 24 rfl rfl
theorem dksX0_image_2 : cX0_image.data.toList.drop 46 = dktX0_image_2 := dk_seg dksX0_image_1 22 rfl rfl
theorem dksX0_image_3 : cX0_image.data.toList.drop 68 = dktX0_image_3 := dk_seg dksX0_image_2 22 rfl rfl
theorem dksX0_image_4 : cX0_image.data.toList.drop 92 = dktX0_image_4 := dk_seg dksX0_image_3 24 rfl rfl
theorem dX0_image_0 : decode cX0_image 0 = .ok (.aload_n 0, 1) := dk_42 (dk_at dksX0_image_0 0 rfl rfl)
theorem dX0_image_1 : decode cX0_image 1 = .ok (.iconst 0, 1) := dk_3 (dk_at dksX0_image_0 1 rfl rfl)
theorem dX0_image_2 : decode cX0_image 2 = .ok (.putfield 369, 3) := dk_181 1 113 (dk_at dksX0_image_0 2 rfl rfl)
theorem dX0_image_5 : decode cX0_image 5 = .ok (.aload_n 0, 1) := dk_42 (dk_at dksX0_image_0 5 rfl rfl)
theorem dX0_image_6 : decode cX0_image 6 = .ok (.aload_n 0, 1) := dk_42 (dk_at dksX0_image_0 6 rfl rfl)
theorem dX0_image_7 : decode cX0_image 7 = .ok (.getfield 69, 3) := dk_180 0 69 (dk_at dksX0_image_0 7 rfl rfl)
theorem dX0_image_10 : decode cX0_image 10 = .ok (.getfield 218, 3) := dk_180 0 218 (dk_at dksX0_image_0 10 rfl rfl)
theorem dX0_image_13 : decode cX0_image 13 = .ok (.iconst 2, 1) := dk_5 (dk_at dksX0_image_0 13 rfl rfl)
theorem dX0_image_14 : decode cX0_image 14 = .ok (.invokevirtual 372, 3) := dk_182 1 116 (dk_at dksX0_image_0 14 rfl rfl)
theorem dX0_image_17 : decode cX0_image 17 = .ok (.iconst 0, 1) := dk_3 (dk_at dksX0_image_0 17 rfl rfl)
theorem dX0_image_18 : decode cX0_image 18 = .ok (.istore_n 1, 1) := dk_60 (dk_at dksX0_image_0 18 rfl rfl)
theorem dX0_image_19 : decode cX0_image 19 = .ok (.iload_n 1, 1) := dk_27 (dk_at dksX0_image_0 19 rfl rfl)
theorem dX0_image_20 : decode cX0_image 20 = .ok (.aload_n 0, 1) := dk_42 (dk_at dksX0_image_0 20 rfl rfl)
theorem dX0_image_21 : decode cX0_image 21 = .ok (.invokevirtual 147, 3) := dk_182 0 147 (dk_at dksX0_image_0 21 rfl rfl)
theorem dX0_image_24 : decode cX0_image 24 = .ok (.if_icmp .ge 67, 3) := dk_162 0 67 (dk_at dksX0_image_1 0 rfl rfl)
theorem dX0_image_27 : decode cX0_image 27 = .ok (.aload_n 0, 1) := dk_42 (dk_at dksX0_image_1 3 rfl rfl)
theorem dX0_image_28 : decode cX0_image 28 = .ok (.aload_n 0, 1) := dk_42 (dk_at dksX0_image_1 4 rfl rfl)
theorem dX0_image_29 : decode cX0_image 29 = .ok (.getfield 69, 3) := dk_180 0 69 (dk_at dksX0_image_1 5 rfl rfl)
theorem dX0_image_32 : decode cX0_image 32 = .ok (.getfield 236, 3) := dk_180 0 236 (dk_at dksX0_image_1 8 rfl rfl)
theorem dX0_image_35 : decode cX0_image 35 = .ok (.iload_n 1, 1) := dk_27 (dk_at dksX0_image_1 11 rfl rfl)
theorem dX0_image_36 : decode cX0_image 36 = .ok (.iaload, 1) := dk_46 (dk_at dksX0_image_1 12 rfl rfl)
theorem dX0_image_37 : decode cX0_image 37 = .ok (.iconst 1, 1) := dk_4 (dk_at dksX0_image_1 13 rfl rfl)
theorem dX0_image_38 : decode cX0_image 38 = .ok (.invokevirtual 372, 3) := dk_182 1 116 (dk_at dksX0_image_1 14 rfl rfl)
theorem dX0_image_41 : decode cX0_image 41 = .ok (.aload_n 0, 1) := dk_42 (dk_at dksX0_image_1 17 rfl rfl)
theorem dX0_image_42 : decode cX0_image 42 = .ok (.aload_n 0, 1) := dk_42 (dk_at dksX0_image_1 18 rfl rfl)
theorem dX0_image_43 : decode cX0_image 43 = .ok (.getfield 69, 3) := dk_180 0 69 (dk_at dksX0_image_1 19 rfl rfl)
theorem dX0_image_46 : decode cX0_image 46 = .ok (.getfield 239, 3) := dk_180 0 239 (dk_at dksX0_image_2 0 rfl rfl)
theorem dX0_image_49 : decode cX0_image 49 = .ok (.iload_n 1, 1) := dk_27 (dk_at dksX0_image_2 3 rfl rfl)
theorem dX0_image_50 : decode cX0_image 50 = .ok (.iaload, 1) := dk_46 (dk_at dksX0_image_2 4 rfl rfl)
theorem dX0_image_51 : decode cX0_image 51 = .ok (.iconst 1, 1) := dk_4 (dk_at dksX0_image_2 5 rfl rfl)
theorem dX0_image_52 : decode cX0_image 52 = .ok (.invokevirtual 372, 3) := dk_182 1 116 (dk_at dksX0_image_2 6 rfl rfl)
theorem dX0_image_55 : decode cX0_image 55 = .ok (.iconst 0, 1) := dk_3 (dk_at dksX0_image_2 9 rfl rfl)
theorem dX0_image_56 : decode cX0_image 56 = .ok (.istore_n 2, 1) := dk_61 (dk_at dksX0_image_2 10 rfl rfl)
theorem dX0_image_57 : decode cX0_image 57 = .ok (.iload_n 2, 1) := dk_28 (dk_at dksX0_image_2 11 rfl rfl)
theorem dX0_image_58 : decode cX0_image 58 = .ok (.bipush 6, 2) := dk_16 6 (dk_at dksX0_image_2 12 rfl rfl)
theorem dX0_image_60 : decode cX0_image 60 = .ok (.if_icmp .ge 25, 3) := dk_162 0 25 (dk_at dksX0_image_2 14 rfl rfl)
theorem dX0_image_63 : decode cX0_image 63 = .ok (.aload_n 0, 1) := dk_42 (dk_at dksX0_image_2 17 rfl rfl)
theorem dX0_image_64 : decode cX0_image 64 = .ok (.aload_n 0, 1) := dk_42 (dk_at dksX0_image_2 18 rfl rfl)
theorem dX0_image_65 : decode cX0_image 65 = .ok (.getfield 69, 3) := dk_180 0 69 (dk_at dksX0_image_2 19 rfl rfl)
theorem dX0_image_68 : decode cX0_image 68 = .ok (.getfield 248, 3) := dk_180 0 248 (dk_at dksX0_image_3 0 rfl rfl)
theorem dX0_image_71 : decode cX0_image 71 = .ok (.iload_n 1, 1) := dk_27 (dk_at dksX0_image_3 3 rfl rfl)
theorem dX0_image_72 : decode cX0_image 72 = .ok (.aaload, 1) := dk_50 (dk_at dksX0_image_3 4 rfl rfl)
theorem dX0_image_73 : decode cX0_image 73 = .ok (.iload_n 2, 1) := dk_28 (dk_at dksX0_image_3 5 rfl rfl)
theorem dX0_image_74 : decode cX0_image 74 = .ok (.iaload, 1) := dk_46 (dk_at dksX0_image_3 6 rfl rfl)
theorem dX0_image_75 : decode cX0_image 75 = .ok (.iconst 2, 1) := dk_5 (dk_at dksX0_image_3 7 rfl rfl)
theorem dX0_image_76 : decode cX0_image 76 = .ok (.invokevirtual 372, 3) := dk_182 1 116 (dk_at dksX0_image_3 8 rfl rfl)
theorem dX0_image_79 : decode cX0_image 79 = .ok (.iinc 2 1, 3) := dk_132 2 1 (dk_at dksX0_image_3 11 rfl rfl)
theorem dX0_image_82 : decode cX0_image 82 = .ok (.goto (-25), 3) := dk_167 255 231 (dk_at dksX0_image_3 14 rfl rfl)
theorem dX0_image_85 : decode cX0_image 85 = .ok (.iinc 1 1, 3) := dk_132 1 1 (dk_at dksX0_image_3 17 rfl rfl)
theorem dX0_image_88 : decode cX0_image 88 = .ok (.goto (-69), 3) := dk_167 255 187 (dk_at dksX0_image_3 20 rfl rfl)
theorem dX0_image_91 : decode cX0_image 91 = .ok (.aload_n 0, 1) := dk_42 (dk_at dksX0_image_3 23 rfl rfl)
theorem dX0_image_92 : decode cX0_image 92 = .ok (.aload_n 0, 1) := dk_42 (dk_at dksX0_image_4 0 rfl rfl)
theorem dX0_image_93 : decode cX0_image 93 = .ok (.getfield 91, 3) := dk_180 0 91 (dk_at dksX0_image_4 1 rfl rfl)
theorem dX0_image_96 : decode cX0_image 96 = .ok (.aload_n 0, 1) := dk_42 (dk_at dksX0_image_4 4 rfl rfl)
theorem dX0_image_97 : decode cX0_image 97 = .ok (.getfield 369, 3) := dk_180 1 113 (dk_at dksX0_image_4 5 rfl rfl)
theorem dX0_image_100 : decode cX0_image 100 = .ok (.invokestatic 376, 3) := dk_184 1 120 (dk_at dksX0_image_4 8 rfl rfl)
theorem dX0_image_103 : decode cX0_image 103 = .ok (.iconst 1, 1) := dk_4 (dk_at dksX0_image_4 11 rfl rfl)
theorem dX0_image_104 : decode cX0_image 104 = .ok (.invokevirtual 372, 3) := dk_182 1 116 (dk_at dksX0_image_4 12 rfl rfl)
theorem dX0_image_107 : decode cX0_image 107 = .ok (.aload_n 0, 1) := dk_42 (dk_at dksX0_image_4 15 rfl rfl)
theorem dX0_image_108 : decode cX0_image 108 = .ok (.getfield 369, 3) := dk_180 1 113 (dk_at dksX0_image_4 16 rfl rfl)
theorem dX0_image_111 : decode cX0_image 111 = .ok (.ireturn, 1) := dk_172 (dk_at dksX0_image_4 19 rfl rfl)
abbrev cX0_writes : ByteArray := prog_1_method_61_code
def yX0_writes : MethodName := ⟨RX0, "writes", "(II)V"⟩
def dkwX0_writes_1 : List UInt8 := [16, 8, 29, 104, 122, 145, 84, 132, 3, 255, 167, 255, 226, 177]
abbrev dktX0_writes_1 : List UInt8 := dkwX0_writes_1 ++ []
def dkwX0_writes_0 : List UInt8 := [28, 4, 100, 62, 29, 155, 0, 32, 42, 180, 0, 91, 42, 89, 180, 1, 113, 90, 4, 96, 181, 1, 113, 27]
abbrev dktX0_writes_0 : List UInt8 := dkwX0_writes_0 ++ dktX0_writes_1
theorem dksX0_writes_0 : cX0_writes.data.toList.drop 0 = dktX0_writes_0 := by decide +kernel
theorem dksX0_writes_1 : cX0_writes.data.toList.drop 24 = dktX0_writes_1 := dk_seg dksX0_writes_0 24 rfl rfl
theorem dX0_writes_0 : decode cX0_writes 0 = .ok (.iload_n 2, 1) := dk_28 (dk_at dksX0_writes_0 0 rfl rfl)
theorem dX0_writes_1 : decode cX0_writes 1 = .ok (.iconst 1, 1) := dk_4 (dk_at dksX0_writes_0 1 rfl rfl)
theorem dX0_writes_2 : decode cX0_writes 2 = .ok (.isub, 1) := dk_100 (dk_at dksX0_writes_0 2 rfl rfl)
theorem dX0_writes_3 : decode cX0_writes 3 = .ok (.istore_n 3, 1) := dk_62 (dk_at dksX0_writes_0 3 rfl rfl)
theorem dX0_writes_4 : decode cX0_writes 4 = .ok (.iload_n 3, 1) := dk_29 (dk_at dksX0_writes_0 4 rfl rfl)
theorem dX0_writes_5 : decode cX0_writes 5 = .ok (.ifCond .lt 32, 3) := dk_155 0 32 (dk_at dksX0_writes_0 5 rfl rfl)
theorem dX0_writes_8 : decode cX0_writes 8 = .ok (.aload_n 0, 1) := dk_42 (dk_at dksX0_writes_0 8 rfl rfl)
theorem dX0_writes_9 : decode cX0_writes 9 = .ok (.getfield 91, 3) := dk_180 0 91 (dk_at dksX0_writes_0 9 rfl rfl)
theorem dX0_writes_12 : decode cX0_writes 12 = .ok (.aload_n 0, 1) := dk_42 (dk_at dksX0_writes_0 12 rfl rfl)
theorem dX0_writes_13 : decode cX0_writes 13 = .ok (.dup, 1) := dk_89 (dk_at dksX0_writes_0 13 rfl rfl)
theorem dX0_writes_14 : decode cX0_writes 14 = .ok (.getfield 369, 3) := dk_180 1 113 (dk_at dksX0_writes_0 14 rfl rfl)
theorem dX0_writes_17 : decode cX0_writes 17 = .ok (.dup_x1, 1) := dk_90 (dk_at dksX0_writes_0 17 rfl rfl)
theorem dX0_writes_18 : decode cX0_writes 18 = .ok (.iconst 1, 1) := dk_4 (dk_at dksX0_writes_0 18 rfl rfl)
theorem dX0_writes_19 : decode cX0_writes 19 = .ok (.iadd, 1) := dk_96 (dk_at dksX0_writes_0 19 rfl rfl)
theorem dX0_writes_20 : decode cX0_writes 20 = .ok (.putfield 369, 3) := dk_181 1 113 (dk_at dksX0_writes_0 20 rfl rfl)
theorem dX0_writes_23 : decode cX0_writes 23 = .ok (.iload_n 1, 1) := dk_27 (dk_at dksX0_writes_0 23 rfl rfl)
theorem dX0_writes_24 : decode cX0_writes 24 = .ok (.bipush 8, 2) := dk_16 8 (dk_at dksX0_writes_1 0 rfl rfl)
theorem dX0_writes_26 : decode cX0_writes 26 = .ok (.iload_n 3, 1) := dk_29 (dk_at dksX0_writes_1 2 rfl rfl)
theorem dX0_writes_27 : decode cX0_writes 27 = .ok (.imul, 1) := dk_104 (dk_at dksX0_writes_1 3 rfl rfl)
theorem dX0_writes_28 : decode cX0_writes 28 = .ok (.ishr, 1) := dk_122 (dk_at dksX0_writes_1 4 rfl rfl)
theorem dX0_writes_29 : decode cX0_writes 29 = .ok (.i2b, 1) := dk_145 (dk_at dksX0_writes_1 5 rfl rfl)
theorem dX0_writes_30 : decode cX0_writes 30 = .ok (.bastore, 1) := dk_84 (dk_at dksX0_writes_1 6 rfl rfl)
theorem dX0_writes_31 : decode cX0_writes 31 = .ok (.iinc 3 (-1), 3) := dk_132 3 255 (dk_at dksX0_writes_1 7 rfl rfl)
theorem dX0_writes_34 : decode cX0_writes 34 = .ok (.goto (-30), 3) := dk_167 255 226 (dk_at dksX0_writes_1 10 rfl rfl)
theorem dX0_writes_37 : decode cX0_writes 37 = .ok (.return_, 1) := dk_177 (dk_at dksX0_writes_1 13 rfl rfl)
abbrev cX0_check : ByteArray := prog_1_method_62_code
def yX0_check : MethodName := ⟨RX0, "check", "([BI)I"⟩
def dkwX0_check_1 : List UInt8 := [17, 0, 251, 112, 61, 132, 3, 1, 167, 255, 232, 28, 172]
abbrev dktX0_check_1 : List UInt8 := dkwX0_check_1 ++ []
def dkwX0_check_0 : List UInt8 := [17, 0, 223, 61, 3, 62, 29, 27, 162, 0, 25, 6, 28, 104, 42, 29, 51, 17, 0, 255, 126, 96]
abbrev dktX0_check_0 : List UInt8 := dkwX0_check_0 ++ dktX0_check_1
theorem dksX0_check_0 : cX0_check.data.toList.drop 0 = dktX0_check_0 := by decide +kernel
theorem dksX0_check_1 : cX0_check.data.toList.drop 22 = dktX0_check_1 := dk_seg dksX0_check_0 22 rfl rfl
theorem dX0_check_0 : decode cX0_check 0 = .ok (.sipush 223, 3) := dk_17 0 223 (dk_at dksX0_check_0 0 rfl rfl)
theorem dX0_check_3 : decode cX0_check 3 = .ok (.istore_n 2, 1) := dk_61 (dk_at dksX0_check_0 3 rfl rfl)
theorem dX0_check_4 : decode cX0_check 4 = .ok (.iconst 0, 1) := dk_3 (dk_at dksX0_check_0 4 rfl rfl)
theorem dX0_check_5 : decode cX0_check 5 = .ok (.istore_n 3, 1) := dk_62 (dk_at dksX0_check_0 5 rfl rfl)
theorem dX0_check_6 : decode cX0_check 6 = .ok (.iload_n 3, 1) := dk_29 (dk_at dksX0_check_0 6 rfl rfl)
theorem dX0_check_7 : decode cX0_check 7 = .ok (.iload_n 1, 1) := dk_27 (dk_at dksX0_check_0 7 rfl rfl)
theorem dX0_check_8 : decode cX0_check 8 = .ok (.if_icmp .ge 25, 3) := dk_162 0 25 (dk_at dksX0_check_0 8 rfl rfl)
theorem dX0_check_11 : decode cX0_check 11 = .ok (.iconst 3, 1) := dk_6 (dk_at dksX0_check_0 11 rfl rfl)
theorem dX0_check_12 : decode cX0_check 12 = .ok (.iload_n 2, 1) := dk_28 (dk_at dksX0_check_0 12 rfl rfl)
theorem dX0_check_13 : decode cX0_check 13 = .ok (.imul, 1) := dk_104 (dk_at dksX0_check_0 13 rfl rfl)
theorem dX0_check_14 : decode cX0_check 14 = .ok (.aload_n 0, 1) := dk_42 (dk_at dksX0_check_0 14 rfl rfl)
theorem dX0_check_15 : decode cX0_check 15 = .ok (.iload_n 3, 1) := dk_29 (dk_at dksX0_check_0 15 rfl rfl)
theorem dX0_check_16 : decode cX0_check 16 = .ok (.baload, 1) := dk_51 (dk_at dksX0_check_0 16 rfl rfl)
theorem dX0_check_17 : decode cX0_check 17 = .ok (.sipush 255, 3) := dk_17 0 255 (dk_at dksX0_check_0 17 rfl rfl)
theorem dX0_check_20 : decode cX0_check 20 = .ok (.iand, 1) := dk_126 (dk_at dksX0_check_0 20 rfl rfl)
theorem dX0_check_21 : decode cX0_check 21 = .ok (.iadd, 1) := dk_96 (dk_at dksX0_check_0 21 rfl rfl)
theorem dX0_check_22 : decode cX0_check 22 = .ok (.sipush 251, 3) := dk_17 0 251 (dk_at dksX0_check_1 0 rfl rfl)
theorem dX0_check_25 : decode cX0_check 25 = .ok (.irem, 1) := dk_112 (dk_at dksX0_check_1 3 rfl rfl)
theorem dX0_check_26 : decode cX0_check 26 = .ok (.istore_n 2, 1) := dk_61 (dk_at dksX0_check_1 4 rfl rfl)
theorem dX0_check_27 : decode cX0_check 27 = .ok (.iinc 3 1, 3) := dk_132 3 1 (dk_at dksX0_check_1 5 rfl rfl)
theorem dX0_check_30 : decode cX0_check 30 = .ok (.goto (-24), 3) := dk_167 255 232 (dk_at dksX0_check_1 8 rfl rfl)
theorem dX0_check_33 : decode cX0_check 33 = .ok (.iload_n 2, 1) := dk_28 (dk_at dksX0_check_1 11 rfl rfl)
theorem dX0_check_34 : decode cX0_check 34 = .ok (.ireturn, 1) := dk_172 (dk_at dksX0_check_1 12 rfl rfl)
abbrev cX0_octet : ByteArray := prog_1_method_64_code
def yX0_octet : MethodName := ⟨RX0, "octet", "(I)I"⟩
def dkwX0_octet_1 : List UInt8 := [17, 0, 255, 126, 172]
abbrev dktX0_octet_1 : List UInt8 := dkwX0_octet_1 ++ []
def dkwX0_octet_0 : List UInt8 := [27, 155, 0, 11, 27, 42, 180, 1, 113, 161, 0, 7, 2, 167, 0, 13, 42, 180, 0, 91, 27, 51]
abbrev dktX0_octet_0 : List UInt8 := dkwX0_octet_0 ++ dktX0_octet_1
theorem dksX0_octet_0 : cX0_octet.data.toList.drop 0 = dktX0_octet_0 := by decide +kernel
theorem dksX0_octet_1 : cX0_octet.data.toList.drop 22 = dktX0_octet_1 := dk_seg dksX0_octet_0 22 rfl rfl
theorem dX0_octet_0 : decode cX0_octet 0 = .ok (.iload_n 1, 1) := dk_27 (dk_at dksX0_octet_0 0 rfl rfl)
theorem dX0_octet_1 : decode cX0_octet 1 = .ok (.ifCond .lt 11, 3) := dk_155 0 11 (dk_at dksX0_octet_0 1 rfl rfl)
theorem dX0_octet_4 : decode cX0_octet 4 = .ok (.iload_n 1, 1) := dk_27 (dk_at dksX0_octet_0 4 rfl rfl)
theorem dX0_octet_5 : decode cX0_octet 5 = .ok (.aload_n 0, 1) := dk_42 (dk_at dksX0_octet_0 5 rfl rfl)
theorem dX0_octet_6 : decode cX0_octet 6 = .ok (.getfield 369, 3) := dk_180 1 113 (dk_at dksX0_octet_0 6 rfl rfl)
theorem dX0_octet_9 : decode cX0_octet 9 = .ok (.if_icmp .lt 7, 3) := dk_161 0 7 (dk_at dksX0_octet_0 9 rfl rfl)
theorem dX0_octet_12 : decode cX0_octet 12 = .ok (.iconst (-1), 1) := dk_2 (dk_at dksX0_octet_0 12 rfl rfl)
theorem dX0_octet_13 : decode cX0_octet 13 = .ok (.goto 13, 3) := dk_167 0 13 (dk_at dksX0_octet_0 13 rfl rfl)
theorem dX0_octet_16 : decode cX0_octet 16 = .ok (.aload_n 0, 1) := dk_42 (dk_at dksX0_octet_0 16 rfl rfl)
theorem dX0_octet_17 : decode cX0_octet 17 = .ok (.getfield 91, 3) := dk_180 0 91 (dk_at dksX0_octet_0 17 rfl rfl)
theorem dX0_octet_20 : decode cX0_octet 20 = .ok (.iload_n 1, 1) := dk_27 (dk_at dksX0_octet_0 20 rfl rfl)
theorem dX0_octet_21 : decode cX0_octet 21 = .ok (.baload, 1) := dk_51 (dk_at dksX0_octet_0 21 rfl rfl)
theorem dX0_octet_22 : decode cX0_octet 22 = .ok (.sipush 255, 3) := dk_17 0 255 (dk_at dksX0_octet_1 0 rfl rfl)
theorem dX0_octet_25 : decode cX0_octet 25 = .ok (.iand, 1) := dk_126 (dk_at dksX0_octet_1 3 rfl rfl)
theorem dX0_octet_26 : decode cX0_octet 26 = .ok (.ireturn, 1) := dk_172 (dk_at dksX0_octet_1 4 rfl rfl)
abbrev cX0_on : ByteArray := prog_1_method_69_code
def yX0_on : MethodName := ⟨RX0, "on", "()Z"⟩
def dkwX0_on_1 : List UInt8 := [172, 42, 180, 0, 69, 42, 180, 0, 73, 182, 1, 13, 87, 42, 3, 181, 0, 127, 4, 172]
abbrev dktX0_on_1 : List UInt8 := dkwX0_on_1 ++ []
def dkwX0_on_0 : List UInt8 := [42, 42, 182, 0, 108, 182, 1, 133, 154, 0, 17, 42, 8, 182, 0, 97, 155, 0, 7, 4, 167, 0, 4, 3]
abbrev dktX0_on_0 : List UInt8 := dkwX0_on_0 ++ dktX0_on_1
theorem dksX0_on_0 : cX0_on.data.toList.drop 0 = dktX0_on_0 := by decide +kernel
theorem dksX0_on_1 : cX0_on.data.toList.drop 24 = dktX0_on_1 := dk_seg dksX0_on_0 24 rfl rfl
theorem dX0_on_0 : decode cX0_on 0 = .ok (.aload_n 0, 1) := dk_42 (dk_at dksX0_on_0 0 rfl rfl)
theorem dX0_on_1 : decode cX0_on 1 = .ok (.aload_n 0, 1) := dk_42 (dk_at dksX0_on_0 1 rfl rfl)
theorem dX0_on_2 : decode cX0_on 2 = .ok (.invokevirtual 108, 3) := dk_182 0 108 (dk_at dksX0_on_0 2 rfl rfl)
theorem dX0_on_5 : decode cX0_on 5 = .ok (.invokevirtual 389, 3) := dk_182 1 133 (dk_at dksX0_on_0 5 rfl rfl)
theorem dX0_on_8 : decode cX0_on 8 = .ok (.ifCond .ne 17, 3) := dk_154 0 17 (dk_at dksX0_on_0 8 rfl rfl)
theorem dX0_on_11 : decode cX0_on 11 = .ok (.aload_n 0, 1) := dk_42 (dk_at dksX0_on_0 11 rfl rfl)
theorem dX0_on_12 : decode cX0_on 12 = .ok (.iconst 5, 1) := dk_8 (dk_at dksX0_on_0 12 rfl rfl)
theorem dX0_on_13 : decode cX0_on 13 = .ok (.invokevirtual 97, 3) := dk_182 0 97 (dk_at dksX0_on_0 13 rfl rfl)
theorem dX0_on_16 : decode cX0_on 16 = .ok (.ifCond .lt 7, 3) := dk_155 0 7 (dk_at dksX0_on_0 16 rfl rfl)
theorem dX0_on_19 : decode cX0_on 19 = .ok (.iconst 1, 1) := dk_4 (dk_at dksX0_on_0 19 rfl rfl)
theorem dX0_on_20 : decode cX0_on 20 = .ok (.goto 4, 3) := dk_167 0 4 (dk_at dksX0_on_0 20 rfl rfl)
theorem dX0_on_23 : decode cX0_on 23 = .ok (.iconst 0, 1) := dk_3 (dk_at dksX0_on_0 23 rfl rfl)
theorem dX0_on_24 : decode cX0_on 24 = .ok (.ireturn, 1) := dk_172 (dk_at dksX0_on_1 0 rfl rfl)
theorem dX0_on_25 : decode cX0_on 25 = .ok (.aload_n 0, 1) := dk_42 (dk_at dksX0_on_1 1 rfl rfl)
theorem dX0_on_26 : decode cX0_on 26 = .ok (.getfield 69, 3) := dk_180 0 69 (dk_at dksX0_on_1 2 rfl rfl)
theorem dX0_on_29 : decode cX0_on 29 = .ok (.aload_n 0, 1) := dk_42 (dk_at dksX0_on_1 5 rfl rfl)
theorem dX0_on_30 : decode cX0_on 30 = .ok (.getfield 73, 3) := dk_180 0 73 (dk_at dksX0_on_1 6 rfl rfl)
theorem dX0_on_33 : decode cX0_on 33 = .ok (.invokevirtual 269, 3) := dk_182 1 13 (dk_at dksX0_on_1 9 rfl rfl)
theorem dX0_on_36 : decode cX0_on 36 = .ok (.pop, 1) := dk_87 (dk_at dksX0_on_1 12 rfl rfl)
theorem dX0_on_37 : decode cX0_on 37 = .ok (.aload_n 0, 1) := dk_42 (dk_at dksX0_on_1 13 rfl rfl)
theorem dX0_on_38 : decode cX0_on 38 = .ok (.iconst 0, 1) := dk_3 (dk_at dksX0_on_1 14 rfl rfl)
theorem dX0_on_39 : decode cX0_on 39 = .ok (.putfield 127, 3) := dk_181 0 127 (dk_at dksX0_on_1 15 rfl rfl)
theorem dX0_on_42 : decode cX0_on 42 = .ok (.iconst 1, 1) := dk_4 (dk_at dksX0_on_1 18 rfl rfl)
theorem dX0_on_43 : decode cX0_on 43 = .ok (.ireturn, 1) := dk_172 (dk_at dksX0_on_1 19 rfl rfl)
abbrev cX0_comesOn : ByteArray := prog_1_method_68_code
def yX0_comesOn : MethodName := ⟨RX0, "comesOn", "(I)Z"⟩
def dkwX0_comesOn_4 : List UInt8 := [154, 0, 5, 3, 172, 132, 3, 1, 167, 255, 230, 4, 172]
abbrev dktX0_comesOn_4 : List UInt8 := dkwX0_comesOn_4 ++ []
def dkwX0_comesOn_3 : List UInt8 := [3, 181, 0, 224, 3, 62, 29, 42, 182, 0, 147, 162, 0, 24, 42, 29, 5, 28, 29, 104, 96, 182, 1, 130]
abbrev dktX0_comesOn_3 : List UInt8 := dkwX0_comesOn_3 ++ dktX0_comesOn_4
def dkwX0_comesOn_2 : List UInt8 := [172, 42, 180, 0, 73, 42, 180, 0, 69, 182, 1, 13, 42, 3, 182, 1, 127, 181, 0, 218, 42, 180, 0, 73]
abbrev dktX0_comesOn_2 : List UInt8 := dkwX0_comesOn_2 ++ dktX0_comesOn_3
def dkwX0_comesOn_1 : List UInt8 := [180, 0, 35, 27, 4, 100, 184, 1, 120, 160, 0, 14, 42, 3, 182, 1, 127, 17, 3, 231, 164, 0, 5, 3]
abbrev dktX0_comesOn_1 : List UInt8 := dkwX0_comesOn_1 ++ dktX0_comesOn_2
def dkwX0_comesOn_0 : List UInt8 := [16, 14, 61, 27, 6, 28, 42, 182, 0, 147, 104, 96, 160, 0, 34, 42, 27, 4, 100, 182, 1, 124, 42]
abbrev dktX0_comesOn_0 : List UInt8 := dkwX0_comesOn_0 ++ dktX0_comesOn_1
theorem dksX0_comesOn_0 : cX0_comesOn.data.toList.drop 0 = dktX0_comesOn_0 := by decide +kernel
theorem dksX0_comesOn_1 : cX0_comesOn.data.toList.drop 23 = dktX0_comesOn_1 := dk_seg dksX0_comesOn_0 23 rfl rfl
theorem dksX0_comesOn_2 : cX0_comesOn.data.toList.drop 47 = dktX0_comesOn_2 := dk_seg dksX0_comesOn_1 24 rfl rfl
theorem dksX0_comesOn_3 : cX0_comesOn.data.toList.drop 71 = dktX0_comesOn_3 := dk_seg dksX0_comesOn_2 24 rfl rfl
theorem dksX0_comesOn_4 : cX0_comesOn.data.toList.drop 95 = dktX0_comesOn_4 := dk_seg dksX0_comesOn_3 24 rfl rfl
theorem dX0_comesOn_0 : decode cX0_comesOn 0 = .ok (.bipush 14, 2) := dk_16 14 (dk_at dksX0_comesOn_0 0 rfl rfl)
theorem dX0_comesOn_2 : decode cX0_comesOn 2 = .ok (.istore_n 2, 1) := dk_61 (dk_at dksX0_comesOn_0 2 rfl rfl)
theorem dX0_comesOn_3 : decode cX0_comesOn 3 = .ok (.iload_n 1, 1) := dk_27 (dk_at dksX0_comesOn_0 3 rfl rfl)
theorem dX0_comesOn_4 : decode cX0_comesOn 4 = .ok (.iconst 3, 1) := dk_6 (dk_at dksX0_comesOn_0 4 rfl rfl)
theorem dX0_comesOn_5 : decode cX0_comesOn 5 = .ok (.iload_n 2, 1) := dk_28 (dk_at dksX0_comesOn_0 5 rfl rfl)
theorem dX0_comesOn_6 : decode cX0_comesOn 6 = .ok (.aload_n 0, 1) := dk_42 (dk_at dksX0_comesOn_0 6 rfl rfl)
theorem dX0_comesOn_7 : decode cX0_comesOn 7 = .ok (.invokevirtual 147, 3) := dk_182 0 147 (dk_at dksX0_comesOn_0 7 rfl rfl)
theorem dX0_comesOn_10 : decode cX0_comesOn 10 = .ok (.imul, 1) := dk_104 (dk_at dksX0_comesOn_0 10 rfl rfl)
theorem dX0_comesOn_11 : decode cX0_comesOn 11 = .ok (.iadd, 1) := dk_96 (dk_at dksX0_comesOn_0 11 rfl rfl)
theorem dX0_comesOn_12 : decode cX0_comesOn 12 = .ok (.if_icmp .ne 34, 3) := dk_160 0 34 (dk_at dksX0_comesOn_0 12 rfl rfl)
theorem dX0_comesOn_15 : decode cX0_comesOn 15 = .ok (.aload_n 0, 1) := dk_42 (dk_at dksX0_comesOn_0 15 rfl rfl)
theorem dX0_comesOn_16 : decode cX0_comesOn 16 = .ok (.iload_n 1, 1) := dk_27 (dk_at dksX0_comesOn_0 16 rfl rfl)
theorem dX0_comesOn_17 : decode cX0_comesOn 17 = .ok (.iconst 1, 1) := dk_4 (dk_at dksX0_comesOn_0 17 rfl rfl)
theorem dX0_comesOn_18 : decode cX0_comesOn 18 = .ok (.isub, 1) := dk_100 (dk_at dksX0_comesOn_0 18 rfl rfl)
theorem dX0_comesOn_19 : decode cX0_comesOn 19 = .ok (.invokevirtual 380, 3) := dk_182 1 124 (dk_at dksX0_comesOn_0 19 rfl rfl)
theorem dX0_comesOn_22 : decode cX0_comesOn 22 = .ok (.aload_n 0, 1) := dk_42 (dk_at dksX0_comesOn_0 22 rfl rfl)
theorem dX0_comesOn_23 : decode cX0_comesOn 23 = .ok (.getfield 35, 3) := dk_180 0 35 (dk_at dksX0_comesOn_1 0 rfl rfl)
theorem dX0_comesOn_26 : decode cX0_comesOn 26 = .ok (.iload_n 1, 1) := dk_27 (dk_at dksX0_comesOn_1 3 rfl rfl)
theorem dX0_comesOn_27 : decode cX0_comesOn 27 = .ok (.iconst 1, 1) := dk_4 (dk_at dksX0_comesOn_1 4 rfl rfl)
theorem dX0_comesOn_28 : decode cX0_comesOn 28 = .ok (.isub, 1) := dk_100 (dk_at dksX0_comesOn_1 5 rfl rfl)
theorem dX0_comesOn_29 : decode cX0_comesOn 29 = .ok (.invokestatic 376, 3) := dk_184 1 120 (dk_at dksX0_comesOn_1 6 rfl rfl)
theorem dX0_comesOn_32 : decode cX0_comesOn 32 = .ok (.if_icmp .ne 14, 3) := dk_160 0 14 (dk_at dksX0_comesOn_1 9 rfl rfl)
theorem dX0_comesOn_35 : decode cX0_comesOn 35 = .ok (.aload_n 0, 1) := dk_42 (dk_at dksX0_comesOn_1 12 rfl rfl)
theorem dX0_comesOn_36 : decode cX0_comesOn 36 = .ok (.iconst 0, 1) := dk_3 (dk_at dksX0_comesOn_1 13 rfl rfl)
theorem dX0_comesOn_37 : decode cX0_comesOn 37 = .ok (.invokevirtual 383, 3) := dk_182 1 127 (dk_at dksX0_comesOn_1 14 rfl rfl)
theorem dX0_comesOn_40 : decode cX0_comesOn 40 = .ok (.sipush 999, 3) := dk_17 3 231 (dk_at dksX0_comesOn_1 17 rfl rfl)
theorem dX0_comesOn_43 : decode cX0_comesOn 43 = .ok (.if_icmp .le 5, 3) := dk_164 0 5 (dk_at dksX0_comesOn_1 20 rfl rfl)
theorem dX0_comesOn_46 : decode cX0_comesOn 46 = .ok (.iconst 0, 1) := dk_3 (dk_at dksX0_comesOn_1 23 rfl rfl)
theorem dX0_comesOn_47 : decode cX0_comesOn 47 = .ok (.ireturn, 1) := dk_172 (dk_at dksX0_comesOn_2 0 rfl rfl)
theorem dX0_comesOn_48 : decode cX0_comesOn 48 = .ok (.aload_n 0, 1) := dk_42 (dk_at dksX0_comesOn_2 1 rfl rfl)
theorem dX0_comesOn_49 : decode cX0_comesOn 49 = .ok (.getfield 73, 3) := dk_180 0 73 (dk_at dksX0_comesOn_2 2 rfl rfl)
theorem dX0_comesOn_52 : decode cX0_comesOn 52 = .ok (.aload_n 0, 1) := dk_42 (dk_at dksX0_comesOn_2 5 rfl rfl)
theorem dX0_comesOn_53 : decode cX0_comesOn 53 = .ok (.getfield 69, 3) := dk_180 0 69 (dk_at dksX0_comesOn_2 6 rfl rfl)
theorem dX0_comesOn_56 : decode cX0_comesOn 56 = .ok (.invokevirtual 269, 3) := dk_182 1 13 (dk_at dksX0_comesOn_2 9 rfl rfl)
theorem dX0_comesOn_59 : decode cX0_comesOn 59 = .ok (.aload_n 0, 1) := dk_42 (dk_at dksX0_comesOn_2 12 rfl rfl)
theorem dX0_comesOn_60 : decode cX0_comesOn 60 = .ok (.iconst 0, 1) := dk_3 (dk_at dksX0_comesOn_2 13 rfl rfl)
theorem dX0_comesOn_61 : decode cX0_comesOn 61 = .ok (.invokevirtual 383, 3) := dk_182 1 127 (dk_at dksX0_comesOn_2 14 rfl rfl)
theorem dX0_comesOn_64 : decode cX0_comesOn 64 = .ok (.putfield 218, 3) := dk_181 0 218 (dk_at dksX0_comesOn_2 17 rfl rfl)
theorem dX0_comesOn_67 : decode cX0_comesOn 67 = .ok (.aload_n 0, 1) := dk_42 (dk_at dksX0_comesOn_2 20 rfl rfl)
theorem dX0_comesOn_68 : decode cX0_comesOn 68 = .ok (.getfield 73, 3) := dk_180 0 73 (dk_at dksX0_comesOn_2 21 rfl rfl)
theorem dX0_comesOn_71 : decode cX0_comesOn 71 = .ok (.iconst 0, 1) := dk_3 (dk_at dksX0_comesOn_3 0 rfl rfl)
theorem dX0_comesOn_72 : decode cX0_comesOn 72 = .ok (.putfield 224, 3) := dk_181 0 224 (dk_at dksX0_comesOn_3 1 rfl rfl)
theorem dX0_comesOn_75 : decode cX0_comesOn 75 = .ok (.iconst 0, 1) := dk_3 (dk_at dksX0_comesOn_3 4 rfl rfl)
theorem dX0_comesOn_76 : decode cX0_comesOn 76 = .ok (.istore_n 3, 1) := dk_62 (dk_at dksX0_comesOn_3 5 rfl rfl)
theorem dX0_comesOn_77 : decode cX0_comesOn 77 = .ok (.iload_n 3, 1) := dk_29 (dk_at dksX0_comesOn_3 6 rfl rfl)
theorem dX0_comesOn_78 : decode cX0_comesOn 78 = .ok (.aload_n 0, 1) := dk_42 (dk_at dksX0_comesOn_3 7 rfl rfl)
theorem dX0_comesOn_79 : decode cX0_comesOn 79 = .ok (.invokevirtual 147, 3) := dk_182 0 147 (dk_at dksX0_comesOn_3 8 rfl rfl)
theorem dX0_comesOn_82 : decode cX0_comesOn 82 = .ok (.if_icmp .ge 24, 3) := dk_162 0 24 (dk_at dksX0_comesOn_3 11 rfl rfl)
theorem dX0_comesOn_85 : decode cX0_comesOn 85 = .ok (.aload_n 0, 1) := dk_42 (dk_at dksX0_comesOn_3 14 rfl rfl)
theorem dX0_comesOn_86 : decode cX0_comesOn 86 = .ok (.iload_n 3, 1) := dk_29 (dk_at dksX0_comesOn_3 15 rfl rfl)
theorem dX0_comesOn_87 : decode cX0_comesOn 87 = .ok (.iconst 2, 1) := dk_5 (dk_at dksX0_comesOn_3 16 rfl rfl)
theorem dX0_comesOn_88 : decode cX0_comesOn 88 = .ok (.iload_n 2, 1) := dk_28 (dk_at dksX0_comesOn_3 17 rfl rfl)
theorem dX0_comesOn_89 : decode cX0_comesOn 89 = .ok (.iload_n 3, 1) := dk_29 (dk_at dksX0_comesOn_3 18 rfl rfl)
theorem dX0_comesOn_90 : decode cX0_comesOn 90 = .ok (.imul, 1) := dk_104 (dk_at dksX0_comesOn_3 19 rfl rfl)
theorem dX0_comesOn_91 : decode cX0_comesOn 91 = .ok (.iadd, 1) := dk_96 (dk_at dksX0_comesOn_3 20 rfl rfl)
theorem dX0_comesOn_92 : decode cX0_comesOn 92 = .ok (.invokevirtual 386, 3) := dk_182 1 130 (dk_at dksX0_comesOn_3 21 rfl rfl)
theorem dX0_comesOn_95 : decode cX0_comesOn 95 = .ok (.ifCond .ne 5, 3) := dk_154 0 5 (dk_at dksX0_comesOn_4 0 rfl rfl)
theorem dX0_comesOn_98 : decode cX0_comesOn 98 = .ok (.iconst 0, 1) := dk_3 (dk_at dksX0_comesOn_4 3 rfl rfl)
theorem dX0_comesOn_99 : decode cX0_comesOn 99 = .ok (.ireturn, 1) := dk_172 (dk_at dksX0_comesOn_4 4 rfl rfl)
theorem dX0_comesOn_100 : decode cX0_comesOn 100 = .ok (.iinc 3 1, 3) := dk_132 3 1 (dk_at dksX0_comesOn_4 5 rfl rfl)
theorem dX0_comesOn_103 : decode cX0_comesOn 103 = .ok (.goto (-26), 3) := dk_167 255 230 (dk_at dksX0_comesOn_4 8 rfl rfl)
theorem dX0_comesOn_106 : decode cX0_comesOn 106 = .ok (.iconst 1, 1) := dk_4 (dk_at dksX0_comesOn_4 11 rfl rfl)
theorem dX0_comesOn_107 : decode cX0_comesOn 107 = .ok (.ireturn, 1) := dk_172 (dk_at dksX0_comesOn_4 12 rfl rfl)
abbrev cX0_byteAt : ByteArray := prog_1_method_65_code
def yX0_byteAt : MethodName := ⟨RX0, "byteAt", "(I)I"⟩
def dkwX0_byteAt_0 : List UInt8 := [42, 180, 0, 35, 27, 51, 17, 0, 255, 126, 172]
abbrev dktX0_byteAt_0 : List UInt8 := dkwX0_byteAt_0 ++ []
theorem dksX0_byteAt_0 : cX0_byteAt.data.toList.drop 0 = dktX0_byteAt_0 := by decide +kernel
theorem dX0_byteAt_0 : decode cX0_byteAt 0 = .ok (.aload_n 0, 1) := dk_42 (dk_at dksX0_byteAt_0 0 rfl rfl)
theorem dX0_byteAt_1 : decode cX0_byteAt 1 = .ok (.getfield 35, 3) := dk_180 0 35 (dk_at dksX0_byteAt_0 1 rfl rfl)
theorem dX0_byteAt_4 : decode cX0_byteAt 4 = .ok (.iload_n 1, 1) := dk_27 (dk_at dksX0_byteAt_0 4 rfl rfl)
theorem dX0_byteAt_5 : decode cX0_byteAt 5 = .ok (.baload, 1) := dk_51 (dk_at dksX0_byteAt_0 5 rfl rfl)
theorem dX0_byteAt_6 : decode cX0_byteAt 6 = .ok (.sipush 255, 3) := dk_17 0 255 (dk_at dksX0_byteAt_0 6 rfl rfl)
theorem dX0_byteAt_9 : decode cX0_byteAt 9 = .ok (.iand, 1) := dk_126 (dk_at dksX0_byteAt_0 9 rfl rfl)
theorem dX0_byteAt_10 : decode cX0_byteAt 10 = .ok (.ireturn, 1) := dk_172 (dk_at dksX0_byteAt_0 10 rfl rfl)
abbrev cX0_twoAt : ByteArray := prog_1_method_66_code
def yX0_twoAt : MethodName := ⟨RX0, "twoAt", "(I)I"⟩
def dkwX0_twoAt_0 : List UInt8 := [42, 27, 182, 1, 124, 16, 8, 120, 42, 27, 4, 96, 182, 1, 124, 128, 172]
abbrev dktX0_twoAt_0 : List UInt8 := dkwX0_twoAt_0 ++ []
theorem dksX0_twoAt_0 : cX0_twoAt.data.toList.drop 0 = dktX0_twoAt_0 := by decide +kernel
theorem dX0_twoAt_0 : decode cX0_twoAt 0 = .ok (.aload_n 0, 1) := dk_42 (dk_at dksX0_twoAt_0 0 rfl rfl)
theorem dX0_twoAt_1 : decode cX0_twoAt 1 = .ok (.iload_n 1, 1) := dk_27 (dk_at dksX0_twoAt_0 1 rfl rfl)
theorem dX0_twoAt_2 : decode cX0_twoAt 2 = .ok (.invokevirtual 380, 3) := dk_182 1 124 (dk_at dksX0_twoAt_0 2 rfl rfl)
theorem dX0_twoAt_5 : decode cX0_twoAt 5 = .ok (.bipush 8, 2) := dk_16 8 (dk_at dksX0_twoAt_0 5 rfl rfl)
theorem dX0_twoAt_7 : decode cX0_twoAt 7 = .ok (.ishl, 1) := dk_120 (dk_at dksX0_twoAt_0 7 rfl rfl)
theorem dX0_twoAt_8 : decode cX0_twoAt 8 = .ok (.aload_n 0, 1) := dk_42 (dk_at dksX0_twoAt_0 8 rfl rfl)
theorem dX0_twoAt_9 : decode cX0_twoAt 9 = .ok (.iload_n 1, 1) := dk_27 (dk_at dksX0_twoAt_0 9 rfl rfl)
theorem dX0_twoAt_10 : decode cX0_twoAt 10 = .ok (.iconst 1, 1) := dk_4 (dk_at dksX0_twoAt_0 10 rfl rfl)
theorem dX0_twoAt_11 : decode cX0_twoAt 11 = .ok (.iadd, 1) := dk_96 (dk_at dksX0_twoAt_0 11 rfl rfl)
theorem dX0_twoAt_12 : decode cX0_twoAt 12 = .ok (.invokevirtual 380, 3) := dk_182 1 124 (dk_at dksX0_twoAt_0 12 rfl rfl)
theorem dX0_twoAt_15 : decode cX0_twoAt 15 = .ok (.ior, 1) := dk_128 (dk_at dksX0_twoAt_0 15 rfl rfl)
theorem dX0_twoAt_16 : decode cX0_twoAt 16 = .ok (.ireturn, 1) := dk_172 (dk_at dksX0_twoAt_0 16 rfl rfl)
abbrev cX0_boardOn : ByteArray := prog_1_method_67_code
def yX0_boardOn : MethodName := ⟨RX0, "boardOn", "(II)Z"⟩
def dkwX0_boardOn_5 : List UInt8 := [4, 172]
abbrev dktX0_boardOn_5 : List UInt8 := dkwX0_boardOn_5 ++ []
def dkwX0_boardOn_4 : List UInt8 := [164, 0, 5, 3, 172, 42, 180, 0, 73, 180, 0, 248, 27, 50, 29, 21, 4, 79, 132, 3, 1, 167, 255, 195]
abbrev dktX0_boardOn_4 : List UInt8 := dkwX0_boardOn_4 ++ dktX0_boardOn_5
def dkwX0_boardOn_3 : List UInt8 := [54, 4, 21, 4, 29, 42, 180, 0, 73, 27, 182, 0, 242, 162, 0, 9, 17, 127, 255, 167, 0, 4, 3]
abbrev dktX0_boardOn_3 : List UInt8 := dkwX0_boardOn_3 ++ dktX0_boardOn_4
def dkwX0_boardOn_2 : List UInt8 := [96, 182, 1, 124, 79, 3, 62, 29, 16, 6, 162, 0, 61, 42, 28, 5, 96, 5, 29, 104, 96, 182, 1, 127]
abbrev dktX0_boardOn_2 : List UInt8 := dkwX0_boardOn_2 ++ dktX0_boardOn_3
def dkwX0_boardOn_1 : List UInt8 := [180, 0, 73, 180, 0, 236, 27, 42, 28, 182, 1, 124, 79, 42, 180, 0, 73, 180, 0, 239, 27, 42, 28, 4]
abbrev dktX0_boardOn_1 : List UInt8 := dkwX0_boardOn_1 ++ dktX0_boardOn_2
def dkwX0_boardOn_0 : List UInt8 := [42, 42, 28, 182, 1, 124, 42, 28, 4, 96, 182, 1, 124, 182, 1, 25, 154, 0, 5, 3, 172, 42]
abbrev dktX0_boardOn_0 : List UInt8 := dkwX0_boardOn_0 ++ dktX0_boardOn_1
theorem dksX0_boardOn_0 : cX0_boardOn.data.toList.drop 0 = dktX0_boardOn_0 := by decide +kernel
theorem dksX0_boardOn_1 : cX0_boardOn.data.toList.drop 22 = dktX0_boardOn_1 := dk_seg dksX0_boardOn_0 22 rfl rfl
theorem dksX0_boardOn_2 : cX0_boardOn.data.toList.drop 46 = dktX0_boardOn_2 := dk_seg dksX0_boardOn_1 24 rfl rfl
theorem dksX0_boardOn_3 : cX0_boardOn.data.toList.drop 70 = dktX0_boardOn_3 := dk_seg dksX0_boardOn_2 24 rfl rfl
theorem dksX0_boardOn_4 : cX0_boardOn.data.toList.drop 93 = dktX0_boardOn_4 := dk_seg dksX0_boardOn_3 23 rfl rfl
theorem dksX0_boardOn_5 : cX0_boardOn.data.toList.drop 117 = dktX0_boardOn_5 := dk_seg dksX0_boardOn_4 24 rfl rfl
theorem dX0_boardOn_0 : decode cX0_boardOn 0 = .ok (.aload_n 0, 1) := dk_42 (dk_at dksX0_boardOn_0 0 rfl rfl)
theorem dX0_boardOn_1 : decode cX0_boardOn 1 = .ok (.aload_n 0, 1) := dk_42 (dk_at dksX0_boardOn_0 1 rfl rfl)
theorem dX0_boardOn_2 : decode cX0_boardOn 2 = .ok (.iload_n 2, 1) := dk_28 (dk_at dksX0_boardOn_0 2 rfl rfl)
theorem dX0_boardOn_3 : decode cX0_boardOn 3 = .ok (.invokevirtual 380, 3) := dk_182 1 124 (dk_at dksX0_boardOn_0 3 rfl rfl)
theorem dX0_boardOn_6 : decode cX0_boardOn 6 = .ok (.aload_n 0, 1) := dk_42 (dk_at dksX0_boardOn_0 6 rfl rfl)
theorem dX0_boardOn_7 : decode cX0_boardOn 7 = .ok (.iload_n 2, 1) := dk_28 (dk_at dksX0_boardOn_0 7 rfl rfl)
theorem dX0_boardOn_8 : decode cX0_boardOn 8 = .ok (.iconst 1, 1) := dk_4 (dk_at dksX0_boardOn_0 8 rfl rfl)
theorem dX0_boardOn_9 : decode cX0_boardOn 9 = .ok (.iadd, 1) := dk_96 (dk_at dksX0_boardOn_0 9 rfl rfl)
theorem dX0_boardOn_10 : decode cX0_boardOn 10 = .ok (.invokevirtual 380, 3) := dk_182 1 124 (dk_at dksX0_boardOn_0 10 rfl rfl)
theorem dX0_boardOn_13 : decode cX0_boardOn 13 = .ok (.invokevirtual 281, 3) := dk_182 1 25 (dk_at dksX0_boardOn_0 13 rfl rfl)
theorem dX0_boardOn_16 : decode cX0_boardOn 16 = .ok (.ifCond .ne 5, 3) := dk_154 0 5 (dk_at dksX0_boardOn_0 16 rfl rfl)
theorem dX0_boardOn_19 : decode cX0_boardOn 19 = .ok (.iconst 0, 1) := dk_3 (dk_at dksX0_boardOn_0 19 rfl rfl)
theorem dX0_boardOn_20 : decode cX0_boardOn 20 = .ok (.ireturn, 1) := dk_172 (dk_at dksX0_boardOn_0 20 rfl rfl)
theorem dX0_boardOn_21 : decode cX0_boardOn 21 = .ok (.aload_n 0, 1) := dk_42 (dk_at dksX0_boardOn_0 21 rfl rfl)
theorem dX0_boardOn_22 : decode cX0_boardOn 22 = .ok (.getfield 73, 3) := dk_180 0 73 (dk_at dksX0_boardOn_1 0 rfl rfl)
theorem dX0_boardOn_25 : decode cX0_boardOn 25 = .ok (.getfield 236, 3) := dk_180 0 236 (dk_at dksX0_boardOn_1 3 rfl rfl)
theorem dX0_boardOn_28 : decode cX0_boardOn 28 = .ok (.iload_n 1, 1) := dk_27 (dk_at dksX0_boardOn_1 6 rfl rfl)
theorem dX0_boardOn_29 : decode cX0_boardOn 29 = .ok (.aload_n 0, 1) := dk_42 (dk_at dksX0_boardOn_1 7 rfl rfl)
theorem dX0_boardOn_30 : decode cX0_boardOn 30 = .ok (.iload_n 2, 1) := dk_28 (dk_at dksX0_boardOn_1 8 rfl rfl)
theorem dX0_boardOn_31 : decode cX0_boardOn 31 = .ok (.invokevirtual 380, 3) := dk_182 1 124 (dk_at dksX0_boardOn_1 9 rfl rfl)
theorem dX0_boardOn_34 : decode cX0_boardOn 34 = .ok (.iastore, 1) := dk_79 (dk_at dksX0_boardOn_1 12 rfl rfl)
theorem dX0_boardOn_35 : decode cX0_boardOn 35 = .ok (.aload_n 0, 1) := dk_42 (dk_at dksX0_boardOn_1 13 rfl rfl)
theorem dX0_boardOn_36 : decode cX0_boardOn 36 = .ok (.getfield 73, 3) := dk_180 0 73 (dk_at dksX0_boardOn_1 14 rfl rfl)
theorem dX0_boardOn_39 : decode cX0_boardOn 39 = .ok (.getfield 239, 3) := dk_180 0 239 (dk_at dksX0_boardOn_1 17 rfl rfl)
theorem dX0_boardOn_42 : decode cX0_boardOn 42 = .ok (.iload_n 1, 1) := dk_27 (dk_at dksX0_boardOn_1 20 rfl rfl)
theorem dX0_boardOn_43 : decode cX0_boardOn 43 = .ok (.aload_n 0, 1) := dk_42 (dk_at dksX0_boardOn_1 21 rfl rfl)
theorem dX0_boardOn_44 : decode cX0_boardOn 44 = .ok (.iload_n 2, 1) := dk_28 (dk_at dksX0_boardOn_1 22 rfl rfl)
theorem dX0_boardOn_45 : decode cX0_boardOn 45 = .ok (.iconst 1, 1) := dk_4 (dk_at dksX0_boardOn_1 23 rfl rfl)
theorem dX0_boardOn_46 : decode cX0_boardOn 46 = .ok (.iadd, 1) := dk_96 (dk_at dksX0_boardOn_2 0 rfl rfl)
theorem dX0_boardOn_47 : decode cX0_boardOn 47 = .ok (.invokevirtual 380, 3) := dk_182 1 124 (dk_at dksX0_boardOn_2 1 rfl rfl)
theorem dX0_boardOn_50 : decode cX0_boardOn 50 = .ok (.iastore, 1) := dk_79 (dk_at dksX0_boardOn_2 4 rfl rfl)
theorem dX0_boardOn_51 : decode cX0_boardOn 51 = .ok (.iconst 0, 1) := dk_3 (dk_at dksX0_boardOn_2 5 rfl rfl)
theorem dX0_boardOn_52 : decode cX0_boardOn 52 = .ok (.istore_n 3, 1) := dk_62 (dk_at dksX0_boardOn_2 6 rfl rfl)
theorem dX0_boardOn_53 : decode cX0_boardOn 53 = .ok (.iload_n 3, 1) := dk_29 (dk_at dksX0_boardOn_2 7 rfl rfl)
theorem dX0_boardOn_54 : decode cX0_boardOn 54 = .ok (.bipush 6, 2) := dk_16 6 (dk_at dksX0_boardOn_2 8 rfl rfl)
theorem dX0_boardOn_56 : decode cX0_boardOn 56 = .ok (.if_icmp .ge 61, 3) := dk_162 0 61 (dk_at dksX0_boardOn_2 10 rfl rfl)
theorem dX0_boardOn_59 : decode cX0_boardOn 59 = .ok (.aload_n 0, 1) := dk_42 (dk_at dksX0_boardOn_2 13 rfl rfl)
theorem dX0_boardOn_60 : decode cX0_boardOn 60 = .ok (.iload_n 2, 1) := dk_28 (dk_at dksX0_boardOn_2 14 rfl rfl)
theorem dX0_boardOn_61 : decode cX0_boardOn 61 = .ok (.iconst 2, 1) := dk_5 (dk_at dksX0_boardOn_2 15 rfl rfl)
theorem dX0_boardOn_62 : decode cX0_boardOn 62 = .ok (.iadd, 1) := dk_96 (dk_at dksX0_boardOn_2 16 rfl rfl)
theorem dX0_boardOn_63 : decode cX0_boardOn 63 = .ok (.iconst 2, 1) := dk_5 (dk_at dksX0_boardOn_2 17 rfl rfl)
theorem dX0_boardOn_64 : decode cX0_boardOn 64 = .ok (.iload_n 3, 1) := dk_29 (dk_at dksX0_boardOn_2 18 rfl rfl)
theorem dX0_boardOn_65 : decode cX0_boardOn 65 = .ok (.imul, 1) := dk_104 (dk_at dksX0_boardOn_2 19 rfl rfl)
theorem dX0_boardOn_66 : decode cX0_boardOn 66 = .ok (.iadd, 1) := dk_96 (dk_at dksX0_boardOn_2 20 rfl rfl)
theorem dX0_boardOn_67 : decode cX0_boardOn 67 = .ok (.invokevirtual 383, 3) := dk_182 1 127 (dk_at dksX0_boardOn_2 21 rfl rfl)
theorem dX0_boardOn_70 : decode cX0_boardOn 70 = .ok (.istore 4, 2) := dk_54 4 (dk_at dksX0_boardOn_3 0 rfl rfl)
theorem dX0_boardOn_72 : decode cX0_boardOn 72 = .ok (.iload 4, 2) := dk_21 4 (dk_at dksX0_boardOn_3 2 rfl rfl)
theorem dX0_boardOn_74 : decode cX0_boardOn 74 = .ok (.iload_n 3, 1) := dk_29 (dk_at dksX0_boardOn_3 4 rfl rfl)
theorem dX0_boardOn_75 : decode cX0_boardOn 75 = .ok (.aload_n 0, 1) := dk_42 (dk_at dksX0_boardOn_3 5 rfl rfl)
theorem dX0_boardOn_76 : decode cX0_boardOn 76 = .ok (.getfield 73, 3) := dk_180 0 73 (dk_at dksX0_boardOn_3 6 rfl rfl)
theorem dX0_boardOn_79 : decode cX0_boardOn 79 = .ok (.iload_n 1, 1) := dk_27 (dk_at dksX0_boardOn_3 9 rfl rfl)
theorem dX0_boardOn_80 : decode cX0_boardOn 80 = .ok (.invokevirtual 242, 3) := dk_182 0 242 (dk_at dksX0_boardOn_3 10 rfl rfl)
theorem dX0_boardOn_83 : decode cX0_boardOn 83 = .ok (.if_icmp .ge 9, 3) := dk_162 0 9 (dk_at dksX0_boardOn_3 13 rfl rfl)
theorem dX0_boardOn_86 : decode cX0_boardOn 86 = .ok (.sipush 32767, 3) := dk_17 127 255 (dk_at dksX0_boardOn_3 16 rfl rfl)
theorem dX0_boardOn_89 : decode cX0_boardOn 89 = .ok (.goto 4, 3) := dk_167 0 4 (dk_at dksX0_boardOn_3 19 rfl rfl)
theorem dX0_boardOn_92 : decode cX0_boardOn 92 = .ok (.iconst 0, 1) := dk_3 (dk_at dksX0_boardOn_3 22 rfl rfl)
theorem dX0_boardOn_93 : decode cX0_boardOn 93 = .ok (.if_icmp .le 5, 3) := dk_164 0 5 (dk_at dksX0_boardOn_4 0 rfl rfl)
theorem dX0_boardOn_96 : decode cX0_boardOn 96 = .ok (.iconst 0, 1) := dk_3 (dk_at dksX0_boardOn_4 3 rfl rfl)
theorem dX0_boardOn_97 : decode cX0_boardOn 97 = .ok (.ireturn, 1) := dk_172 (dk_at dksX0_boardOn_4 4 rfl rfl)
theorem dX0_boardOn_98 : decode cX0_boardOn 98 = .ok (.aload_n 0, 1) := dk_42 (dk_at dksX0_boardOn_4 5 rfl rfl)
theorem dX0_boardOn_99 : decode cX0_boardOn 99 = .ok (.getfield 73, 3) := dk_180 0 73 (dk_at dksX0_boardOn_4 6 rfl rfl)
theorem dX0_boardOn_102 : decode cX0_boardOn 102 = .ok (.getfield 248, 3) := dk_180 0 248 (dk_at dksX0_boardOn_4 9 rfl rfl)
theorem dX0_boardOn_105 : decode cX0_boardOn 105 = .ok (.iload_n 1, 1) := dk_27 (dk_at dksX0_boardOn_4 12 rfl rfl)
theorem dX0_boardOn_106 : decode cX0_boardOn 106 = .ok (.aaload, 1) := dk_50 (dk_at dksX0_boardOn_4 13 rfl rfl)
theorem dX0_boardOn_107 : decode cX0_boardOn 107 = .ok (.iload_n 3, 1) := dk_29 (dk_at dksX0_boardOn_4 14 rfl rfl)
theorem dX0_boardOn_108 : decode cX0_boardOn 108 = .ok (.iload 4, 2) := dk_21 4 (dk_at dksX0_boardOn_4 15 rfl rfl)
theorem dX0_boardOn_110 : decode cX0_boardOn 110 = .ok (.iastore, 1) := dk_79 (dk_at dksX0_boardOn_4 17 rfl rfl)
theorem dX0_boardOn_111 : decode cX0_boardOn 111 = .ok (.iinc 3 1, 3) := dk_132 3 1 (dk_at dksX0_boardOn_4 18 rfl rfl)
theorem dX0_boardOn_114 : decode cX0_boardOn 114 = .ok (.goto (-61), 3) := dk_167 255 195 (dk_at dksX0_boardOn_4 21 rfl rfl)
theorem dX0_boardOn_117 : decode cX0_boardOn 117 = .ok (.iconst 1, 1) := dk_4 (dk_at dksX0_boardOn_5 0 rfl rfl)
theorem dX0_boardOn_118 : decode cX0_boardOn 118 = .ok (.ireturn, 1) := dk_172 (dk_at dksX0_boardOn_5 1 rfl rfl)
abbrev cX0_status : ByteArray := prog_1_method_70_code
def yX0_status : MethodName := ⟨RX0, "status", "(I)I"⟩
def dkwX0_status_0 : List UInt8 := [27, 3, 8, 184, 0, 149, 153, 0, 12, 42, 180, 0, 62, 27, 46, 167, 0, 4, 2, 172]
abbrev dktX0_status_0 : List UInt8 := dkwX0_status_0 ++ []
theorem dksX0_status_0 : cX0_status.data.toList.drop 0 = dktX0_status_0 := by decide +kernel
theorem dX0_status_0 : decode cX0_status 0 = .ok (.iload_n 1, 1) := dk_27 (dk_at dksX0_status_0 0 rfl rfl)
theorem dX0_status_1 : decode cX0_status 1 = .ok (.iconst 0, 1) := dk_3 (dk_at dksX0_status_0 1 rfl rfl)
theorem dX0_status_2 : decode cX0_status 2 = .ok (.iconst 5, 1) := dk_8 (dk_at dksX0_status_0 2 rfl rfl)
theorem dX0_status_3 : decode cX0_status 3 = .ok (.invokestatic 149, 3) := dk_184 0 149 (dk_at dksX0_status_0 3 rfl rfl)
theorem dX0_status_6 : decode cX0_status 6 = .ok (.ifCond .eq 12, 3) := dk_153 0 12 (dk_at dksX0_status_0 6 rfl rfl)
theorem dX0_status_9 : decode cX0_status 9 = .ok (.aload_n 0, 1) := dk_42 (dk_at dksX0_status_0 9 rfl rfl)
theorem dX0_status_10 : decode cX0_status 10 = .ok (.getfield 62, 3) := dk_180 0 62 (dk_at dksX0_status_0 10 rfl rfl)
theorem dX0_status_13 : decode cX0_status 13 = .ok (.iload_n 1, 1) := dk_27 (dk_at dksX0_status_0 13 rfl rfl)
theorem dX0_status_14 : decode cX0_status 14 = .ok (.iaload, 1) := dk_46 (dk_at dksX0_status_0 14 rfl rfl)
theorem dX0_status_15 : decode cX0_status 15 = .ok (.goto 4, 3) := dk_167 0 4 (dk_at dksX0_status_0 15 rfl rfl)
theorem dX0_status_18 : decode cX0_status 18 = .ok (.iconst (-1), 1) := dk_2 (dk_at dksX0_status_0 18 rfl rfl)
theorem dX0_status_19 : decode cX0_status 19 = .ok (.ireturn, 1) := dk_172 (dk_at dksX0_status_0 19 rfl rfl)
theorem q168 : (Jvm.Cond.initialized "TurnedBoards") ∈ lw_all := lw_g (lw_at lw_m1 1 rfl) rfl
theorem q210 : (Jvm.Cond.instantiable "TurnedBoards" (18 : Nat)) ∈ lw_all := lw_g (lw_at lw_m1 43 rfl) rfl
theorem q212 : (Jvm.Cond.instanceMethod ({ cls := "TurnedBoards", name := "<init>", desc := "()V" } : Jvm.MethodName)) ∈ lw_all := lw_g (lw_at lw_m1 45 rfl) rfl
theorem q213 : (Jvm.Cond.code ({ cls := "TurnedBoards", name := "<init>", desc := "()V" } : Jvm.MethodName) prog_1_method_7_code (2 : Nat) (Option.none : Option Jvm.ClassFile.FieldType)) ∈ lw_all := lw_g (lw_at lw_m1 46 rfl) rfl
theorem q214 : (Jvm.Cond.methodLink "TurnedBoards" (22 : Nat) ({ cls := "java/lang/Object", name := "<init>", desc := "()V" } : Jvm.MethodName)) ∈ lw_all := lw_g (lw_at lw_m1 47 rfl) rfl
theorem q217 : (Jvm.Cond.classLink "TurnedBoards" (28 : Nat) "TurnedBoards$Shop") ∈ lw_all := lw_g (lw_at lw_m1 50 rfl) rfl
theorem q219 : (Jvm.Cond.methodLink "TurnedBoards" (30 : Nat) ({ cls := "TurnedBoards$Shop", name := "<init>", desc := "()V" } : Jvm.MethodName)) ∈ lw_all := lw_g (lw_at lw_m1 52 rfl) rfl
theorem q291 : (Jvm.Cond.selects "TurnedBoards" ({ cls := "java/lang/Object", name := "getClass", desc := "()Ljava/lang/Class;" } : Jvm.MethodName) ({ cls := "java/lang/Object", name := "getClass", desc := "()Ljava/lang/Class;" } : Jvm.MethodName)) ∈ lw_all := lw_g (lw_at lw_m1 124 rfl) rfl
theorem q329 : (Jvm.Cond.fieldLinkNest "TurnedBoards" (130 : Nat) "TurnedBoards$Shop" "statements" "I" "TurnedBoards") ∈ lw_tbl := lw_at lw_m1 162 rfl
theorem q333 : (Jvm.Cond.fieldLinkNest "TurnedBoards" (204 : Nat) "TurnedBoards$Shop" "forgive" "I" "TurnedBoards") ∈ lw_tbl := lw_at lw_m1 166 rfl
theorem q338 : (Jvm.Cond.fieldLinkNest "TurnedBoards" (336 : Nat) "TurnedBoards$Shop" "hail" "I" "TurnedBoards") ∈ lw_tbl := lw_at lw_m1 171 rfl
theorem q341 : (Jvm.Cond.fieldLinkNest "TurnedBoards" (153 : Nat) "TurnedBoards$Shop" "letters" "Ljava/util/List;" "TurnedBoards") ∈ lw_tbl := lw_at lw_m1 174 rfl
theorem q345 : (Jvm.Cond.fieldLinkNest "TurnedBoards" (133 : Nat) "TurnedBoards$Shop" "words" "Ljava/util/List;" "TurnedBoards") ∈ lw_tbl := lw_at lw_m1 178 rfl
theorem q349 : (Jvm.Cond.fieldLinkNest "TurnedBoards" (142 : Nat) "TurnedBoards$Shop" "boards" "Ljava/util/List;" "TurnedBoards") ∈ lw_tbl := lw_at lw_m1 182 rfl
theorem q352 : (Jvm.Cond.fieldLinkNest "TurnedBoards" (185 : Nat) "TurnedBoards$Shop" "doubt" "LTurnedBoards$Value;" "TurnedBoards") ∈ lw_tbl := lw_at lw_m1 185 rfl
theorem q374 : (Jvm.Cond.classLink "TurnedBoards" (43 : Nat) "TurnedBoards$Reader") ∈ lw_all := lw_g (lw_at lw_m1 207 rfl) rfl
theorem q376 : (Jvm.Cond.methodLinkNest "TurnedBoards" (45 : Nat) ({ cls := "TurnedBoards$Reader", name := "<init>", desc := "(LTurnedBoards;)V" } : Jvm.MethodName) "TurnedBoards") ∈ lw_tbl := lw_at lw_m1 209 rfl
theorem q432 : (Jvm.Cond.fieldLinkNest "TurnedBoards" (118 : Nat) "TurnedBoards$Fault" "kind" "I" "TurnedBoards") ∈ lw_tbl := lw_at lw_m2 25 rfl
theorem q434 : (Jvm.Cond.fieldLinkNest "TurnedBoards" (121 : Nat) "TurnedBoards$Fault" "place" "I" "TurnedBoards") ∈ lw_tbl := lw_at lw_m2 27 rfl
theorem q478 : (Jvm.Cond.classLink "TurnedBoards" (52 : Nat) "TurnedBoards$Moment") ∈ lw_all := lw_g (lw_at lw_m2 71 rfl) rfl
theorem q480 : (Jvm.Cond.methodLinkNest "TurnedBoards" (54 : Nat) ({ cls := "TurnedBoards$Moment", name := "<init>", desc := "()V" } : Jvm.MethodName) "TurnedBoards") ∈ lw_tbl := lw_at lw_m2 73 rfl
theorem q487 : (Jvm.Cond.fieldLinkNest "TurnedBoards" (191 : Nat) "TurnedBoards$Moment" "of" "[J" "TurnedBoards") ∈ lw_tbl := lw_at lw_m2 80 rfl
theorem q492 : (Jvm.Cond.classLink "TurnedBoards" (66 : Nat) "TurnedBoards$State") ∈ lw_all := lw_g (lw_at lw_m2 85 rfl) rfl
theorem q494 : (Jvm.Cond.methodLinkNest "TurnedBoards" (68 : Nat) ({ cls := "TurnedBoards$State", name := "<init>", desc := "(LTurnedBoards;)V" } : Jvm.MethodName) "TurnedBoards") ∈ lw_tbl := lw_at lw_m2 87 rfl
theorem q501 : (Jvm.Cond.fieldLinkNest "TurnedBoards" (218 : Nat) "TurnedBoards$State" "year" "I" "TurnedBoards") ∈ lw_tbl := lw_at lw_m2 94 rfl
theorem q503 : (Jvm.Cond.fieldLinkNest "TurnedBoards" (224 : Nat) "TurnedBoards$State" "keeps" "I" "TurnedBoards") ∈ lw_tbl := lw_at lw_m2 96 rfl
theorem q505 : (Jvm.Cond.fieldLinkNest "TurnedBoards" (319 : Nat) "TurnedBoards$State" "rained" "I" "TurnedBoards") ∈ lw_tbl := lw_at lw_m2 98 rfl
theorem q507 : (Jvm.Cond.fieldLinkNest "TurnedBoards" (330 : Nat) "TurnedBoards$State" "hailed" "I" "TurnedBoards") ∈ lw_tbl := lw_at lw_m2 100 rfl
theorem q509 : (Jvm.Cond.fieldLinkNest "TurnedBoards" (236 : Nat) "TurnedBoards$State" "word" "[I" "TurnedBoards") ∈ lw_tbl := lw_at lw_m2 102 rfl
theorem q511 : (Jvm.Cond.fieldLinkNest "TurnedBoards" (239 : Nat) "TurnedBoards$State" "hand" "[I" "TurnedBoards") ∈ lw_tbl := lw_at lw_m2 104 rfl
theorem q513 : (Jvm.Cond.fieldLinkNest "TurnedBoards" (248 : Nat) "TurnedBoards$State" "glyph" "[[I" "TurnedBoards") ∈ lw_tbl := lw_at lw_m2 106 rfl
theorem q515 : (Jvm.Cond.fieldLinkNest "TurnedBoards" (251 : Nat) "TurnedBoards$State" "rows" "[[I" "TurnedBoards") ∈ lw_tbl := lw_at lw_m2 108 rfl
theorem q540 : (Jvm.Cond.classLink "TurnedBoards" (76 : Nat) "TurnedBoards$Line") ∈ lw_all := lw_g (lw_at lw_m2 133 rfl) rfl
theorem q542 : (Jvm.Cond.methodLinkNest "TurnedBoards" (78 : Nat) ({ cls := "TurnedBoards$Line", name := "<init>", desc := "(LTurnedBoards;)V" } : Jvm.MethodName) "TurnedBoards") ∈ lw_tbl := lw_at lw_m2 135 rfl
theorem q553 : (Jvm.Cond.fieldLinkNest "TurnedBoards" (299 : Nat) "TurnedBoards$Line" "pieces" "I" "TurnedBoards") ∈ lw_tbl := lw_at lw_m2 146 rfl
theorem q556 : (Jvm.Cond.fieldLinkNest "TurnedBoards" (302 : Nat) "TurnedBoards$Line" "forWhom" "[I" "TurnedBoards") ∈ lw_tbl := lw_at lw_m2 149 rfl
theorem q558 : (Jvm.Cond.fieldLinkNest "TurnedBoards" (305 : Nat) "TurnedBoards$Line" "glyph" "[I" "TurnedBoards") ∈ lw_tbl := lw_at lw_m2 151 rfl
theorem q584 : (Jvm.Cond.fieldLink "TurnedBoards" (31 : Nat) "TurnedBoards" "shop" "LTurnedBoards$Shop;") ∈ lw_all := lw_g (lw_at lw_m2 177 rfl) rfl
theorem q586 : (Jvm.Cond.fieldLink "TurnedBoards" (35 : Nat) "TurnedBoards" "tape" "[B") ∈ lw_all := lw_g (lw_at lw_m2 179 rfl) rfl
theorem q587 : (Jvm.Cond.fieldLink "TurnedBoards" (94 : Nat) "TurnedBoards" "taped" "I") ∈ lw_all := lw_g (lw_at lw_m2 180 rfl) rfl
theorem q588 : (Jvm.Cond.fieldLink "TurnedBoards" (105 : Nat) "TurnedBoards" "faultKind" "I") ∈ lw_all := lw_g (lw_at lw_m2 181 rfl) rfl
theorem q589 : (Jvm.Cond.fieldLink "TurnedBoards" (39 : Nat) "TurnedBoards" "faultPlace" "I") ∈ lw_all := lw_g (lw_at lw_m2 182 rfl) rfl
theorem q590 : (Jvm.Cond.fieldLink "TurnedBoards" (48 : Nat) "TurnedBoards" "reader" "LTurnedBoards$Reader;") ∈ lw_all := lw_g (lw_at lw_m2 183 rfl) rfl
theorem q591 : (Jvm.Cond.fieldLink "TurnedBoards" (55 : Nat) "TurnedBoards" "moment" "LTurnedBoards$Moment;") ∈ lw_all := lw_g (lw_at lw_m2 184 rfl) rfl
theorem q593 : (Jvm.Cond.fieldLink "TurnedBoards" (59 : Nat) "TurnedBoards" "asked" "LTurnedBoards$Moment;") ∈ lw_all := lw_g (lw_at lw_m2 186 rfl) rfl
theorem q594 : (Jvm.Cond.fieldLink "TurnedBoards" (62 : Nat) "TurnedBoards" "refused" "[I") ∈ lw_all := lw_g (lw_at lw_m2 187 rfl) rfl
theorem q595 : (Jvm.Cond.fieldLink "TurnedBoards" (69 : Nat) "TurnedBoards" "now" "LTurnedBoards$State;") ∈ lw_all := lw_g (lw_at lw_m2 188 rfl) rfl
theorem q596 : (Jvm.Cond.fieldLink "TurnedBoards" (73 : Nat) "TurnedBoards" "tried" "LTurnedBoards$State;") ∈ lw_all := lw_g (lw_at lw_m2 189 rfl) rfl
theorem q597 : (Jvm.Cond.fieldLink "TurnedBoards" (79 : Nat) "TurnedBoards" "line" "LTurnedBoards$Line;") ∈ lw_all := lw_g (lw_at lw_m2 190 rfl) rfl
theorem q598 : (Jvm.Cond.fieldLink "TurnedBoards" (83 : Nat) "TurnedBoards" "kept" "[LTurnedBoards$State;") ∈ lw_all := lw_g (lw_at lw_m2 191 rfl) rfl
theorem q599 : (Jvm.Cond.fieldLink "TurnedBoards" (127 : Nat) "TurnedBoards" "undos" "I") ∈ lw_all := lw_g (lw_at lw_m2 192 rfl) rfl
theorem q600 : (Jvm.Cond.fieldLink "TurnedBoards" (87 : Nat) "TurnedBoards" "seeds" "J") ∈ lw_all := lw_g (lw_at lw_m2 193 rfl) rfl
theorem q601 : (Jvm.Cond.fieldLink "TurnedBoards" (347 : Nat) "TurnedBoards" "askedWord" "I") ∈ lw_all := lw_g (lw_at lw_m2 194 rfl) rfl
theorem q602 : (Jvm.Cond.fieldLink "TurnedBoards" (91 : Nat) "TurnedBoards" "out" "[B") ∈ lw_all := lw_g (lw_at lw_m2 195 rfl) rfl
theorem q603 : (Jvm.Cond.fieldLink "TurnedBoards" (369 : Nat) "TurnedBoards" "outs" "I") ∈ lw_all := lw_g (lw_at lw_m2 196 rfl) rfl
theorem q604 : (Jvm.Cond.lays "TurnedBoards" "TurnedBoards" "shop" "LTurnedBoards$Shop;") ∈ lw_all := lw_g (lw_at lw_m2 197 rfl) rfl
theorem q605 : (Jvm.Cond.soleField "TurnedBoards" "shop") ∈ lw_all := lw_g (lw_at lw_m2 198 rfl) rfl
theorem q606 : (Jvm.Cond.laysFinal "TurnedBoards" "TurnedBoards" "tape" "[B") ∈ lw_all := lw_g (lw_at lw_m2 199 rfl) rfl
theorem q607 : (Jvm.Cond.soleField "TurnedBoards" "tape") ∈ lw_all := lw_g (lw_at lw_m2 200 rfl) rfl
theorem q608 : (Jvm.Cond.lays "TurnedBoards" "TurnedBoards" "taped" "I") ∈ lw_all := lw_g (lw_at lw_m2 201 rfl) rfl
theorem q609 : (Jvm.Cond.soleField "TurnedBoards" "taped") ∈ lw_all := lw_g (lw_at lw_m2 202 rfl) rfl
theorem q610 : (Jvm.Cond.lays "TurnedBoards" "TurnedBoards" "faultKind" "I") ∈ lw_all := lw_g (lw_at lw_m2 203 rfl) rfl
theorem q611 : (Jvm.Cond.soleField "TurnedBoards" "faultKind") ∈ lw_all := lw_g (lw_at lw_m2 204 rfl) rfl
theorem q612 : (Jvm.Cond.lays "TurnedBoards" "TurnedBoards" "faultPlace" "I") ∈ lw_all := lw_g (lw_at lw_m2 205 rfl) rfl
theorem q613 : (Jvm.Cond.soleField "TurnedBoards" "faultPlace") ∈ lw_all := lw_g (lw_at lw_m2 206 rfl) rfl
theorem q614 : (Jvm.Cond.laysFinal "TurnedBoards" "TurnedBoards" "reader" "LTurnedBoards$Reader;") ∈ lw_all := lw_g (lw_at lw_m2 207 rfl) rfl
theorem q615 : (Jvm.Cond.soleField "TurnedBoards" "reader") ∈ lw_all := lw_g (lw_at lw_m2 208 rfl) rfl
theorem q616 : (Jvm.Cond.laysFinal "TurnedBoards" "TurnedBoards" "moment" "LTurnedBoards$Moment;") ∈ lw_all := lw_g (lw_at lw_m2 209 rfl) rfl
theorem q617 : (Jvm.Cond.soleField "TurnedBoards" "moment") ∈ lw_all := lw_g (lw_at lw_m2 210 rfl) rfl
theorem q618 : (Jvm.Cond.laysFinal "TurnedBoards" "TurnedBoards" "asked" "LTurnedBoards$Moment;") ∈ lw_all := lw_g (lw_at lw_m2 211 rfl) rfl
theorem q619 : (Jvm.Cond.soleField "TurnedBoards" "asked") ∈ lw_all := lw_g (lw_at lw_m2 212 rfl) rfl
theorem q620 : (Jvm.Cond.laysFinal "TurnedBoards" "TurnedBoards" "refused" "[I") ∈ lw_all := lw_g (lw_at lw_m2 213 rfl) rfl
theorem q621 : (Jvm.Cond.soleField "TurnedBoards" "refused") ∈ lw_all := lw_g (lw_at lw_m2 214 rfl) rfl
theorem q622 : (Jvm.Cond.laysFinal "TurnedBoards" "TurnedBoards" "now" "LTurnedBoards$State;") ∈ lw_all := lw_g (lw_at lw_m2 215 rfl) rfl
theorem q623 : (Jvm.Cond.soleField "TurnedBoards" "now") ∈ lw_all := lw_g (lw_at lw_m2 216 rfl) rfl
theorem q624 : (Jvm.Cond.laysFinal "TurnedBoards" "TurnedBoards" "tried" "LTurnedBoards$State;") ∈ lw_all := lw_g (lw_at lw_m2 217 rfl) rfl
theorem q625 : (Jvm.Cond.soleField "TurnedBoards" "tried") ∈ lw_all := lw_g (lw_at lw_m2 218 rfl) rfl
theorem q626 : (Jvm.Cond.laysFinal "TurnedBoards" "TurnedBoards" "line" "LTurnedBoards$Line;") ∈ lw_all := lw_g (lw_at lw_m2 219 rfl) rfl
theorem q627 : (Jvm.Cond.soleField "TurnedBoards" "line") ∈ lw_all := lw_g (lw_at lw_m2 220 rfl) rfl
theorem q628 : (Jvm.Cond.laysFinal "TurnedBoards" "TurnedBoards" "kept" "[LTurnedBoards$State;") ∈ lw_all := lw_g (lw_at lw_m2 221 rfl) rfl
theorem q629 : (Jvm.Cond.soleField "TurnedBoards" "kept") ∈ lw_all := lw_g (lw_at lw_m2 222 rfl) rfl
theorem q630 : (Jvm.Cond.lays "TurnedBoards" "TurnedBoards" "undos" "I") ∈ lw_all := lw_g (lw_at lw_m2 223 rfl) rfl
theorem q631 : (Jvm.Cond.soleField "TurnedBoards" "undos") ∈ lw_all := lw_g (lw_at lw_m2 224 rfl) rfl
theorem q632 : (Jvm.Cond.lays "TurnedBoards" "TurnedBoards" "seeds" "J") ∈ lw_all := lw_g (lw_at lw_m2 225 rfl) rfl
theorem q633 : (Jvm.Cond.soleField "TurnedBoards" "seeds") ∈ lw_all := lw_g (lw_at lw_m2 226 rfl) rfl
theorem q634 : (Jvm.Cond.lays "TurnedBoards" "TurnedBoards" "askedWord" "I") ∈ lw_all := lw_g (lw_at lw_m2 227 rfl) rfl
theorem q635 : (Jvm.Cond.soleField "TurnedBoards" "askedWord") ∈ lw_all := lw_g (lw_at lw_m2 228 rfl) rfl
theorem q636 : (Jvm.Cond.laysFinal "TurnedBoards" "TurnedBoards" "out" "[B") ∈ lw_all := lw_g (lw_at lw_m2 229 rfl) rfl
theorem q637 : (Jvm.Cond.soleField "TurnedBoards" "out") ∈ lw_all := lw_g (lw_at lw_m2 230 rfl) rfl
theorem q638 : (Jvm.Cond.lays "TurnedBoards" "TurnedBoards" "outs" "I") ∈ lw_all := lw_g (lw_at lw_m2 231 rfl) rfl
theorem q639 : (Jvm.Cond.soleField "TurnedBoards" "outs") ∈ lw_all := lw_g (lw_at lw_m2 232 rfl) rfl
theorem q640 : (Jvm.Cond.superclass "TurnedBoards" "java/lang/Object") ∈ lw_all := lw_g (lw_at lw_m2 233 rfl) rfl
theorem q642 : (Jvm.Cond.instanceMethod ({ cls := "TurnedBoards", name := "feed", desc := "(IIIII)I" } : Jvm.MethodName)) ∈ lw_all := lw_g (lw_at lw_m2 235 rfl) rfl
theorem q643 : (Jvm.Cond.selects "TurnedBoards" ({ cls := "TurnedBoards", name := "feed", desc := "(IIIII)I" } : Jvm.MethodName) ({ cls := "TurnedBoards", name := "feed", desc := "(IIIII)I" } : Jvm.MethodName)) ∈ lw_all := lw_g (lw_at lw_m2 236 rfl) rfl
theorem q644 : (Jvm.Cond.code ({ cls := "TurnedBoards", name := "feed", desc := "(IIIII)I" } : Jvm.MethodName) prog_1_method_10_code (6 : Nat) (Option.some Jvm.ClassFile.FieldType.int)) ∈ lw_all := lw_g (lw_at lw_m2 237 rfl) rfl
theorem q645 : (Jvm.Cond.methodLink "TurnedBoards" (97 : Nat) ({ cls := "TurnedBoards", name := "refuses", desc := "(I)I" } : Jvm.MethodName)) ∈ lw_all := lw_g (lw_at lw_m2 238 rfl) rfl
theorem q646 : (Jvm.Cond.privateMethod ({ cls := "TurnedBoards", name := "refuses", desc := "(I)I" } : Jvm.MethodName)) ∈ lw_tbl := lw_at lw_m2 239 rfl
theorem q647 : (Jvm.Cond.instanceMethod ({ cls := "TurnedBoards", name := "refuses", desc := "(I)I" } : Jvm.MethodName)) ∈ lw_all := lw_g (lw_at lw_m3 0 rfl) rfl
theorem q648 : (Jvm.Cond.code ({ cls := "TurnedBoards", name := "refuses", desc := "(I)I" } : Jvm.MethodName) prog_1_method_8_code (2 : Nat) (Option.some Jvm.ClassFile.FieldType.int)) ∈ lw_all := lw_g (lw_at lw_m3 1 rfl) rfl
theorem q649 : (Jvm.Cond.methodLink "TurnedBoards" (101 : Nat) ({ cls := "TurnedBoards", name := "put", desc := "(I)V" } : Jvm.MethodName)) ∈ lw_all := lw_g (lw_at lw_m3 2 rfl) rfl
theorem q650 : (Jvm.Cond.privateMethod ({ cls := "TurnedBoards", name := "put", desc := "(I)V" } : Jvm.MethodName)) ∈ lw_tbl := lw_at lw_m3 3 rfl
theorem q651 : (Jvm.Cond.instanceMethod ({ cls := "TurnedBoards", name := "put", desc := "(I)V" } : Jvm.MethodName)) ∈ lw_all := lw_g (lw_at lw_m3 4 rfl) rfl
theorem q652 : (Jvm.Cond.code ({ cls := "TurnedBoards", name := "put", desc := "(I)V" } : Jvm.MethodName) prog_1_method_9_code (3 : Nat) (Option.none : Option Jvm.ClassFile.FieldType)) ∈ lw_all := lw_g (lw_at lw_m3 5 rfl) rfl
theorem q654 : (Jvm.Cond.instanceMethod ({ cls := "TurnedBoards", name := "end", desc := "(I)Z" } : Jvm.MethodName)) ∈ lw_all := lw_g (lw_at lw_m3 7 rfl) rfl
theorem q655 : (Jvm.Cond.selects "TurnedBoards" ({ cls := "TurnedBoards", name := "end", desc := "(I)Z" } : Jvm.MethodName) ({ cls := "TurnedBoards", name := "end", desc := "(I)Z" } : Jvm.MethodName)) ∈ lw_all := lw_g (lw_at lw_m3 8 rfl) rfl
theorem q656 : (Jvm.Cond.code ({ cls := "TurnedBoards", name := "end", desc := "(I)Z" } : Jvm.MethodName) prog_1_method_11_code (2 : Nat) (Option.some Jvm.ClassFile.FieldType.boolean)) ∈ lw_all := lw_g (lw_at lw_m3 9 rfl) rfl
theorem q658 : (Jvm.Cond.instanceMethod ({ cls := "TurnedBoards", name := "shop", desc := "()I" } : Jvm.MethodName)) ∈ lw_all := lw_g (lw_at lw_m3 11 rfl) rfl
theorem q659 : (Jvm.Cond.selects "TurnedBoards" ({ cls := "TurnedBoards", name := "shop", desc := "()I" } : Jvm.MethodName) ({ cls := "TurnedBoards", name := "shop", desc := "()I" } : Jvm.MethodName)) ∈ lw_all := lw_g (lw_at lw_m3 12 rfl) rfl
theorem q660 : (Jvm.Cond.codeWith ({ cls := "TurnedBoards", name := "shop", desc := "()I" } : Jvm.MethodName) prog_1_method_13_code (2 : Nat) (Option.some Jvm.ClassFile.FieldType.int) [((10 : Nat), (25 : Nat), (28 : Nat), (116 : Nat))]) ∈ lw_all := lw_g (lw_at lw_m3 13 rfl) rfl
theorem q661 : (Jvm.Cond.classLink "TurnedBoards" (116 : Nat) "TurnedBoards$Fault") ∈ lw_all := lw_g (lw_at lw_m3 14 rfl) rfl
theorem q662 : (Jvm.Cond.methodLink "TurnedBoards" (108 : Nat) ({ cls := "TurnedBoards", name := "taken", desc := "()I" } : Jvm.MethodName)) ∈ lw_all := lw_g (lw_at lw_m3 15 rfl) rfl
theorem q663 : (Jvm.Cond.privateMethod ({ cls := "TurnedBoards", name := "taken", desc := "()I" } : Jvm.MethodName)) ∈ lw_tbl := lw_at lw_m3 16 rfl
theorem q664 : (Jvm.Cond.instanceMethod ({ cls := "TurnedBoards", name := "taken", desc := "()I" } : Jvm.MethodName)) ∈ lw_all := lw_g (lw_at lw_m3 17 rfl) rfl
theorem q665 : (Jvm.Cond.code ({ cls := "TurnedBoards", name := "taken", desc := "()I" } : Jvm.MethodName) prog_1_method_12_code (2 : Nat) (Option.some Jvm.ClassFile.FieldType.int)) ∈ lw_all := lw_g (lw_at lw_m3 18 rfl) rfl
theorem q666 : (Jvm.Cond.methodLink "TurnedBoards" (112 : Nat) ({ cls := "TurnedBoards$Reader", name := "all", desc := "(I)LTurnedBoards$Shop;" } : Jvm.MethodName)) ∈ lw_all := lw_g (lw_at lw_m3 19 rfl) rfl
theorem q693 : (Jvm.Cond.static ({ cls := "TurnedBoards", name := "isLetter", desc := "(I)Z" } : Jvm.MethodName)) ∈ lw_all := lw_g (lw_at lw_m3 46 rfl) rfl
theorem q694 : (Jvm.Cond.code ({ cls := "TurnedBoards", name := "isLetter", desc := "(I)Z" } : Jvm.MethodName) prog_1_method_4_code (1 : Nat) (Option.some Jvm.ClassFile.FieldType.boolean)) ∈ lw_all := lw_g (lw_at lw_m3 47 rfl) rfl
theorem q700 : (Jvm.Cond.static ({ cls := "TurnedBoards", name := "isDigit", desc := "(I)Z" } : Jvm.MethodName)) ∈ lw_all := lw_g (lw_at lw_m3 53 rfl) rfl
theorem q701 : (Jvm.Cond.code ({ cls := "TurnedBoards", name := "isDigit", desc := "(I)Z" } : Jvm.MethodName) prog_1_method_5_code (1 : Nat) (Option.some Jvm.ClassFile.FieldType.boolean)) ∈ lw_all := lw_g (lw_at lw_m3 54 rfl) rfl
theorem q852 : (Jvm.Cond.laysStatic "TurnedBoards" "OWN" "[Ljava/lang/String;") ∈ lw_tbl := lw_at lw_m3 205 rfl
theorem q854 : (Jvm.Cond.static ({ cls := "TurnedBoards", name := "find", desc := "(Ljava/lang/String;[Ljava/lang/String;)I" } : Jvm.MethodName)) ∈ lw_all := lw_g (lw_at lw_m3 207 rfl) rfl
theorem q855 : (Jvm.Cond.code ({ cls := "TurnedBoards", name := "find", desc := "(Ljava/lang/String;[Ljava/lang/String;)I" } : Jvm.MethodName) prog_1_method_6_code (3 : Nat) (Option.some Jvm.ClassFile.FieldType.int)) ∈ lw_all := lw_g (lw_at lw_m3 208 rfl) rfl
theorem q856 : (Jvm.Cond.methodLink "TurnedBoards" (16 : Nat) ({ cls := "java/lang/String", name := "equals", desc := "(Ljava/lang/Object;)Z" } : Jvm.MethodName)) ∈ lw_all := lw_g (lw_at lw_m3 209 rfl) rfl
theorem q899 : (Jvm.Cond.static ({ cls := "TurnedBoards", name := "is", desc := "(III)Z" } : Jvm.MethodName)) ∈ lw_all := lw_g (lw_at lw_m4 12 rfl) rfl
theorem q900 : (Jvm.Cond.code ({ cls := "TurnedBoards", name := "is", desc := "(III)Z" } : Jvm.MethodName) prog_1_method_1_code (3 : Nat) (Option.some Jvm.ClassFile.FieldType.boolean)) ∈ lw_all := lw_g (lw_at lw_m4 13 rfl) rfl
theorem q947 : (Jvm.Cond.fieldLinkNest "TurnedBoards" (215 : Nat) "TurnedBoards$Letter" "which" "I" "TurnedBoards") ∈ lw_tbl := lw_at lw_m4 60 rfl
theorem q950 : (Jvm.Cond.fieldLinkNest "TurnedBoards" (177 : Nat) "TurnedBoards$Letter" "glyph" "I" "TurnedBoards") ∈ lw_tbl := lw_at lw_m4 63 rfl
theorem q1119 : (Jvm.Cond.laysStatic "TurnedBoards" "ASKED" "[Ljava/lang/String;") ∈ lw_tbl := lw_at lw_m4 232 rfl
theorem q1121 : (Jvm.Cond.static ({ cls := "TurnedBoards", name := "has", desc := "(II)Z" } : Jvm.MethodName)) ∈ lw_all := lw_g (lw_at lw_m4 234 rfl) rfl
theorem q1122 : (Jvm.Cond.code ({ cls := "TurnedBoards", name := "has", desc := "(II)Z" } : Jvm.MethodName) prog_1_method_2_code (2 : Nat) (Option.some Jvm.ClassFile.FieldType.boolean)) ∈ lw_all := lw_g (lw_at lw_m4 235 rfl) rfl
theorem q1134 : (Jvm.Cond.laysStatic "TurnedBoards" "LOOKED" "[Ljava/lang/String;") ∈ lw_tbl := lw_at lw_m5 7 rfl
theorem q1287 : (Jvm.Cond.methodLink "TurnedBoards" (124 : Nat) ({ cls := "TurnedBoards$State", name := "begins", desc := "()V" } : Jvm.MethodName)) ∈ lw_all := lw_g (lw_at lw_m5 160 rfl) rfl
theorem q1292 : (Jvm.Cond.privateMethod ({ cls := "TurnedBoards", name := "boards", desc := "()I" } : Jvm.MethodName)) ∈ lw_tbl := lw_at lw_m5 165 rfl
theorem q1293 : (Jvm.Cond.instanceMethod ({ cls := "TurnedBoards", name := "boards", desc := "()I" } : Jvm.MethodName)) ∈ lw_all := lw_g (lw_at lw_m5 166 rfl) rfl
theorem q1294 : (Jvm.Cond.code ({ cls := "TurnedBoards", name := "boards", desc := "()I" } : Jvm.MethodName) prog_1_method_16_code (1 : Nat) (Option.some Jvm.ClassFile.FieldType.int)) ∈ lw_all := lw_g (lw_at lw_m5 167 rfl) rfl
theorem q1295 : (Jvm.Cond.interfaceEntry "TurnedBoards" (137 : Nat)) ∈ lw_tbl := lw_at lw_m5 168 rfl
theorem q1296 : (Jvm.Cond.methodLink "TurnedBoards" (137 : Nat) ({ cls := "java/util/List", name := "size", desc := "()I" } : Jvm.MethodName)) ∈ lw_all := lw_g (lw_at lw_m5 169 rfl) rfl
theorem q1315 : (Jvm.Cond.instanceMethod ({ cls := "TurnedBoards", name := "fault", desc := "(I)I" } : Jvm.MethodName)) ∈ lw_all := lw_g (lw_at lw_m5 188 rfl) rfl
theorem q1316 : (Jvm.Cond.selects "TurnedBoards" ({ cls := "TurnedBoards", name := "fault", desc := "(I)I" } : Jvm.MethodName) ({ cls := "TurnedBoards", name := "fault", desc := "(I)I" } : Jvm.MethodName)) ∈ lw_all := lw_g (lw_at lw_m5 189 rfl) rfl
theorem q1317 : (Jvm.Cond.code ({ cls := "TurnedBoards", name := "fault", desc := "(I)I" } : Jvm.MethodName) prog_1_method_14_code (2 : Nat) (Option.some Jvm.ClassFile.FieldType.int)) ∈ lw_all := lw_g (lw_at lw_m5 190 rfl) rfl
theorem q1319 : (Jvm.Cond.instanceMethod ({ cls := "TurnedBoards", name := "has", desc := "(I)I" } : Jvm.MethodName)) ∈ lw_all := lw_g (lw_at lw_m5 192 rfl) rfl
theorem q1320 : (Jvm.Cond.selects "TurnedBoards" ({ cls := "TurnedBoards", name := "has", desc := "(I)I" } : Jvm.MethodName) ({ cls := "TurnedBoards", name := "has", desc := "(I)I" } : Jvm.MethodName)) ∈ lw_all := lw_g (lw_at lw_m5 193 rfl) rfl
theorem q1321 : (Jvm.Cond.code ({ cls := "TurnedBoards", name := "has", desc := "(I)I" } : Jvm.MethodName) prog_1_method_28_code (4 : Nat) (Option.some Jvm.ClassFile.FieldType.int)) ∈ lw_all := lw_g (lw_at lw_m5 194 rfl) rfl
theorem q1322 : (Jvm.Cond.methodLink "TurnedBoards" (164 : Nat) ({ cls := "TurnedBoards", name := "letters", desc := "(I)I" } : Jvm.MethodName)) ∈ lw_all := lw_g (lw_at lw_m5 195 rfl) rfl
theorem q1323 : (Jvm.Cond.privateMethod ({ cls := "TurnedBoards", name := "letters", desc := "(I)I" } : Jvm.MethodName)) ∈ lw_tbl := lw_at lw_m5 196 rfl
theorem q1324 : (Jvm.Cond.instanceMethod ({ cls := "TurnedBoards", name := "letters", desc := "(I)I" } : Jvm.MethodName)) ∈ lw_all := lw_g (lw_at lw_m5 197 rfl) rfl
theorem q1325 : (Jvm.Cond.code ({ cls := "TurnedBoards", name := "letters", desc := "(I)I" } : Jvm.MethodName) prog_1_method_20_code (2 : Nat) (Option.some Jvm.ClassFile.FieldType.int)) ∈ lw_all := lw_g (lw_at lw_m5 198 rfl) rfl
theorem q1326 : (Jvm.Cond.interfaceEntry "TurnedBoards" (156 : Nat)) ∈ lw_tbl := lw_at lw_m5 199 rfl
theorem q1327 : (Jvm.Cond.methodLink "TurnedBoards" (156 : Nat) ({ cls := "java/util/List", name := "get", desc := "(I)Ljava/lang/Object;" } : Jvm.MethodName)) ∈ lw_all := lw_g (lw_at lw_m5 200 rfl) rfl
theorem q1328 : (Jvm.Cond.classLink "TurnedBoards" (138 : Nat) "java/util/List") ∈ lw_all := lw_g (lw_at lw_m5 201 rfl) rfl
theorem q1329 : (Jvm.Cond.methodLink "TurnedBoards" (145 : Nat) ({ cls := "TurnedBoards", name := "words", desc := "()I" } : Jvm.MethodName)) ∈ lw_all := lw_g (lw_at lw_m5 202 rfl) rfl
theorem q1330 : (Jvm.Cond.privateMethod ({ cls := "TurnedBoards", name := "words", desc := "()I" } : Jvm.MethodName)) ∈ lw_tbl := lw_at lw_m5 203 rfl
theorem q1331 : (Jvm.Cond.instanceMethod ({ cls := "TurnedBoards", name := "words", desc := "()I" } : Jvm.MethodName)) ∈ lw_all := lw_g (lw_at lw_m5 204 rfl) rfl
theorem q1332 : (Jvm.Cond.code ({ cls := "TurnedBoards", name := "words", desc := "()I" } : Jvm.MethodName) prog_1_method_15_code (1 : Nat) (Option.some Jvm.ClassFile.FieldType.int)) ∈ lw_all := lw_g (lw_at lw_m5 205 rfl) rfl
theorem q1333 : (Jvm.Cond.methodLink "TurnedBoards" (147 : Nat) ({ cls := "TurnedBoards", name := "boards", desc := "()I" } : Jvm.MethodName)) ∈ lw_all := lw_g (lw_at lw_m5 206 rfl) rfl
theorem q1334 : (Jvm.Cond.methodLink "TurnedBoards" (221 : Nat) ({ cls := "TurnedBoards$State", name := "strokes", desc := "(I)I" } : Jvm.MethodName)) ∈ lw_all := lw_g (lw_at lw_m5 207 rfl) rfl
theorem q1345 : (Jvm.Cond.instanceMethod ({ cls := "TurnedBoards", name := "letter", desc := "(III)I" } : Jvm.MethodName)) ∈ lw_all := lw_g (lw_at lw_m5 218 rfl) rfl
theorem q1346 : (Jvm.Cond.selects "TurnedBoards" ({ cls := "TurnedBoards", name := "letter", desc := "(III)I" } : Jvm.MethodName) ({ cls := "TurnedBoards", name := "letter", desc := "(III)I" } : Jvm.MethodName)) ∈ lw_all := lw_g (lw_at lw_m5 219 rfl) rfl
theorem q1347 : (Jvm.Cond.code ({ cls := "TurnedBoards", name := "letter", desc := "(III)I" } : Jvm.MethodName) prog_1_method_29_code (5 : Nat) (Option.some Jvm.ClassFile.FieldType.int)) ∈ lw_all := lw_g (lw_at lw_m5 220 rfl) rfl
theorem q1348 : (Jvm.Cond.methodLink "TurnedBoards" (227 : Nat) ({ cls := "TurnedBoards", name := "isLetterOf", desc := "(II)Z" } : Jvm.MethodName)) ∈ lw_all := lw_g (lw_at lw_m5 221 rfl) rfl
theorem q1349 : (Jvm.Cond.privateMethod ({ cls := "TurnedBoards", name := "isLetterOf", desc := "(II)Z" } : Jvm.MethodName)) ∈ lw_tbl := lw_at lw_m5 222 rfl
theorem q1350 : (Jvm.Cond.instanceMethod ({ cls := "TurnedBoards", name := "isLetterOf", desc := "(II)Z" } : Jvm.MethodName)) ∈ lw_all := lw_g (lw_at lw_m5 223 rfl) rfl
theorem q1351 : (Jvm.Cond.code ({ cls := "TurnedBoards", name := "isLetterOf", desc := "(II)Z" } : Jvm.MethodName) prog_1_method_21_code (3 : Nat) (Option.some Jvm.ClassFile.FieldType.boolean)) ∈ lw_all := lw_g (lw_at lw_m5 224 rfl) rfl
theorem q1352 : (Jvm.Cond.methodLink "TurnedBoards" (160 : Nat) ({ cls := "TurnedBoards", name := "isHand", desc := "(I)Z" } : Jvm.MethodName)) ∈ lw_all := lw_g (lw_at lw_m5 225 rfl) rfl
theorem q1353 : (Jvm.Cond.static ({ cls := "TurnedBoards", name := "isHand", desc := "(I)Z" } : Jvm.MethodName)) ∈ lw_all := lw_g (lw_at lw_m5 226 rfl) rfl
theorem q1354 : (Jvm.Cond.code ({ cls := "TurnedBoards", name := "isHand", desc := "(I)Z" } : Jvm.MethodName) prog_1_method_19_code (1 : Nat) (Option.some Jvm.ClassFile.FieldType.boolean)) ∈ lw_all := lw_g (lw_at lw_m5 227 rfl) rfl
theorem q1355 : (Jvm.Cond.methodLink "TurnedBoards" (149 : Nat) ({ cls := "TurnedBoards", name := "is", desc := "(III)Z" } : Jvm.MethodName)) ∈ lw_all := lw_g (lw_at lw_m5 228 rfl) rfl
theorem q1356 : (Jvm.Cond.methodLink "TurnedBoards" (207 : Nat) ({ cls := "TurnedBoards", name := "letterOf", desc := "(II)LTurnedBoards$Letter;" } : Jvm.MethodName)) ∈ lw_all := lw_g (lw_at lw_m5 229 rfl) rfl
theorem q1357 : (Jvm.Cond.privateMethod ({ cls := "TurnedBoards", name := "letterOf", desc := "(II)LTurnedBoards$Letter;" } : Jvm.MethodName)) ∈ lw_tbl := lw_at lw_m5 230 rfl
theorem q1358 : (Jvm.Cond.instanceMethod ({ cls := "TurnedBoards", name := "letterOf", desc := "(II)LTurnedBoards$Letter;" } : Jvm.MethodName)) ∈ lw_all := lw_g (lw_at lw_m5 231 rfl) rfl
theorem q1359 : (Jvm.Cond.code ({ cls := "TurnedBoards", name := "letterOf", desc := "(II)LTurnedBoards$Letter;" } : Jvm.MethodName) prog_1_method_22_code (3 : Nat) (Option.some (Jvm.ClassFile.FieldType.object "TurnedBoards$Letter"))) ∈ lw_all := lw_g (lw_at lw_m5 232 rfl) rfl
theorem q1360 : (Jvm.Cond.classLink "TurnedBoards" (166 : Nat) "TurnedBoards$Letter") ∈ lw_all := lw_g (lw_at lw_m5 233 rfl) rfl
theorem q1361 : (Jvm.Cond.methodLink "TurnedBoards" (195 : Nat) ({ cls := "TurnedBoards$Letter", name := "ink", desc := "()I" } : Jvm.MethodName)) ∈ lw_all := lw_g (lw_at lw_m5 234 rfl) rfl
theorem q1367 : (Jvm.Cond.instanceMethod ({ cls := "TurnedBoards", name := "word", desc := "(II)I" } : Jvm.MethodName)) ∈ lw_all := lw_g (lw_at lw_m6 0 rfl) rfl
theorem q1368 : (Jvm.Cond.selects "TurnedBoards" ({ cls := "TurnedBoards", name := "word", desc := "(II)I" } : Jvm.MethodName) ({ cls := "TurnedBoards", name := "word", desc := "(II)I" } : Jvm.MethodName)) ∈ lw_all := lw_g (lw_at lw_m6 1 rfl) rfl
theorem q1369 : (Jvm.Cond.code ({ cls := "TurnedBoards", name := "word", desc := "(II)I" } : Jvm.MethodName) prog_1_method_30_code (3 : Nat) (Option.some Jvm.ClassFile.FieldType.int)) ∈ lw_all := lw_g (lw_at lw_m6 2 rfl) rfl
theorem q1370 : (Jvm.Cond.methodLink "TurnedBoards" (168 : Nat) ({ cls := "TurnedBoards", name := "isWord", desc := "(I)Z" } : Jvm.MethodName)) ∈ lw_all := lw_g (lw_at lw_m6 3 rfl) rfl
theorem q1371 : (Jvm.Cond.privateMethod ({ cls := "TurnedBoards", name := "isWord", desc := "(I)Z" } : Jvm.MethodName)) ∈ lw_tbl := lw_at lw_m6 4 rfl
theorem q1372 : (Jvm.Cond.instanceMethod ({ cls := "TurnedBoards", name := "isWord", desc := "(I)Z" } : Jvm.MethodName)) ∈ lw_all := lw_g (lw_at lw_m6 5 rfl) rfl
theorem q1373 : (Jvm.Cond.code ({ cls := "TurnedBoards", name := "isWord", desc := "(I)Z" } : Jvm.MethodName) prog_1_method_17_code (2 : Nat) (Option.some Jvm.ClassFile.FieldType.boolean)) ∈ lw_all := lw_g (lw_at lw_m6 6 rfl) rfl
theorem q1374 : (Jvm.Cond.classLink "TurnedBoards" (171 : Nat) "TurnedBoards$Word") ∈ lw_all := lw_g (lw_at lw_m6 7 rfl) rfl
theorem q1375 : (Jvm.Cond.methodLink "TurnedBoards" (231 : Nat) ({ cls := "TurnedBoards$Word", name := "at", desc := "(I)I" } : Jvm.MethodName)) ∈ lw_all := lw_g (lw_at lw_m6 8 rfl) rfl
theorem q1377 : (Jvm.Cond.instanceMethod ({ cls := "TurnedBoards", name := "board", desc := "(II)I" } : Jvm.MethodName)) ∈ lw_all := lw_g (lw_at lw_m6 10 rfl) rfl
theorem q1378 : (Jvm.Cond.selects "TurnedBoards" ({ cls := "TurnedBoards", name := "board", desc := "(II)I" } : Jvm.MethodName) ({ cls := "TurnedBoards", name := "board", desc := "(II)I" } : Jvm.MethodName)) ∈ lw_all := lw_g (lw_at lw_m6 11 rfl) rfl
theorem q1379 : (Jvm.Cond.code ({ cls := "TurnedBoards", name := "board", desc := "(II)I" } : Jvm.MethodName) prog_1_method_31_code (3 : Nat) (Option.some Jvm.ClassFile.FieldType.int)) ∈ lw_all := lw_g (lw_at lw_m6 12 rfl) rfl
theorem q1380 : (Jvm.Cond.methodLink "TurnedBoards" (233 : Nat) ({ cls := "TurnedBoards", name := "isBoard", desc := "(I)Z" } : Jvm.MethodName)) ∈ lw_all := lw_g (lw_at lw_m6 13 rfl) rfl
theorem q1381 : (Jvm.Cond.privateMethod ({ cls := "TurnedBoards", name := "isBoard", desc := "(I)Z" } : Jvm.MethodName)) ∈ lw_tbl := lw_at lw_m6 14 rfl
theorem q1382 : (Jvm.Cond.instanceMethod ({ cls := "TurnedBoards", name := "isBoard", desc := "(I)Z" } : Jvm.MethodName)) ∈ lw_all := lw_g (lw_at lw_m6 15 rfl) rfl
theorem q1383 : (Jvm.Cond.code ({ cls := "TurnedBoards", name := "isBoard", desc := "(I)Z" } : Jvm.MethodName) prog_1_method_18_code (2 : Nat) (Option.some Jvm.ClassFile.FieldType.boolean)) ∈ lw_all := lw_g (lw_at lw_m6 16 rfl) rfl
theorem q1384 : (Jvm.Cond.methodLink "TurnedBoards" (242 : Nat) ({ cls := "TurnedBoards$State", name := "places", desc := "(I)I" } : Jvm.MethodName)) ∈ lw_all := lw_g (lw_at lw_m6 17 rfl) rfl
theorem q1386 : (Jvm.Cond.instanceMethod ({ cls := "TurnedBoards", name := "glyph", desc := "(II)I" } : Jvm.MethodName)) ∈ lw_all := lw_g (lw_at lw_m6 19 rfl) rfl
theorem q1387 : (Jvm.Cond.selects "TurnedBoards" ({ cls := "TurnedBoards", name := "glyph", desc := "(II)I" } : Jvm.MethodName) ({ cls := "TurnedBoards", name := "glyph", desc := "(II)I" } : Jvm.MethodName)) ∈ lw_all := lw_g (lw_at lw_m6 20 rfl) rfl
theorem q1388 : (Jvm.Cond.code ({ cls := "TurnedBoards", name := "glyph", desc := "(II)I" } : Jvm.MethodName) prog_1_method_33_code (3 : Nat) (Option.some Jvm.ClassFile.FieldType.int)) ∈ lw_all := lw_g (lw_at lw_m6 21 rfl) rfl
theorem q1389 : (Jvm.Cond.methodLink "TurnedBoards" (245 : Nat) ({ cls := "TurnedBoards", name := "isPlace", desc := "(II)Z" } : Jvm.MethodName)) ∈ lw_all := lw_g (lw_at lw_m6 22 rfl) rfl
theorem q1390 : (Jvm.Cond.privateMethod ({ cls := "TurnedBoards", name := "isPlace", desc := "(II)Z" } : Jvm.MethodName)) ∈ lw_tbl := lw_at lw_m6 23 rfl
theorem q1391 : (Jvm.Cond.instanceMethod ({ cls := "TurnedBoards", name := "isPlace", desc := "(II)Z" } : Jvm.MethodName)) ∈ lw_all := lw_g (lw_at lw_m6 24 rfl) rfl
theorem q1392 : (Jvm.Cond.code ({ cls := "TurnedBoards", name := "isPlace", desc := "(II)Z" } : Jvm.MethodName) prog_1_method_32_code (3 : Nat) (Option.some Jvm.ClassFile.FieldType.boolean)) ∈ lw_all := lw_g (lw_at lw_m6 25 rfl) rfl
theorem q1394 : (Jvm.Cond.instanceMethod ({ cls := "TurnedBoards", name := "kept", desc := "(II)I" } : Jvm.MethodName)) ∈ lw_all := lw_g (lw_at lw_m6 27 rfl) rfl
theorem q1395 : (Jvm.Cond.selects "TurnedBoards" ({ cls := "TurnedBoards", name := "kept", desc := "(II)I" } : Jvm.MethodName) ({ cls := "TurnedBoards", name := "kept", desc := "(II)I" } : Jvm.MethodName)) ∈ lw_all := lw_g (lw_at lw_m6 28 rfl) rfl
theorem q1396 : (Jvm.Cond.code ({ cls := "TurnedBoards", name := "kept", desc := "(II)I" } : Jvm.MethodName) prog_1_method_34_code (3 : Nat) (Option.some Jvm.ClassFile.FieldType.int)) ∈ lw_all := lw_g (lw_at lw_m6 29 rfl) rfl
theorem q1398 : (Jvm.Cond.instanceMethod ({ cls := "TurnedBoards", name := "seen", desc := "(II)I" } : Jvm.MethodName)) ∈ lw_all := lw_g (lw_at lw_m6 31 rfl) rfl
theorem q1399 : (Jvm.Cond.selects "TurnedBoards" ({ cls := "TurnedBoards", name := "seen", desc := "(II)I" } : Jvm.MethodName) ({ cls := "TurnedBoards", name := "seen", desc := "(II)I" } : Jvm.MethodName)) ∈ lw_all := lw_g (lw_at lw_m6 32 rfl) rfl
theorem q1400 : (Jvm.Cond.code ({ cls := "TurnedBoards", name := "seen", desc := "(II)I" } : Jvm.MethodName) prog_1_method_36_code (3 : Nat) (Option.some Jvm.ClassFile.FieldType.int)) ∈ lw_all := lw_g (lw_at lw_m6 33 rfl) rfl
theorem q1401 : (Jvm.Cond.methodLink "TurnedBoards" (254 : Nat) ({ cls := "TurnedBoards", name := "isSeen", desc := "(II)Z" } : Jvm.MethodName)) ∈ lw_all := lw_g (lw_at lw_m6 34 rfl) rfl
theorem q1402 : (Jvm.Cond.static ({ cls := "TurnedBoards", name := "isSeen", desc := "(II)Z" } : Jvm.MethodName)) ∈ lw_all := lw_g (lw_at lw_m6 35 rfl) rfl
theorem q1403 : (Jvm.Cond.code ({ cls := "TurnedBoards", name := "isSeen", desc := "(II)Z" } : Jvm.MethodName) prog_1_method_35_code (2 : Nat) (Option.some Jvm.ClassFile.FieldType.boolean)) ∈ lw_all := lw_g (lw_at lw_m6 36 rfl) rfl
theorem q1404 : (Jvm.Cond.methodLink "TurnedBoards" (257 : Nat) ({ cls := "TurnedBoards", name := "turned", desc := "(II)I" } : Jvm.MethodName)) ∈ lw_all := lw_g (lw_at lw_m6 37 rfl) rfl
theorem q1405 : (Jvm.Cond.static ({ cls := "TurnedBoards", name := "turned", desc := "(II)I" } : Jvm.MethodName)) ∈ lw_all := lw_g (lw_at lw_m6 38 rfl) rfl
theorem q1406 : (Jvm.Cond.code ({ cls := "TurnedBoards", name := "turned", desc := "(II)I" } : Jvm.MethodName) prog_1_method_24_code (7 : Nat) (Option.some Jvm.ClassFile.FieldType.int)) ∈ lw_all := lw_g (lw_at lw_m6 39 rfl) rfl
theorem q1408 : (Jvm.Cond.instanceMethod ({ cls := "TurnedBoards", name := "doubt", desc := "(III)J" } : Jvm.MethodName)) ∈ lw_all := lw_g (lw_at lw_m6 41 rfl) rfl
theorem q1409 : (Jvm.Cond.selects "TurnedBoards" ({ cls := "TurnedBoards", name := "doubt", desc := "(III)J" } : Jvm.MethodName) ({ cls := "TurnedBoards", name := "doubt", desc := "(III)J" } : Jvm.MethodName)) ∈ lw_all := lw_g (lw_at lw_m6 42 rfl) rfl
theorem q1410 : (Jvm.Cond.code ({ cls := "TurnedBoards", name := "doubt", desc := "(III)J" } : Jvm.MethodName) prog_1_method_37_code (4 : Nat) (Option.some Jvm.ClassFile.FieldType.long)) ∈ lw_all := lw_g (lw_at lw_m6 43 rfl) rfl
theorem q1411 : (Jvm.Cond.methodLink "TurnedBoards" (211 : Nat) ({ cls := "TurnedBoards", name := "doubtOf", desc := "(LTurnedBoards$Letter;I)J" } : Jvm.MethodName)) ∈ lw_all := lw_g (lw_at lw_m6 44 rfl) rfl
theorem q1412 : (Jvm.Cond.privateMethod ({ cls := "TurnedBoards", name := "doubtOf", desc := "(LTurnedBoards$Letter;I)J" } : Jvm.MethodName)) ∈ lw_tbl := lw_at lw_m6 45 rfl
theorem q1413 : (Jvm.Cond.instanceMethod ({ cls := "TurnedBoards", name := "doubtOf", desc := "(LTurnedBoards$Letter;I)J" } : Jvm.MethodName)) ∈ lw_all := lw_g (lw_at lw_m6 46 rfl) rfl
theorem q1414 : (Jvm.Cond.code ({ cls := "TurnedBoards", name := "doubtOf", desc := "(LTurnedBoards$Letter;I)J" } : Jvm.MethodName) prog_1_method_25_code (5 : Nat) (Option.some Jvm.ClassFile.FieldType.long)) ∈ lw_all := lw_g (lw_at lw_m6 47 rfl) rfl
theorem q1415 : (Jvm.Cond.methodLink "TurnedBoards" (180 : Nat) ({ cls := "java/lang/Integer", name := "bitCount", desc := "(I)I" } : Jvm.MethodName)) ∈ lw_all := lw_g (lw_at lw_m6 48 rfl) rfl
theorem q1416 : (Jvm.Cond.constantLong "TurnedBoards" (189 : Nat) (2 : Int64)) ∈ lw_all := lw_g (lw_at lw_m6 49 rfl) rfl
theorem q1417 : (Jvm.Cond.methodLink "TurnedBoards" (198 : Nat) ({ cls := "TurnedBoards$Value", name := "at", desc := "(LTurnedBoards$Moment;)J" } : Jvm.MethodName)) ∈ lw_all := lw_g (lw_at lw_m6 50 rfl) rfl
theorem q1424 : (Jvm.Cond.static ({ cls := "TurnedBoards", name := "held", desc := "(J)J" } : Jvm.MethodName)) ∈ lw_all := lw_g (lw_at lw_m6 57 rfl) rfl
theorem q1425 : (Jvm.Cond.code ({ cls := "TurnedBoards", name := "held", desc := "(J)J" } : Jvm.MethodName) prog_1_method_3_code (2 : Nat) (Option.some Jvm.ClassFile.FieldType.long)) ∈ lw_all := lw_g (lw_at lw_m6 58 rfl) rfl
theorem q1426 : (Jvm.Cond.constantLong "TurnedBoards" (3 : Nat) (-1000000 : Int64)) ∈ lw_all := lw_g (lw_at lw_m6 59 rfl) rfl
theorem q1427 : (Jvm.Cond.constantLong "TurnedBoards" (5 : Nat) (1000000 : Int64)) ∈ lw_all := lw_g (lw_at lw_m6 60 rfl) rfl
theorem q1428 : (Jvm.Cond.methodLink "TurnedBoards" (7 : Nat) ({ cls := "java/lang/Math", name := "min", desc := "(JJ)J" } : Jvm.MethodName)) ∈ lw_all := lw_g (lw_at lw_m6 61 rfl) rfl
theorem q1431 : (Jvm.Cond.methodLink "TurnedBoards" (13 : Nat) ({ cls := "java/lang/Math", name := "max", desc := "(JJ)J" } : Jvm.MethodName)) ∈ lw_all := lw_g (lw_at lw_m6 64 rfl) rfl
theorem q1450 : (Jvm.Cond.privateMethod ({ cls := "TurnedBoards", name := "looked", desc := "(IJ)J" } : Jvm.MethodName)) ∈ lw_tbl := lw_at lw_m6 83 rfl
theorem q1451 : (Jvm.Cond.instanceMethod ({ cls := "TurnedBoards", name := "looked", desc := "(IJ)J" } : Jvm.MethodName)) ∈ lw_all := lw_g (lw_at lw_m6 84 rfl) rfl
theorem q1452 : (Jvm.Cond.code ({ cls := "TurnedBoards", name := "looked", desc := "(IJ)J" } : Jvm.MethodName) prog_1_method_58_code (4 : Nat) (Option.some Jvm.ClassFile.FieldType.long)) ∈ lw_all := lw_g (lw_at lw_m6 85 rfl) rfl
theorem q1453 : (Jvm.Cond.methodLink "TurnedBoards" (287 : Nat) ({ cls := "TurnedBoards$Line", name := "by", desc := "(III)LTurnedBoards$Line;" } : Jvm.MethodName)) ∈ lw_all := lw_g (lw_at lw_m6 86 rfl) rfl
theorem q1493 : (Jvm.Cond.privateMethod ({ cls := "TurnedBoards", name := "isForgiven", desc := "(J)Z" } : Jvm.MethodName)) ∈ lw_tbl := lw_at lw_m6 126 rfl
theorem q1494 : (Jvm.Cond.instanceMethod ({ cls := "TurnedBoards", name := "isForgiven", desc := "(J)Z" } : Jvm.MethodName)) ∈ lw_all := lw_g (lw_at lw_m6 127 rfl) rfl
theorem q1495 : (Jvm.Cond.code ({ cls := "TurnedBoards", name := "isForgiven", desc := "(J)Z" } : Jvm.MethodName) prog_1_method_26_code (3 : Nat) (Option.some Jvm.ClassFile.FieldType.boolean)) ∈ lw_all := lw_g (lw_at lw_m6 128 rfl) rfl
theorem q1502 : (Jvm.Cond.methodLink "TurnedBoards" (291 : Nat) ({ cls := "TurnedBoards$Line", name := "doubt", desc := "()I" } : Jvm.MethodName)) ∈ lw_all := lw_g (lw_at lw_m6 135 rfl) rfl
theorem q1506 : (Jvm.Cond.constantLong "TurnedBoards" (350 : Nat) (-1 : Int64)) ∈ lw_all := lw_g (lw_at lw_m6 139 rfl) rfl
theorem q1507 : (Jvm.Cond.methodLink "TurnedBoards" (284 : Nat) ({ cls := "TurnedBoards$Word", name := "size", desc := "()I" } : Jvm.MethodName)) ∈ lw_all := lw_g (lw_at lw_m6 140 rfl) rfl
theorem q1531 : (Jvm.Cond.constantLong "TurnedBoards" (261 : Nat) (-1000000000000000 : Int64)) ∈ lw_all := lw_g (lw_at lw_m6 164 rfl) rfl
theorem q1533 : (Jvm.Cond.instanceMethod ({ cls := "TurnedBoards", name := "reads", desc := "(III)I" } : Jvm.MethodName)) ∈ lw_all := lw_g (lw_at lw_m6 166 rfl) rfl
theorem q1534 : (Jvm.Cond.selects "TurnedBoards" ({ cls := "TurnedBoards", name := "reads", desc := "(III)I" } : Jvm.MethodName) ({ cls := "TurnedBoards", name := "reads", desc := "(III)I" } : Jvm.MethodName)) ∈ lw_all := lw_g (lw_at lw_m6 167 rfl) rfl
theorem q1535 : (Jvm.Cond.code ({ cls := "TurnedBoards", name := "reads", desc := "(III)I" } : Jvm.MethodName) prog_1_method_38_code (4 : Nat) (Option.some Jvm.ClassFile.FieldType.int)) ∈ lw_all := lw_g (lw_at lw_m6 168 rfl) rfl
theorem q1536 : (Jvm.Cond.methodLink "TurnedBoards" (263 : Nat) ({ cls := "TurnedBoards", name := "readAs", desc := "(II)I" } : Jvm.MethodName)) ∈ lw_all := lw_g (lw_at lw_m6 169 rfl) rfl
theorem q1537 : (Jvm.Cond.privateMethod ({ cls := "TurnedBoards", name := "readAs", desc := "(II)I" } : Jvm.MethodName)) ∈ lw_tbl := lw_at lw_m6 170 rfl
theorem q1538 : (Jvm.Cond.instanceMethod ({ cls := "TurnedBoards", name := "readAs", desc := "(II)I" } : Jvm.MethodName)) ∈ lw_all := lw_g (lw_at lw_m6 171 rfl) rfl
theorem q1539 : (Jvm.Cond.code ({ cls := "TurnedBoards", name := "readAs", desc := "(II)I" } : Jvm.MethodName) prog_1_method_27_code (9 : Nat) (Option.some Jvm.ClassFile.FieldType.int)) ∈ lw_all := lw_g (lw_at lw_m6 172 rfl) rfl
theorem q1541 : (Jvm.Cond.instanceMethod ({ cls := "TurnedBoards", name := "says", desc := "(IIII)I" } : Jvm.MethodName)) ∈ lw_all := lw_g (lw_at lw_m6 174 rfl) rfl
theorem q1542 : (Jvm.Cond.selects "TurnedBoards" ({ cls := "TurnedBoards", name := "says", desc := "(IIII)I" } : Jvm.MethodName) ({ cls := "TurnedBoards", name := "says", desc := "(IIII)I" } : Jvm.MethodName)) ∈ lw_all := lw_g (lw_at lw_m6 175 rfl) rfl
theorem q1543 : (Jvm.Cond.code ({ cls := "TurnedBoards", name := "says", desc := "(IIII)I" } : Jvm.MethodName) prog_1_method_40_code (5 : Nat) (Option.some Jvm.ClassFile.FieldType.int)) ∈ lw_all := lw_g (lw_at lw_m6 176 rfl) rfl
theorem q1544 : (Jvm.Cond.methodLink "TurnedBoards" (266 : Nat) ({ cls := "TurnedBoards", name := "isAhead", desc := "(III)Z" } : Jvm.MethodName)) ∈ lw_all := lw_g (lw_at lw_m6 177 rfl) rfl
theorem q1545 : (Jvm.Cond.privateMethod ({ cls := "TurnedBoards", name := "isAhead", desc := "(III)Z" } : Jvm.MethodName)) ∈ lw_tbl := lw_at lw_m6 178 rfl
theorem q1546 : (Jvm.Cond.instanceMethod ({ cls := "TurnedBoards", name := "isAhead", desc := "(III)Z" } : Jvm.MethodName)) ∈ lw_all := lw_g (lw_at lw_m6 179 rfl) rfl
theorem q1547 : (Jvm.Cond.code ({ cls := "TurnedBoards", name := "isAhead", desc := "(III)Z" } : Jvm.MethodName) prog_1_method_39_code (4 : Nat) (Option.some Jvm.ClassFile.FieldType.boolean)) ∈ lw_all := lw_g (lw_at lw_m6 180 rfl) rfl
theorem q1548 : (Jvm.Cond.methodLink "TurnedBoards" (269 : Nat) ({ cls := "TurnedBoards$State", name := "copy", desc := "(LTurnedBoards$State;)LTurnedBoards$State;" } : Jvm.MethodName)) ∈ lw_all := lw_g (lw_at lw_m6 181 rfl) rfl
theorem q1552 : (Jvm.Cond.methodLink "TurnedBoards" (273 : Nat) ({ cls := "TurnedBoards$State", name := "years", desc := "(I)LTurnedBoards$State;" } : Jvm.MethodName)) ∈ lw_all := lw_g (lw_at lw_m6 185 rfl) rfl
theorem q1571 : (Jvm.Cond.privateMethod ({ cls := "TurnedBoards", name := "draw", desc := "(I)I" } : Jvm.MethodName)) ∈ lw_tbl := lw_at lw_m6 204 rfl
theorem q1572 : (Jvm.Cond.instanceMethod ({ cls := "TurnedBoards", name := "draw", desc := "(I)I" } : Jvm.MethodName)) ∈ lw_all := lw_g (lw_at lw_m6 205 rfl) rfl
theorem q1573 : (Jvm.Cond.code ({ cls := "TurnedBoards", name := "draw", desc := "(I)I" } : Jvm.MethodName) prog_1_method_53_code (2 : Nat) (Option.some Jvm.ClassFile.FieldType.int)) ∈ lw_all := lw_g (lw_at lw_m6 206 rfl) rfl
theorem q1574 : (Jvm.Cond.constantLong "TurnedBoards" (322 : Nat) (1103515245 : Int64)) ∈ lw_all := lw_g (lw_at lw_m6 207 rfl) rfl
theorem q1575 : (Jvm.Cond.constantLong "TurnedBoards" (324 : Nat) (12345 : Int64)) ∈ lw_all := lw_g (lw_at lw_m6 208 rfl) rfl
theorem q1576 : (Jvm.Cond.constantLong "TurnedBoards" (326 : Nat) (2147483648 : Int64)) ∈ lw_all := lw_g (lw_at lw_m6 209 rfl) rfl
theorem q1577 : (Jvm.Cond.constantLong "TurnedBoards" (328 : Nat) (64 : Int64)) ∈ lw_all := lw_g (lw_at lw_m6 210 rfl) rfl
theorem q1614 : (Jvm.Cond.methodLink "TurnedBoards" (277 : Nat) ({ cls := "TurnedBoards$State", name := "says", desc := "(III)I" } : Jvm.MethodName)) ∈ lw_all := lw_g (lw_at lw_m7 7 rfl) rfl
theorem q1616 : (Jvm.Cond.instanceMethod ({ cls := "TurnedBoards", name := "becomes", desc := "(III)I" } : Jvm.MethodName)) ∈ lw_all := lw_g (lw_at lw_m7 9 rfl) rfl
theorem q1617 : (Jvm.Cond.selects "TurnedBoards" ({ cls := "TurnedBoards", name := "becomes", desc := "(III)I" } : Jvm.MethodName) ({ cls := "TurnedBoards", name := "becomes", desc := "(III)I" } : Jvm.MethodName)) ∈ lw_all := lw_g (lw_at lw_m7 10 rfl) rfl
theorem q1618 : (Jvm.Cond.code ({ cls := "TurnedBoards", name := "becomes", desc := "(III)I" } : Jvm.MethodName) prog_1_method_41_code (8 : Nat) (Option.some Jvm.ClassFile.FieldType.int)) ∈ lw_all := lw_g (lw_at lw_m7 11 rfl) rfl
theorem q1619 : (Jvm.Cond.methodLink "TurnedBoards" (281 : Nat) ({ cls := "TurnedBoards", name := "canPaint", desc := "(II)Z" } : Jvm.MethodName)) ∈ lw_all := lw_g (lw_at lw_m7 12 rfl) rfl
theorem q1620 : (Jvm.Cond.privateMethod ({ cls := "TurnedBoards", name := "canPaint", desc := "(II)Z" } : Jvm.MethodName)) ∈ lw_tbl := lw_at lw_m7 13 rfl
theorem q1621 : (Jvm.Cond.instanceMethod ({ cls := "TurnedBoards", name := "canPaint", desc := "(II)Z" } : Jvm.MethodName)) ∈ lw_all := lw_g (lw_at lw_m7 14 rfl) rfl
theorem q1622 : (Jvm.Cond.code ({ cls := "TurnedBoards", name := "canPaint", desc := "(II)Z" } : Jvm.MethodName) prog_1_method_23_code (3 : Nat) (Option.some Jvm.ClassFile.FieldType.boolean)) ∈ lw_all := lw_g (lw_at lw_m7 15 rfl) rfl
theorem q1623 : (Jvm.Cond.methodLink "TurnedBoards" (173 : Nat) ({ cls := "TurnedBoards$Shop", name := "isIn", desc := "(ILTurnedBoards$Word;)Z" } : Jvm.MethodName)) ∈ lw_all := lw_g (lw_at lw_m7 16 rfl) rfl
theorem q1624 : (Jvm.Cond.methodLink "TurnedBoards" (285 : Nat) ({ cls := "TurnedBoards$Shop", name := "glyph", desc := "(III)I" } : Jvm.MethodName)) ∈ lw_all := lw_g (lw_at lw_m7 17 rfl) rfl
theorem q1626 : (Jvm.Cond.instanceMethod ({ cls := "TurnedBoards", name := "line", desc := "(IIII)I" } : Jvm.MethodName)) ∈ lw_all := lw_g (lw_at lw_m7 19 rfl) rfl
theorem q1627 : (Jvm.Cond.selects "TurnedBoards" ({ cls := "TurnedBoards", name := "line", desc := "(IIII)I" } : Jvm.MethodName) ({ cls := "TurnedBoards", name := "line", desc := "(IIII)I" } : Jvm.MethodName)) ∈ lw_all := lw_g (lw_at lw_m7 20 rfl) rfl
theorem q1628 : (Jvm.Cond.code ({ cls := "TurnedBoards", name := "line", desc := "(IIII)I" } : Jvm.MethodName) prog_1_method_42_code (5 : Nat) (Option.some Jvm.ClassFile.FieldType.int)) ∈ lw_all := lw_g (lw_at lw_m7 21 rfl) rfl
theorem q1629 : (Jvm.Cond.methodLink "TurnedBoards" (293 : Nat) ({ cls := "TurnedBoards$Line", name := "strokes", desc := "()I" } : Jvm.MethodName)) ∈ lw_all := lw_g (lw_at lw_m7 22 rfl) rfl
theorem q1633 : (Jvm.Cond.methodLink "TurnedBoards" (295 : Nat) ({ cls := "TurnedBoards$Line", name := "laid", desc := "()LTurnedBoards$Line;" } : Jvm.MethodName)) ∈ lw_all := lw_g (lw_at lw_m7 26 rfl) rfl
theorem q1646 : (Jvm.Cond.instanceMethod ({ cls := "TurnedBoards", name := "piece", desc := "(IIIII)I" } : Jvm.MethodName)) ∈ lw_all := lw_g (lw_at lw_m7 39 rfl) rfl
theorem q1647 : (Jvm.Cond.selects "TurnedBoards" ({ cls := "TurnedBoards", name := "piece", desc := "(IIIII)I" } : Jvm.MethodName) ({ cls := "TurnedBoards", name := "piece", desc := "(IIIII)I" } : Jvm.MethodName)) ∈ lw_all := lw_g (lw_at lw_m7 40 rfl) rfl
theorem q1648 : (Jvm.Cond.code ({ cls := "TurnedBoards", name := "piece", desc := "(IIIII)I" } : Jvm.MethodName) prog_1_method_43_code (6 : Nat) (Option.some Jvm.ClassFile.FieldType.int)) ∈ lw_all := lw_g (lw_at lw_m7 41 rfl) rfl
theorem q1650 : (Jvm.Cond.instanceMethod ({ cls := "TurnedBoards", name := "best", desc := "(I)I" } : Jvm.MethodName)) ∈ lw_all := lw_g (lw_at lw_m7 43 rfl) rfl
theorem q1651 : (Jvm.Cond.selects "TurnedBoards" ({ cls := "TurnedBoards", name := "best", desc := "(I)I" } : Jvm.MethodName) ({ cls := "TurnedBoards", name := "best", desc := "(I)I" } : Jvm.MethodName)) ∈ lw_all := lw_g (lw_at lw_m7 44 rfl) rfl
theorem q1652 : (Jvm.Cond.code ({ cls := "TurnedBoards", name := "best", desc := "(I)I" } : Jvm.MethodName) prog_1_method_44_code (6 : Nat) (Option.some Jvm.ClassFile.FieldType.int)) ∈ lw_all := lw_g (lw_at lw_m7 45 rfl) rfl
theorem q1653 : (Jvm.Cond.constant "TurnedBoards" (307 : Nat) (100000000 : Int32)) ∈ lw_all := lw_g (lw_at lw_m7 46 rfl) rfl
theorem q1655 : (Jvm.Cond.instanceMethod ({ cls := "TurnedBoards", name := "hand", desc := "(II)I" } : Jvm.MethodName)) ∈ lw_all := lw_g (lw_at lw_m7 48 rfl) rfl
theorem q1656 : (Jvm.Cond.selects "TurnedBoards" ({ cls := "TurnedBoards", name := "hand", desc := "(II)I" } : Jvm.MethodName) ({ cls := "TurnedBoards", name := "hand", desc := "(II)I" } : Jvm.MethodName)) ∈ lw_all := lw_g (lw_at lw_m7 49 rfl) rfl
theorem q1657 : (Jvm.Cond.code ({ cls := "TurnedBoards", name := "hand", desc := "(II)I" } : Jvm.MethodName) prog_1_method_45_code (4 : Nat) (Option.some Jvm.ClassFile.FieldType.int)) ∈ lw_all := lw_g (lw_at lw_m7 50 rfl) rfl
theorem q1659 : (Jvm.Cond.instanceMethod ({ cls := "TurnedBoards", name := "been", desc := "(I)I" } : Jvm.MethodName)) ∈ lw_all := lw_g (lw_at lw_m7 52 rfl) rfl
theorem q1660 : (Jvm.Cond.selects "TurnedBoards" ({ cls := "TurnedBoards", name := "been", desc := "(I)I" } : Jvm.MethodName) ({ cls := "TurnedBoards", name := "been", desc := "(I)I" } : Jvm.MethodName)) ∈ lw_all := lw_g (lw_at lw_m7 53 rfl) rfl
theorem q1661 : (Jvm.Cond.code ({ cls := "TurnedBoards", name := "been", desc := "(I)I" } : Jvm.MethodName) prog_1_method_47_code (4 : Nat) (Option.some Jvm.ClassFile.FieldType.int)) ∈ lw_all := lw_g (lw_at lw_m7 54 rfl) rfl
theorem q1662 : (Jvm.Cond.methodLink "TurnedBoards" (308 : Nat) ({ cls := "TurnedBoards", name := "canHaveBeen", desc := "(II)Z" } : Jvm.MethodName)) ∈ lw_all := lw_g (lw_at lw_m7 55 rfl) rfl
theorem q1663 : (Jvm.Cond.privateMethod ({ cls := "TurnedBoards", name := "canHaveBeen", desc := "(II)Z" } : Jvm.MethodName)) ∈ lw_tbl := lw_at lw_m7 56 rfl
theorem q1664 : (Jvm.Cond.instanceMethod ({ cls := "TurnedBoards", name := "canHaveBeen", desc := "(II)Z" } : Jvm.MethodName)) ∈ lw_all := lw_g (lw_at lw_m7 57 rfl) rfl
theorem q1665 : (Jvm.Cond.code ({ cls := "TurnedBoards", name := "canHaveBeen", desc := "(II)Z" } : Jvm.MethodName) prog_1_method_46_code (4 : Nat) (Option.some Jvm.ClassFile.FieldType.boolean)) ∈ lw_all := lw_g (lw_at lw_m7 58 rfl) rfl
theorem q1667 : (Jvm.Cond.instanceMethod ({ cls := "TurnedBoards", name := "lasts", desc := "(I)I" } : Jvm.MethodName)) ∈ lw_all := lw_g (lw_at lw_m7 60 rfl) rfl
theorem q1668 : (Jvm.Cond.selects "TurnedBoards" ({ cls := "TurnedBoards", name := "lasts", desc := "(I)I" } : Jvm.MethodName) ({ cls := "TurnedBoards", name := "lasts", desc := "(I)I" } : Jvm.MethodName)) ∈ lw_all := lw_g (lw_at lw_m7 61 rfl) rfl
theorem q1669 : (Jvm.Cond.code ({ cls := "TurnedBoards", name := "lasts", desc := "(I)I" } : Jvm.MethodName) prog_1_method_48_code (3 : Nat) (Option.some Jvm.ClassFile.FieldType.int)) ∈ lw_all := lw_g (lw_at lw_m7 62 rfl) rfl
theorem q1670 : (Jvm.Cond.methodLink "TurnedBoards" (311 : Nat) ({ cls := "TurnedBoards$State", name := "isAsPainted", desc := "(I)Z" } : Jvm.MethodName)) ∈ lw_all := lw_g (lw_at lw_m7 63 rfl) rfl
theorem q1676 : (Jvm.Cond.instanceMethod ({ cls := "TurnedBoards", name := "mend", desc := "(III)I" } : Jvm.MethodName)) ∈ lw_all := lw_g (lw_at lw_m7 69 rfl) rfl
theorem q1677 : (Jvm.Cond.selects "TurnedBoards" ({ cls := "TurnedBoards", name := "mend", desc := "(III)I" } : Jvm.MethodName) ({ cls := "TurnedBoards", name := "mend", desc := "(III)I" } : Jvm.MethodName)) ∈ lw_all := lw_g (lw_at lw_m7 70 rfl) rfl
theorem q1678 : (Jvm.Cond.code ({ cls := "TurnedBoards", name := "mend", desc := "(III)I" } : Jvm.MethodName) prog_1_method_49_code (8 : Nat) (Option.some Jvm.ClassFile.FieldType.int)) ∈ lw_all := lw_g (lw_at lw_m7 71 rfl) rfl
theorem q1679 : (Jvm.Cond.methodLink "TurnedBoards" (314 : Nat) ({ cls := "TurnedBoards", name := "has", desc := "(II)Z" } : Jvm.MethodName)) ∈ lw_all := lw_g (lw_at lw_m7 72 rfl) rfl
theorem q1681 : (Jvm.Cond.instanceMethod ({ cls := "TurnedBoards", name := "undo", desc := "()Z" } : Jvm.MethodName)) ∈ lw_all := lw_g (lw_at lw_m7 74 rfl) rfl
theorem q1682 : (Jvm.Cond.selects "TurnedBoards" ({ cls := "TurnedBoards", name := "undo", desc := "()Z" } : Jvm.MethodName) ({ cls := "TurnedBoards", name := "undo", desc := "()Z" } : Jvm.MethodName)) ∈ lw_all := lw_g (lw_at lw_m7 75 rfl) rfl
theorem q1683 : (Jvm.Cond.code ({ cls := "TurnedBoards", name := "undo", desc := "()Z" } : Jvm.MethodName) prog_1_method_51_code (1 : Nat) (Option.some Jvm.ClassFile.FieldType.boolean)) ∈ lw_all := lw_g (lw_at lw_m7 76 rfl) rfl
theorem q1685 : (Jvm.Cond.instanceMethod ({ cls := "TurnedBoards", name := "years", desc := "(I)I" } : Jvm.MethodName)) ∈ lw_all := lw_g (lw_at lw_m7 78 rfl) rfl
theorem q1686 : (Jvm.Cond.selects "TurnedBoards" ({ cls := "TurnedBoards", name := "years", desc := "(I)I" } : Jvm.MethodName) ({ cls := "TurnedBoards", name := "years", desc := "(I)I" } : Jvm.MethodName)) ∈ lw_all := lw_g (lw_at lw_m7 79 rfl) rfl
theorem q1687 : (Jvm.Cond.code ({ cls := "TurnedBoards", name := "years", desc := "(I)I" } : Jvm.MethodName) prog_1_method_52_code (2 : Nat) (Option.some Jvm.ClassFile.FieldType.int)) ∈ lw_all := lw_g (lw_at lw_m7 80 rfl) rfl
theorem q1688 : (Jvm.Cond.methodLink "TurnedBoards" (317 : Nat) ({ cls := "TurnedBoards", name := "keeps", desc := "()V" } : Jvm.MethodName)) ∈ lw_all := lw_g (lw_at lw_m7 81 rfl) rfl
theorem q1689 : (Jvm.Cond.privateMethod ({ cls := "TurnedBoards", name := "keeps", desc := "()V" } : Jvm.MethodName)) ∈ lw_tbl := lw_at lw_m7 82 rfl
theorem q1690 : (Jvm.Cond.instanceMethod ({ cls := "TurnedBoards", name := "keeps", desc := "()V" } : Jvm.MethodName)) ∈ lw_all := lw_g (lw_at lw_m7 83 rfl) rfl
theorem q1691 : (Jvm.Cond.code ({ cls := "TurnedBoards", name := "keeps", desc := "()V" } : Jvm.MethodName) prog_1_method_50_code (3 : Nat) (Option.none : Option Jvm.ClassFile.FieldType)) ∈ lw_all := lw_g (lw_at lw_m7 84 rfl) rfl
theorem q1693 : (Jvm.Cond.instanceMethod ({ cls := "TurnedBoards", name := "chance", desc := "(I)I" } : Jvm.MethodName)) ∈ lw_all := lw_g (lw_at lw_m7 86 rfl) rfl
theorem q1694 : (Jvm.Cond.selects "TurnedBoards" ({ cls := "TurnedBoards", name := "chance", desc := "(I)I" } : Jvm.MethodName) ({ cls := "TurnedBoards", name := "chance", desc := "(I)I" } : Jvm.MethodName)) ∈ lw_all := lw_g (lw_at lw_m7 87 rfl) rfl
theorem q1695 : (Jvm.Cond.code ({ cls := "TurnedBoards", name := "chance", desc := "(I)I" } : Jvm.MethodName) prog_1_method_54_code (3 : Nat) (Option.some Jvm.ClassFile.FieldType.int)) ∈ lw_all := lw_g (lw_at lw_m7 88 rfl) rfl
theorem q1696 : (Jvm.Cond.methodLink "TurnedBoards" (333 : Nat) ({ cls := "TurnedBoards", name := "draw", desc := "(I)I" } : Jvm.MethodName)) ∈ lw_all := lw_g (lw_at lw_m7 89 rfl) rfl
theorem q1697 : (Jvm.Cond.methodLink "TurnedBoards" (339 : Nat) ({ cls := "TurnedBoards$State", name := "passes", desc := "(Z)V" } : Jvm.MethodName)) ∈ lw_all := lw_g (lw_at lw_m7 90 rfl) rfl
theorem q1699 : (Jvm.Cond.instanceMethod ({ cls := "TurnedBoards", name := "stroke", desc := "(IIII)Z" } : Jvm.MethodName)) ∈ lw_all := lw_g (lw_at lw_m7 92 rfl) rfl
theorem q1700 : (Jvm.Cond.selects "TurnedBoards" ({ cls := "TurnedBoards", name := "stroke", desc := "(IIII)Z" } : Jvm.MethodName) ({ cls := "TurnedBoards", name := "stroke", desc := "(IIII)Z" } : Jvm.MethodName)) ∈ lw_all := lw_g (lw_at lw_m7 93 rfl) rfl
theorem q1701 : (Jvm.Cond.code ({ cls := "TurnedBoards", name := "stroke", desc := "(IIII)Z" } : Jvm.MethodName) prog_1_method_55_code (5 : Nat) (Option.some Jvm.ClassFile.FieldType.boolean)) ∈ lw_all := lw_g (lw_at lw_m7 94 rfl) rfl
theorem q1703 : (Jvm.Cond.instanceMethod ({ cls := "TurnedBoards", name := "paint", desc := "(III)Z" } : Jvm.MethodName)) ∈ lw_all := lw_g (lw_at lw_m7 96 rfl) rfl
theorem q1704 : (Jvm.Cond.selects "TurnedBoards" ({ cls := "TurnedBoards", name := "paint", desc := "(III)Z" } : Jvm.MethodName) ({ cls := "TurnedBoards", name := "paint", desc := "(III)Z" } : Jvm.MethodName)) ∈ lw_all := lw_g (lw_at lw_m7 97 rfl) rfl
theorem q1705 : (Jvm.Cond.code ({ cls := "TurnedBoards", name := "paint", desc := "(III)Z" } : Jvm.MethodName) prog_1_method_56_code (4 : Nat) (Option.some Jvm.ClassFile.FieldType.boolean)) ∈ lw_all := lw_g (lw_at lw_m7 98 rfl) rfl
theorem q1706 : (Jvm.Cond.methodLink "TurnedBoards" (343 : Nat) ({ cls := "TurnedBoards$State", name := "paints", desc := "(III)V" } : Jvm.MethodName)) ∈ lw_all := lw_g (lw_at lw_m7 99 rfl) rfl
theorem q1708 : (Jvm.Cond.instanceMethod ({ cls := "TurnedBoards", name := "seed", desc := "(I)Z" } : Jvm.MethodName)) ∈ lw_all := lw_g (lw_at lw_m7 101 rfl) rfl
theorem q1709 : (Jvm.Cond.selects "TurnedBoards" ({ cls := "TurnedBoards", name := "seed", desc := "(I)Z" } : Jvm.MethodName) ({ cls := "TurnedBoards", name := "seed", desc := "(I)Z" } : Jvm.MethodName)) ∈ lw_all := lw_g (lw_at lw_m7 102 rfl) rfl
theorem q1710 : (Jvm.Cond.code ({ cls := "TurnedBoards", name := "seed", desc := "(I)Z" } : Jvm.MethodName) prog_1_method_57_code (2 : Nat) (Option.some Jvm.ClassFile.FieldType.boolean)) ∈ lw_all := lw_g (lw_at lw_m7 103 rfl) rfl
theorem q1712 : (Jvm.Cond.instanceMethod ({ cls := "TurnedBoards", name := "ask", desc := "()J" } : Jvm.MethodName)) ∈ lw_all := lw_g (lw_at lw_m7 105 rfl) rfl
theorem q1713 : (Jvm.Cond.selects "TurnedBoards" ({ cls := "TurnedBoards", name := "ask", desc := "()J" } : Jvm.MethodName) ({ cls := "TurnedBoards", name := "ask", desc := "()J" } : Jvm.MethodName)) ∈ lw_all := lw_g (lw_at lw_m7 106 rfl) rfl
theorem q1714 : (Jvm.Cond.codeWith ({ cls := "TurnedBoards", name := "ask", desc := "()J" } : Jvm.MethodName) prog_1_method_60_code (4 : Nat) (Option.some Jvm.ClassFile.FieldType.long) [((15 : Nat), (24 : Nat), (27 : Nat), (116 : Nat))]) ∈ lw_all := lw_g (lw_at lw_m7 107 rfl) rfl
theorem q1715 : (Jvm.Cond.methodLink "TurnedBoards" (352 : Nat) ({ cls := "TurnedBoards$Reader", name := "question", desc := "(I)LTurnedBoards$Question;" } : Jvm.MethodName)) ∈ lw_all := lw_g (lw_at lw_m7 108 rfl) rfl
theorem q1720 : (Jvm.Cond.laysStatic "TurnedBoards" "TOLD_OF" "[Ljava/lang/String;") ∈ lw_tbl := lw_at lw_m7 113 rfl
theorem q1744 : (Jvm.Cond.methodLink "TurnedBoards" (356 : Nat) ({ cls := "TurnedBoards", name := "inkOf", desc := "(I)I" } : Jvm.MethodName)) ∈ lw_all := lw_g (lw_at lw_m7 137 rfl) rfl
theorem q1745 : (Jvm.Cond.privateMethod ({ cls := "TurnedBoards", name := "inkOf", desc := "(I)I" } : Jvm.MethodName)) ∈ lw_tbl := lw_at lw_m7 138 rfl
theorem q1746 : (Jvm.Cond.instanceMethod ({ cls := "TurnedBoards", name := "inkOf", desc := "(I)I" } : Jvm.MethodName)) ∈ lw_all := lw_g (lw_at lw_m7 139 rfl) rfl
theorem q1747 : (Jvm.Cond.code ({ cls := "TurnedBoards", name := "inkOf", desc := "(I)I" } : Jvm.MethodName) prog_1_method_59_code (4 : Nat) (Option.some Jvm.ClassFile.FieldType.int)) ∈ lw_all := lw_g (lw_at lw_m7 140 rfl) rfl
theorem q1748 : (Jvm.Cond.methodLink "TurnedBoards" (359 : Nat) ({ cls := "TurnedBoards$Question", name := "meets", desc := "(ILTurnedBoards$Moment;)V" } : Jvm.MethodName)) ∈ lw_all := lw_g (lw_at lw_m7 141 rfl) rfl
theorem q1756 : (Jvm.Cond.methodLink "TurnedBoards" (365 : Nat) ({ cls := "TurnedBoards$Question", name := "answer", desc := "()J" } : Jvm.MethodName)) ∈ lw_all := lw_g (lw_at lw_m7 149 rfl) rfl
theorem q1761 : (Jvm.Cond.instanceMethod ({ cls := "TurnedBoards", name := "image", desc := "()I" } : Jvm.MethodName)) ∈ lw_all := lw_g (lw_at lw_m7 154 rfl) rfl
theorem q1762 : (Jvm.Cond.selects "TurnedBoards" ({ cls := "TurnedBoards", name := "image", desc := "()I" } : Jvm.MethodName) ({ cls := "TurnedBoards", name := "image", desc := "()I" } : Jvm.MethodName)) ∈ lw_all := lw_g (lw_at lw_m7 155 rfl) rfl
theorem q1763 : (Jvm.Cond.code ({ cls := "TurnedBoards", name := "image", desc := "()I" } : Jvm.MethodName) prog_1_method_63_code (3 : Nat) (Option.some Jvm.ClassFile.FieldType.int)) ∈ lw_all := lw_g (lw_at lw_m7 156 rfl) rfl
theorem q1764 : (Jvm.Cond.methodLink "TurnedBoards" (372 : Nat) ({ cls := "TurnedBoards", name := "writes", desc := "(II)V" } : Jvm.MethodName)) ∈ lw_all := lw_g (lw_at lw_m7 157 rfl) rfl
theorem q1765 : (Jvm.Cond.privateMethod ({ cls := "TurnedBoards", name := "writes", desc := "(II)V" } : Jvm.MethodName)) ∈ lw_tbl := lw_at lw_m7 158 rfl
theorem q1766 : (Jvm.Cond.instanceMethod ({ cls := "TurnedBoards", name := "writes", desc := "(II)V" } : Jvm.MethodName)) ∈ lw_all := lw_g (lw_at lw_m7 159 rfl) rfl
theorem q1767 : (Jvm.Cond.code ({ cls := "TurnedBoards", name := "writes", desc := "(II)V" } : Jvm.MethodName) prog_1_method_61_code (4 : Nat) (Option.none : Option Jvm.ClassFile.FieldType)) ∈ lw_all := lw_g (lw_at lw_m7 160 rfl) rfl
theorem q1768 : (Jvm.Cond.methodLink "TurnedBoards" (376 : Nat) ({ cls := "TurnedBoards", name := "check", desc := "([BI)I" } : Jvm.MethodName)) ∈ lw_all := lw_g (lw_at lw_m7 161 rfl) rfl
theorem q1769 : (Jvm.Cond.static ({ cls := "TurnedBoards", name := "check", desc := "([BI)I" } : Jvm.MethodName)) ∈ lw_all := lw_g (lw_at lw_m7 162 rfl) rfl
theorem q1770 : (Jvm.Cond.code ({ cls := "TurnedBoards", name := "check", desc := "([BI)I" } : Jvm.MethodName) prog_1_method_62_code (4 : Nat) (Option.some Jvm.ClassFile.FieldType.int)) ∈ lw_all := lw_g (lw_at lw_m7 163 rfl) rfl
theorem q1772 : (Jvm.Cond.instanceMethod ({ cls := "TurnedBoards", name := "octet", desc := "(I)I" } : Jvm.MethodName)) ∈ lw_all := lw_g (lw_at lw_m7 165 rfl) rfl
theorem q1773 : (Jvm.Cond.selects "TurnedBoards" ({ cls := "TurnedBoards", name := "octet", desc := "(I)I" } : Jvm.MethodName) ({ cls := "TurnedBoards", name := "octet", desc := "(I)I" } : Jvm.MethodName)) ∈ lw_all := lw_g (lw_at lw_m7 166 rfl) rfl
theorem q1774 : (Jvm.Cond.code ({ cls := "TurnedBoards", name := "octet", desc := "(I)I" } : Jvm.MethodName) prog_1_method_64_code (2 : Nat) (Option.some Jvm.ClassFile.FieldType.int)) ∈ lw_all := lw_g (lw_at lw_m7 167 rfl) rfl
theorem q1776 : (Jvm.Cond.instanceMethod ({ cls := "TurnedBoards", name := "on", desc := "()Z" } : Jvm.MethodName)) ∈ lw_all := lw_g (lw_at lw_m7 169 rfl) rfl
theorem q1777 : (Jvm.Cond.selects "TurnedBoards" ({ cls := "TurnedBoards", name := "on", desc := "()Z" } : Jvm.MethodName) ({ cls := "TurnedBoards", name := "on", desc := "()Z" } : Jvm.MethodName)) ∈ lw_all := lw_g (lw_at lw_m7 170 rfl) rfl
theorem q1778 : (Jvm.Cond.code ({ cls := "TurnedBoards", name := "on", desc := "()Z" } : Jvm.MethodName) prog_1_method_69_code (1 : Nat) (Option.some Jvm.ClassFile.FieldType.boolean)) ∈ lw_all := lw_g (lw_at lw_m7 171 rfl) rfl
theorem q1779 : (Jvm.Cond.methodLink "TurnedBoards" (389 : Nat) ({ cls := "TurnedBoards", name := "comesOn", desc := "(I)Z" } : Jvm.MethodName)) ∈ lw_all := lw_g (lw_at lw_m7 172 rfl) rfl
theorem q1780 : (Jvm.Cond.privateMethod ({ cls := "TurnedBoards", name := "comesOn", desc := "(I)Z" } : Jvm.MethodName)) ∈ lw_tbl := lw_at lw_m7 173 rfl
theorem q1781 : (Jvm.Cond.instanceMethod ({ cls := "TurnedBoards", name := "comesOn", desc := "(I)Z" } : Jvm.MethodName)) ∈ lw_all := lw_g (lw_at lw_m7 174 rfl) rfl
theorem q1782 : (Jvm.Cond.code ({ cls := "TurnedBoards", name := "comesOn", desc := "(I)Z" } : Jvm.MethodName) prog_1_method_68_code (4 : Nat) (Option.some Jvm.ClassFile.FieldType.boolean)) ∈ lw_all := lw_g (lw_at lw_m7 175 rfl) rfl
theorem q1783 : (Jvm.Cond.methodLink "TurnedBoards" (380 : Nat) ({ cls := "TurnedBoards", name := "byteAt", desc := "(I)I" } : Jvm.MethodName)) ∈ lw_all := lw_g (lw_at lw_m7 176 rfl) rfl
theorem q1784 : (Jvm.Cond.privateMethod ({ cls := "TurnedBoards", name := "byteAt", desc := "(I)I" } : Jvm.MethodName)) ∈ lw_tbl := lw_at lw_m7 177 rfl
theorem q1785 : (Jvm.Cond.instanceMethod ({ cls := "TurnedBoards", name := "byteAt", desc := "(I)I" } : Jvm.MethodName)) ∈ lw_all := lw_g (lw_at lw_m7 178 rfl) rfl
theorem q1786 : (Jvm.Cond.code ({ cls := "TurnedBoards", name := "byteAt", desc := "(I)I" } : Jvm.MethodName) prog_1_method_65_code (2 : Nat) (Option.some Jvm.ClassFile.FieldType.int)) ∈ lw_all := lw_g (lw_at lw_m7 179 rfl) rfl
theorem q1787 : (Jvm.Cond.methodLink "TurnedBoards" (383 : Nat) ({ cls := "TurnedBoards", name := "twoAt", desc := "(I)I" } : Jvm.MethodName)) ∈ lw_all := lw_g (lw_at lw_m7 180 rfl) rfl
theorem q1788 : (Jvm.Cond.privateMethod ({ cls := "TurnedBoards", name := "twoAt", desc := "(I)I" } : Jvm.MethodName)) ∈ lw_tbl := lw_at lw_m7 181 rfl
theorem q1789 : (Jvm.Cond.instanceMethod ({ cls := "TurnedBoards", name := "twoAt", desc := "(I)I" } : Jvm.MethodName)) ∈ lw_all := lw_g (lw_at lw_m7 182 rfl) rfl
theorem q1790 : (Jvm.Cond.code ({ cls := "TurnedBoards", name := "twoAt", desc := "(I)I" } : Jvm.MethodName) prog_1_method_66_code (2 : Nat) (Option.some Jvm.ClassFile.FieldType.int)) ∈ lw_all := lw_g (lw_at lw_m7 183 rfl) rfl
theorem q1791 : (Jvm.Cond.methodLink "TurnedBoards" (386 : Nat) ({ cls := "TurnedBoards", name := "boardOn", desc := "(II)Z" } : Jvm.MethodName)) ∈ lw_all := lw_g (lw_at lw_m7 184 rfl) rfl
theorem q1792 : (Jvm.Cond.privateMethod ({ cls := "TurnedBoards", name := "boardOn", desc := "(II)Z" } : Jvm.MethodName)) ∈ lw_tbl := lw_at lw_m7 185 rfl
theorem q1793 : (Jvm.Cond.instanceMethod ({ cls := "TurnedBoards", name := "boardOn", desc := "(II)Z" } : Jvm.MethodName)) ∈ lw_all := lw_g (lw_at lw_m7 186 rfl) rfl
theorem q1794 : (Jvm.Cond.code ({ cls := "TurnedBoards", name := "boardOn", desc := "(II)Z" } : Jvm.MethodName) prog_1_method_67_code (5 : Nat) (Option.some Jvm.ClassFile.FieldType.boolean)) ∈ lw_all := lw_g (lw_at lw_m7 187 rfl) rfl
theorem q1796 : (Jvm.Cond.instanceMethod ({ cls := "TurnedBoards", name := "status", desc := "(I)I" } : Jvm.MethodName)) ∈ lw_all := lw_g (lw_at lw_m7 189 rfl) rfl
theorem q1797 : (Jvm.Cond.selects "TurnedBoards" ({ cls := "TurnedBoards", name := "status", desc := "(I)I" } : Jvm.MethodName) ({ cls := "TurnedBoards", name := "status", desc := "(I)I" } : Jvm.MethodName)) ∈ lw_all := lw_g (lw_at lw_m7 190 rfl) rfl
theorem q1798 : (Jvm.Cond.code ({ cls := "TurnedBoards", name := "status", desc := "(I)I" } : Jvm.MethodName) prog_1_method_70_code (2 : Nat) (Option.some Jvm.ClassFile.FieldType.int)) ∈ lw_all := lw_g (lw_at lw_m7 191 rfl) rfl
theorem q2738 : (Jvm.Cond.castable "TurnedBoards" "java/lang/Object") ∈ lw_tbl := lw_at lw_m11 171 rfl
theorem q2774 : (Jvm.Cond.stringRef "TurnedBoards" (433 : Nat) "letter") ∈ lw_tbl := lw_at lw_m11 207 rfl
theorem q2775 : (Jvm.Cond.stringRef "TurnedBoards" (435 : Nat) "hand") ∈ lw_tbl := lw_at lw_m11 208 rfl
theorem q2776 : (Jvm.Cond.stringRef "TurnedBoards" (436 : Nat) "is") ∈ lw_tbl := lw_at lw_m11 209 rfl
theorem q2777 : (Jvm.Cond.stringRef "TurnedBoards" (437 : Nat) "word") ∈ lw_tbl := lw_at lw_m11 210 rfl
theorem q2778 : (Jvm.Cond.stringRef "TurnedBoards" (438 : Nat) "board") ∈ lw_tbl := lw_at lw_m11 211 rfl
theorem q2779 : (Jvm.Cond.stringRef "TurnedBoards" (440 : Nat) "doubt") ∈ lw_tbl := lw_at lw_m11 212 rfl
theorem q2780 : (Jvm.Cond.stringRef "TurnedBoards" (441 : Nat) "rain") ∈ lw_tbl := lw_at lw_m11 213 rfl
theorem q2781 : (Jvm.Cond.stringRef "TurnedBoards" (443 : Nat) "blank") ∈ lw_tbl := lw_at lw_m11 214 rfl
theorem q2782 : (Jvm.Cond.stringRef "TurnedBoards" (445 : Nat) "hail") ∈ lw_tbl := lw_at lw_m11 215 rfl
theorem q2783 : (Jvm.Cond.stringRef "TurnedBoards" (392 : Nat) "more") ∈ lw_tbl := lw_at lw_m11 216 rfl
theorem q2784 : (Jvm.Cond.stringRef "TurnedBoards" (394 : Nat) "less") ∈ lw_tbl := lw_at lw_m11 217 rfl
theorem q2785 : (Jvm.Cond.stringRef "TurnedBoards" (396 : Nat) "ink") ∈ lw_tbl := lw_at lw_m11 218 rfl
theorem q2786 : (Jvm.Cond.stringRef "TurnedBoards" (397 : Nat) "column") ∈ lw_tbl := lw_at lw_m11 219 rfl
theorem q2787 : (Jvm.Cond.stringRef "TurnedBoards" (399 : Nat) "row") ∈ lw_tbl := lw_at lw_m11 220 rfl
theorem q2788 : (Jvm.Cond.stringRef "TurnedBoards" (401 : Nat) "place") ∈ lw_tbl := lw_at lw_m11 221 rfl
theorem q2789 : (Jvm.Cond.stringRef "TurnedBoards" (402 : Nat) "near") ∈ lw_tbl := lw_at lw_m11 222 rfl
theorem q2790 : (Jvm.Cond.stringRef "TurnedBoards" (404 : Nat) "year") ∈ lw_tbl := lw_at lw_m11 223 rfl
theorem q2791 : (Jvm.Cond.stringRef "TurnedBoards" (405 : Nat) "number") ∈ lw_tbl := lw_at lw_m11 224 rfl
theorem q2792 : (Jvm.Cond.stringRef "TurnedBoards" (407 : Nat) "long") ∈ lw_tbl := lw_at lw_m11 225 rfl
theorem q2793 : (Jvm.Cond.stringRef "TurnedBoards" (413 : Nat) "line") ∈ lw_tbl := lw_at lw_m11 226 rfl
theorem q2794 : (Jvm.Cond.stringRef "TurnedBoards" (414 : Nat) "at") ∈ lw_tbl := lw_at lw_m11 227 rfl
theorem q2795 : (Jvm.Cond.stringRef "TurnedBoards" (446 : Nat) "or") ∈ lw_tbl := lw_at lw_m11 228 rfl
theorem q2796 : (Jvm.Cond.stringRef "TurnedBoards" (448 : Nat) "and") ∈ lw_tbl := lw_at lw_m11 229 rfl
theorem q2797 : (Jvm.Cond.stringRef "TurnedBoards" (450 : Nat) "not") ∈ lw_tbl := lw_at lw_m11 230 rfl
theorem q2798 : (Jvm.Cond.stringRef "TurnedBoards" (452 : Nat) "all") ∈ lw_tbl := lw_at lw_m11 231 rfl
theorem q2799 : (Jvm.Cond.stringRef "TurnedBoards" (453 : Nat) "min") ∈ lw_tbl := lw_at lw_m11 232 rfl
theorem q2800 : (Jvm.Cond.stringRef "TurnedBoards" (454 : Nat) "max") ∈ lw_tbl := lw_at lw_m11 233 rfl
theorem q2801 : (Jvm.Cond.stringRef "TurnedBoards" (455 : Nat) "forgive") ∈ lw_tbl := lw_at lw_m11 234 rfl
theorem q2803 : (Jvm.Cond.stringRef "TurnedBoards" (418 : Nat) "first") ∈ lw_tbl := lw_at lw_m11 236 rfl
theorem q2804 : (Jvm.Cond.stringRef "TurnedBoards" (420 : Nat) "last") ∈ lw_tbl := lw_at lw_m11 237 rfl
theorem q2805 : (Jvm.Cond.stringRef "TurnedBoards" (422 : Nat) "often") ∈ lw_tbl := lw_at lw_m11 238 rfl
theorem q2806 : (Jvm.Cond.stringRef "TurnedBoards" (424 : Nat) "total") ∈ lw_tbl := lw_at lw_m11 239 rfl
theorem q2807 : (Jvm.Cond.stringRef "TurnedBoards" (426 : Nat) "most") ∈ lw_tbl := lw_at lw_m12 0 rfl
theorem q2808 : (Jvm.Cond.stringRef "TurnedBoards" (428 : Nat) "least") ∈ lw_tbl := lw_at lw_m12 1 rfl
theorem in_X0 : ∀ w ∈ wsX00, w ∈ lw_all := lw_in wsX00 [604, 606, 608, 610, 612, 614, 616, 618, 620, 622, 624, 626, 628, 630, 632, 634, 636, 638] (by decide +kernel) (by decide +kernel)
/-! TurnedBoards$Shop -/
set_option maxRecDepth 100000
def RX1 : String := "TurnedBoards$Shop"
def TX1 : u_T := fun k => match k with
  | 0 => ("TurnedBoards$Shop", "statements", "I", false)
  | 1 => ("TurnedBoards$Shop", "forgive", "I", false)
  | 2 => ("TurnedBoards$Shop", "blank", "I", false)
  | 3 => ("TurnedBoards$Shop", "hail", "I", false)
  | 4 => ("TurnedBoards$Shop", "letters", "Ljava/util/List;", true)
  | 5 => ("TurnedBoards$Shop", "words", "Ljava/util/List;", true)
  | 6 => ("TurnedBoards$Shop", "boards", "Ljava/util/List;", true)
  | 7 => ("TurnedBoards$Shop", "doubt", "LTurnedBoards$Value;", false)
  | _ => ("TurnedBoards$Shop", "rain", "LTurnedBoards$Test;", false)
def tyX1 : Nat → FieldType := fun k => match k with
  | 0 => .int
  | 1 => .int
  | 2 => .int
  | 3 => .int
  | 4 => .object "java/util/List"
  | 5 => .object "java/util/List"
  | 6 => .object "java/util/List"
  | 7 => .object "TurnedBoards$Value"
  | _ => .object "TurnedBoards$Test"
abbrev wsX10 : List Cond := u_ws RX1 TX1 9
theorem nmX1 : ∀ a, a < 9 → ∀ b, b < 9 → a ≠ b → (TX1 a).2.1 ≠ (TX1 b).2.1 := by decide +kernel
theorem tyX1_ok : ∀ k, k < 9 → parseFieldDescriptor (TX1 k).2.2.1 = some (tyX1 k) := by decide +kernel
abbrev cX1_init : ByteArray := prog_17_method_1_code
def yX1_init : MethodName := ⟨RX1, "<init>", "()V"⟩
def dkwX1_init_3 : List UInt8 := [185, 0, 33, 2, 0, 87, 132, 1, 1, 167, 255, 230, 177]
abbrev dktX1_init_3 : List UInt8 := dkwX1_init_3 ++ []
def dkwX1_init_2 : List UInt8 := [181, 0, 30, 3, 60, 27, 5, 162, 0, 27, 42, 180, 0, 23, 187, 0, 18, 89, 7, 183, 0, 20]
abbrev dktX1_init_2 : List UInt8 := dkwX1_init_2 ++ dktX1_init_3
def dkwX1_init_1 : List UInt8 := [181, 0, 23, 42, 187, 0, 18, 89, 7, 183, 0, 20, 181, 0, 27, 42, 187, 0, 18, 89, 5, 183, 0, 20]
abbrev dktX1_init_1 : List UInt8 := dkwX1_init_1 ++ dktX1_init_2
def dkwX1_init_0 : List UInt8 := [42, 183, 0, 3, 42, 5, 181, 0, 9, 42, 16, 9, 181, 0, 15, 42, 187, 0, 18, 89, 5, 183, 0, 20]
abbrev dktX1_init_0 : List UInt8 := dkwX1_init_0 ++ dktX1_init_1
theorem dksX1_init_0 : cX1_init.data.toList.drop 0 = dktX1_init_0 := by decide +kernel
theorem dksX1_init_1 : cX1_init.data.toList.drop 24 = dktX1_init_1 := dk_seg dksX1_init_0 24 rfl rfl
theorem dksX1_init_2 : cX1_init.data.toList.drop 48 = dktX1_init_2 := dk_seg dksX1_init_1 24 rfl rfl
theorem dksX1_init_3 : cX1_init.data.toList.drop 70 = dktX1_init_3 := dk_seg dksX1_init_2 22 rfl rfl
theorem dX1_init_0 : decode cX1_init 0 = .ok (.aload_n 0, 1) := dk_42 (dk_at dksX1_init_0 0 rfl rfl)
theorem dX1_init_1 : decode cX1_init 1 = .ok (.invokespecial 3, 3) := dk_183 0 3 (dk_at dksX1_init_0 1 rfl rfl)
theorem dX1_init_4 : decode cX1_init 4 = .ok (.aload_n 0, 1) := dk_42 (dk_at dksX1_init_0 4 rfl rfl)
theorem dX1_init_5 : decode cX1_init 5 = .ok (.iconst 2, 1) := dk_5 (dk_at dksX1_init_0 5 rfl rfl)
theorem dX1_init_6 : decode cX1_init 6 = .ok (.putfield 9, 3) := dk_181 0 9 (dk_at dksX1_init_0 6 rfl rfl)
theorem dX1_init_9 : decode cX1_init 9 = .ok (.aload_n 0, 1) := dk_42 (dk_at dksX1_init_0 9 rfl rfl)
theorem dX1_init_10 : decode cX1_init 10 = .ok (.bipush 9, 2) := dk_16 9 (dk_at dksX1_init_0 10 rfl rfl)
theorem dX1_init_12 : decode cX1_init 12 = .ok (.putfield 15, 3) := dk_181 0 15 (dk_at dksX1_init_0 12 rfl rfl)
theorem dX1_init_15 : decode cX1_init 15 = .ok (.aload_n 0, 1) := dk_42 (dk_at dksX1_init_0 15 rfl rfl)
theorem dX1_init_16 : decode cX1_init 16 = .ok (.new 18, 3) := dk_187 0 18 (dk_at dksX1_init_0 16 rfl rfl)
theorem dX1_init_19 : decode cX1_init 19 = .ok (.dup, 1) := dk_89 (dk_at dksX1_init_0 19 rfl rfl)
theorem dX1_init_20 : decode cX1_init 20 = .ok (.iconst 2, 1) := dk_5 (dk_at dksX1_init_0 20 rfl rfl)
theorem dX1_init_21 : decode cX1_init 21 = .ok (.invokespecial 20, 3) := dk_183 0 20 (dk_at dksX1_init_0 21 rfl rfl)
theorem dX1_init_24 : decode cX1_init 24 = .ok (.putfield 23, 3) := dk_181 0 23 (dk_at dksX1_init_1 0 rfl rfl)
theorem dX1_init_27 : decode cX1_init 27 = .ok (.aload_n 0, 1) := dk_42 (dk_at dksX1_init_1 3 rfl rfl)
theorem dX1_init_28 : decode cX1_init 28 = .ok (.new 18, 3) := dk_187 0 18 (dk_at dksX1_init_1 4 rfl rfl)
theorem dX1_init_31 : decode cX1_init 31 = .ok (.dup, 1) := dk_89 (dk_at dksX1_init_1 7 rfl rfl)
theorem dX1_init_32 : decode cX1_init 32 = .ok (.iconst 4, 1) := dk_7 (dk_at dksX1_init_1 8 rfl rfl)
theorem dX1_init_33 : decode cX1_init 33 = .ok (.invokespecial 20, 3) := dk_183 0 20 (dk_at dksX1_init_1 9 rfl rfl)
theorem dX1_init_36 : decode cX1_init 36 = .ok (.putfield 27, 3) := dk_181 0 27 (dk_at dksX1_init_1 12 rfl rfl)
theorem dX1_init_39 : decode cX1_init 39 = .ok (.aload_n 0, 1) := dk_42 (dk_at dksX1_init_1 15 rfl rfl)
theorem dX1_init_40 : decode cX1_init 40 = .ok (.new 18, 3) := dk_187 0 18 (dk_at dksX1_init_1 16 rfl rfl)
theorem dX1_init_43 : decode cX1_init 43 = .ok (.dup, 1) := dk_89 (dk_at dksX1_init_1 19 rfl rfl)
theorem dX1_init_44 : decode cX1_init 44 = .ok (.iconst 2, 1) := dk_5 (dk_at dksX1_init_1 20 rfl rfl)
theorem dX1_init_45 : decode cX1_init 45 = .ok (.invokespecial 20, 3) := dk_183 0 20 (dk_at dksX1_init_1 21 rfl rfl)
theorem dX1_init_48 : decode cX1_init 48 = .ok (.putfield 30, 3) := dk_181 0 30 (dk_at dksX1_init_2 0 rfl rfl)
theorem dX1_init_51 : decode cX1_init 51 = .ok (.iconst 0, 1) := dk_3 (dk_at dksX1_init_2 3 rfl rfl)
theorem dX1_init_52 : decode cX1_init 52 = .ok (.istore_n 1, 1) := dk_60 (dk_at dksX1_init_2 4 rfl rfl)
theorem dX1_init_53 : decode cX1_init 53 = .ok (.iload_n 1, 1) := dk_27 (dk_at dksX1_init_2 5 rfl rfl)
theorem dX1_init_54 : decode cX1_init 54 = .ok (.iconst 2, 1) := dk_5 (dk_at dksX1_init_2 6 rfl rfl)
theorem dX1_init_55 : decode cX1_init 55 = .ok (.if_icmp .ge 27, 3) := dk_162 0 27 (dk_at dksX1_init_2 7 rfl rfl)
theorem dX1_init_58 : decode cX1_init 58 = .ok (.aload_n 0, 1) := dk_42 (dk_at dksX1_init_2 10 rfl rfl)
theorem dX1_init_59 : decode cX1_init 59 = .ok (.getfield 23, 3) := dk_180 0 23 (dk_at dksX1_init_2 11 rfl rfl)
theorem dX1_init_62 : decode cX1_init 62 = .ok (.new 18, 3) := dk_187 0 18 (dk_at dksX1_init_2 14 rfl rfl)
theorem dX1_init_65 : decode cX1_init 65 = .ok (.dup, 1) := dk_89 (dk_at dksX1_init_2 17 rfl rfl)
theorem dX1_init_66 : decode cX1_init 66 = .ok (.iconst 4, 1) := dk_7 (dk_at dksX1_init_2 18 rfl rfl)
theorem dX1_init_67 : decode cX1_init 67 = .ok (.invokespecial 20, 3) := dk_183 0 20 (dk_at dksX1_init_2 19 rfl rfl)
theorem dX1_init_70 : decode cX1_init 70 = .ok (.invokeinterface 33 2, 5) := by decide +kernel
theorem dX1_init_75 : decode cX1_init 75 = .ok (.pop, 1) := dk_87 (dk_at dksX1_init_3 5 rfl rfl)
theorem dX1_init_76 : decode cX1_init 76 = .ok (.iinc 1 1, 3) := dk_132 1 1 (dk_at dksX1_init_3 6 rfl rfl)
theorem dX1_init_79 : decode cX1_init 79 = .ok (.goto (-26), 3) := dk_167 255 230 (dk_at dksX1_init_3 9 rfl rfl)
theorem dX1_init_82 : decode cX1_init 82 = .ok (.return_, 1) := dk_177 (dk_at dksX1_init_3 12 rfl rfl)
abbrev cX1_letter : ByteArray := prog_17_method_2_code
def yX1_letter : MethodName := ⟨RX1, "letter", "(II)I"⟩
def dkwX1_letter_2 : List UInt8 := [160, 0, 6, 21, 4, 172, 132, 4, 1, 167, 255, 221, 2, 172]
abbrev dktX1_letter_2 : List UInt8 := dkwX1_letter_2 ++ []
def dkwX1_letter_1 : List UInt8 := [185, 0, 43, 1, 0, 162, 0, 30, 45, 21, 4, 185, 0, 39, 2, 0, 192, 0, 47, 180, 0, 49, 28]
abbrev dktX1_letter_1 : List UInt8 := dkwX1_letter_1 ++ dktX1_letter_2
def dkwX1_letter_0 : List UInt8 := [42, 180, 0, 23, 27, 185, 0, 39, 2, 0, 192, 0, 34, 78, 3, 54, 4, 21, 4, 45]
abbrev dktX1_letter_0 : List UInt8 := dkwX1_letter_0 ++ dktX1_letter_1
theorem dksX1_letter_0 : cX1_letter.data.toList.drop 0 = dktX1_letter_0 := by decide +kernel
theorem dksX1_letter_1 : cX1_letter.data.toList.drop 20 = dktX1_letter_1 := dk_seg dksX1_letter_0 20 rfl rfl
theorem dksX1_letter_2 : cX1_letter.data.toList.drop 43 = dktX1_letter_2 := dk_seg dksX1_letter_1 23 rfl rfl
theorem dX1_letter_0 : decode cX1_letter 0 = .ok (.aload_n 0, 1) := dk_42 (dk_at dksX1_letter_0 0 rfl rfl)
theorem dX1_letter_1 : decode cX1_letter 1 = .ok (.getfield 23, 3) := dk_180 0 23 (dk_at dksX1_letter_0 1 rfl rfl)
theorem dX1_letter_4 : decode cX1_letter 4 = .ok (.iload_n 1, 1) := dk_27 (dk_at dksX1_letter_0 4 rfl rfl)
theorem dX1_letter_5 : decode cX1_letter 5 = .ok (.invokeinterface 39 2, 5) := by decide +kernel
theorem dX1_letter_10 : decode cX1_letter 10 = .ok (.checkcast 34, 3) := dk_192 0 34 (dk_at dksX1_letter_0 10 rfl rfl)
theorem dX1_letter_13 : decode cX1_letter 13 = .ok (.astore_n 3, 1) := dk_78 (dk_at dksX1_letter_0 13 rfl rfl)
theorem dX1_letter_14 : decode cX1_letter 14 = .ok (.iconst 0, 1) := dk_3 (dk_at dksX1_letter_0 14 rfl rfl)
theorem dX1_letter_15 : decode cX1_letter 15 = .ok (.istore 4, 2) := dk_54 4 (dk_at dksX1_letter_0 15 rfl rfl)
theorem dX1_letter_17 : decode cX1_letter 17 = .ok (.iload 4, 2) := dk_21 4 (dk_at dksX1_letter_0 17 rfl rfl)
theorem dX1_letter_19 : decode cX1_letter 19 = .ok (.aload_n 3, 1) := dk_45 (dk_at dksX1_letter_0 19 rfl rfl)
theorem dX1_letter_20 : decode cX1_letter 20 = .ok (.invokeinterface 43 1, 5) := by decide +kernel
theorem dX1_letter_25 : decode cX1_letter 25 = .ok (.if_icmp .ge 30, 3) := dk_162 0 30 (dk_at dksX1_letter_1 5 rfl rfl)
theorem dX1_letter_28 : decode cX1_letter 28 = .ok (.aload_n 3, 1) := dk_45 (dk_at dksX1_letter_1 8 rfl rfl)
theorem dX1_letter_29 : decode cX1_letter 29 = .ok (.iload 4, 2) := dk_21 4 (dk_at dksX1_letter_1 9 rfl rfl)
theorem dX1_letter_31 : decode cX1_letter 31 = .ok (.invokeinterface 39 2, 5) := by decide +kernel
theorem dX1_letter_36 : decode cX1_letter 36 = .ok (.checkcast 47, 3) := dk_192 0 47 (dk_at dksX1_letter_1 16 rfl rfl)
theorem dX1_letter_39 : decode cX1_letter 39 = .ok (.getfield 49, 3) := dk_180 0 49 (dk_at dksX1_letter_1 19 rfl rfl)
theorem dX1_letter_42 : decode cX1_letter 42 = .ok (.iload_n 2, 1) := dk_28 (dk_at dksX1_letter_1 22 rfl rfl)
theorem dX1_letter_43 : decode cX1_letter 43 = .ok (.if_icmp .ne 6, 3) := dk_160 0 6 (dk_at dksX1_letter_2 0 rfl rfl)
theorem dX1_letter_46 : decode cX1_letter 46 = .ok (.iload 4, 2) := dk_21 4 (dk_at dksX1_letter_2 3 rfl rfl)
theorem dX1_letter_48 : decode cX1_letter 48 = .ok (.ireturn, 1) := dk_172 (dk_at dksX1_letter_2 5 rfl rfl)
theorem dX1_letter_49 : decode cX1_letter 49 = .ok (.iinc 4 1, 3) := dk_132 4 1 (dk_at dksX1_letter_2 6 rfl rfl)
theorem dX1_letter_52 : decode cX1_letter 52 = .ok (.goto (-35), 3) := dk_167 255 221 (dk_at dksX1_letter_2 9 rfl rfl)
theorem dX1_letter_55 : decode cX1_letter 55 = .ok (.iconst (-1), 1) := dk_2 (dk_at dksX1_letter_2 12 rfl rfl)
theorem dX1_letter_56 : decode cX1_letter 56 = .ok (.ireturn, 1) := dk_172 (dk_at dksX1_letter_2 13 rfl rfl)
abbrev cX1_word : ByteArray := prog_17_method_4_code
def yX1_word : MethodName := ⟨RX1, "word", "(Ljava/lang/String;)I"⟩
def dkwX1_word_2 : List UInt8 := [167, 255, 215, 2, 172]
abbrev dktX1_word_2 : List UInt8 := dkwX1_word_2 ++ []
def dkwX1_word_1 : List UInt8 := [185, 0, 39, 2, 0, 192, 0, 53, 180, 0, 63, 43, 182, 0, 67, 153, 0, 5, 28, 172, 132, 2, 1]
abbrev dktX1_word_1 : List UInt8 := dkwX1_word_1 ++ dktX1_word_2
def dkwX1_word_0 : List UInt8 := [3, 61, 28, 42, 180, 0, 27, 185, 0, 43, 1, 0, 162, 0, 34, 42, 180, 0, 27, 28]
abbrev dktX1_word_0 : List UInt8 := dkwX1_word_0 ++ dktX1_word_1
theorem dksX1_word_0 : cX1_word.data.toList.drop 0 = dktX1_word_0 := by decide +kernel
theorem dksX1_word_1 : cX1_word.data.toList.drop 20 = dktX1_word_1 := dk_seg dksX1_word_0 20 rfl rfl
theorem dksX1_word_2 : cX1_word.data.toList.drop 43 = dktX1_word_2 := dk_seg dksX1_word_1 23 rfl rfl
theorem dX1_word_0 : decode cX1_word 0 = .ok (.iconst 0, 1) := dk_3 (dk_at dksX1_word_0 0 rfl rfl)
theorem dX1_word_1 : decode cX1_word 1 = .ok (.istore_n 2, 1) := dk_61 (dk_at dksX1_word_0 1 rfl rfl)
theorem dX1_word_2 : decode cX1_word 2 = .ok (.iload_n 2, 1) := dk_28 (dk_at dksX1_word_0 2 rfl rfl)
theorem dX1_word_3 : decode cX1_word 3 = .ok (.aload_n 0, 1) := dk_42 (dk_at dksX1_word_0 3 rfl rfl)
theorem dX1_word_4 : decode cX1_word 4 = .ok (.getfield 27, 3) := dk_180 0 27 (dk_at dksX1_word_0 4 rfl rfl)
theorem dX1_word_7 : decode cX1_word 7 = .ok (.invokeinterface 43 1, 5) := by decide +kernel
theorem dX1_word_12 : decode cX1_word 12 = .ok (.if_icmp .ge 34, 3) := dk_162 0 34 (dk_at dksX1_word_0 12 rfl rfl)
theorem dX1_word_15 : decode cX1_word 15 = .ok (.aload_n 0, 1) := dk_42 (dk_at dksX1_word_0 15 rfl rfl)
theorem dX1_word_16 : decode cX1_word 16 = .ok (.getfield 27, 3) := dk_180 0 27 (dk_at dksX1_word_0 16 rfl rfl)
theorem dX1_word_19 : decode cX1_word 19 = .ok (.iload_n 2, 1) := dk_28 (dk_at dksX1_word_0 19 rfl rfl)
theorem dX1_word_20 : decode cX1_word 20 = .ok (.invokeinterface 39 2, 5) := by decide +kernel
theorem dX1_word_25 : decode cX1_word 25 = .ok (.checkcast 53, 3) := dk_192 0 53 (dk_at dksX1_word_1 5 rfl rfl)
theorem dX1_word_28 : decode cX1_word 28 = .ok (.getfield 63, 3) := dk_180 0 63 (dk_at dksX1_word_1 8 rfl rfl)
theorem dX1_word_31 : decode cX1_word 31 = .ok (.aload_n 1, 1) := dk_43 (dk_at dksX1_word_1 11 rfl rfl)
theorem dX1_word_32 : decode cX1_word 32 = .ok (.invokevirtual 67, 3) := dk_182 0 67 (dk_at dksX1_word_1 12 rfl rfl)
theorem dX1_word_35 : decode cX1_word 35 = .ok (.ifCond .eq 5, 3) := dk_153 0 5 (dk_at dksX1_word_1 15 rfl rfl)
theorem dX1_word_38 : decode cX1_word 38 = .ok (.iload_n 2, 1) := dk_28 (dk_at dksX1_word_1 18 rfl rfl)
theorem dX1_word_39 : decode cX1_word 39 = .ok (.ireturn, 1) := dk_172 (dk_at dksX1_word_1 19 rfl rfl)
theorem dX1_word_40 : decode cX1_word 40 = .ok (.iinc 2 1, 3) := dk_132 2 1 (dk_at dksX1_word_1 20 rfl rfl)
theorem dX1_word_43 : decode cX1_word 43 = .ok (.goto (-41), 3) := dk_167 255 215 (dk_at dksX1_word_2 0 rfl rfl)
theorem dX1_word_46 : decode cX1_word 46 = .ok (.iconst (-1), 1) := dk_2 (dk_at dksX1_word_2 3 rfl rfl)
theorem dX1_word_47 : decode cX1_word 47 = .ok (.ireturn, 1) := dk_172 (dk_at dksX1_word_2 4 rfl rfl)
abbrev cX1_isIn : ByteArray := prog_17_method_3_code
def yX1_isIn : MethodName := ⟨RX1, "isIn", "(ILTurnedBoards$Word;)Z"⟩
def dkwX1_isIn_1 : List UInt8 := [3, 172, 132, 3, 1, 167, 255, 229, 4, 172]
abbrev dktX1_isIn_1 : List UInt8 := dkwX1_isIn_1 ++ []
def dkwX1_isIn_0 : List UInt8 := [3, 62, 29, 44, 182, 0, 52, 162, 0, 25, 42, 27, 44, 29, 182, 0, 55, 182, 0, 59, 2, 160, 0, 5]
abbrev dktX1_isIn_0 : List UInt8 := dkwX1_isIn_0 ++ dktX1_isIn_1
theorem dksX1_isIn_0 : cX1_isIn.data.toList.drop 0 = dktX1_isIn_0 := by decide +kernel
theorem dksX1_isIn_1 : cX1_isIn.data.toList.drop 24 = dktX1_isIn_1 := dk_seg dksX1_isIn_0 24 rfl rfl
theorem dX1_isIn_0 : decode cX1_isIn 0 = .ok (.iconst 0, 1) := dk_3 (dk_at dksX1_isIn_0 0 rfl rfl)
theorem dX1_isIn_1 : decode cX1_isIn 1 = .ok (.istore_n 3, 1) := dk_62 (dk_at dksX1_isIn_0 1 rfl rfl)
theorem dX1_isIn_2 : decode cX1_isIn 2 = .ok (.iload_n 3, 1) := dk_29 (dk_at dksX1_isIn_0 2 rfl rfl)
theorem dX1_isIn_3 : decode cX1_isIn 3 = .ok (.aload_n 2, 1) := dk_44 (dk_at dksX1_isIn_0 3 rfl rfl)
theorem dX1_isIn_4 : decode cX1_isIn 4 = .ok (.invokevirtual 52, 3) := dk_182 0 52 (dk_at dksX1_isIn_0 4 rfl rfl)
theorem dX1_isIn_7 : decode cX1_isIn 7 = .ok (.if_icmp .ge 25, 3) := dk_162 0 25 (dk_at dksX1_isIn_0 7 rfl rfl)
theorem dX1_isIn_10 : decode cX1_isIn 10 = .ok (.aload_n 0, 1) := dk_42 (dk_at dksX1_isIn_0 10 rfl rfl)
theorem dX1_isIn_11 : decode cX1_isIn 11 = .ok (.iload_n 1, 1) := dk_27 (dk_at dksX1_isIn_0 11 rfl rfl)
theorem dX1_isIn_12 : decode cX1_isIn 12 = .ok (.aload_n 2, 1) := dk_44 (dk_at dksX1_isIn_0 12 rfl rfl)
theorem dX1_isIn_13 : decode cX1_isIn 13 = .ok (.iload_n 3, 1) := dk_29 (dk_at dksX1_isIn_0 13 rfl rfl)
theorem dX1_isIn_14 : decode cX1_isIn 14 = .ok (.invokevirtual 55, 3) := dk_182 0 55 (dk_at dksX1_isIn_0 14 rfl rfl)
theorem dX1_isIn_17 : decode cX1_isIn 17 = .ok (.invokevirtual 59, 3) := dk_182 0 59 (dk_at dksX1_isIn_0 17 rfl rfl)
theorem dX1_isIn_20 : decode cX1_isIn 20 = .ok (.iconst (-1), 1) := dk_2 (dk_at dksX1_isIn_0 20 rfl rfl)
theorem dX1_isIn_21 : decode cX1_isIn 21 = .ok (.if_icmp .ne 5, 3) := dk_160 0 5 (dk_at dksX1_isIn_0 21 rfl rfl)
theorem dX1_isIn_24 : decode cX1_isIn 24 = .ok (.iconst 0, 1) := dk_3 (dk_at dksX1_isIn_1 0 rfl rfl)
theorem dX1_isIn_25 : decode cX1_isIn 25 = .ok (.ireturn, 1) := dk_172 (dk_at dksX1_isIn_1 1 rfl rfl)
theorem dX1_isIn_26 : decode cX1_isIn 26 = .ok (.iinc 3 1, 3) := dk_132 3 1 (dk_at dksX1_isIn_1 2 rfl rfl)
theorem dX1_isIn_29 : decode cX1_isIn 29 = .ok (.goto (-27), 3) := dk_167 255 229 (dk_at dksX1_isIn_1 5 rfl rfl)
theorem dX1_isIn_32 : decode cX1_isIn 32 = .ok (.iconst 1, 1) := dk_4 (dk_at dksX1_isIn_1 8 rfl rfl)
theorem dX1_isIn_33 : decode cX1_isIn 33 = .ok (.ireturn, 1) := dk_172 (dk_at dksX1_isIn_1 9 rfl rfl)
abbrev cX1_glyph : ByteArray := prog_17_method_5_code
def yX1_glyph : MethodName := ⟨RX1, "glyph", "(III)I"⟩
def dkwX1_glyph_2 : List UInt8 := [180, 0, 72, 172]
abbrev dktX1_glyph_2 : List UInt8 := dkwX1_glyph_2 ++ []
def dkwX1_glyph_1 : List UInt8 := [185, 0, 39, 2, 0, 192, 0, 53, 29, 182, 0, 55, 182, 0, 59, 185, 0, 39, 2, 0, 192, 0, 47]
abbrev dktX1_glyph_1 : List UInt8 := dkwX1_glyph_1 ++ dktX1_glyph_2
def dkwX1_glyph_0 : List UInt8 := [42, 180, 0, 23, 27, 185, 0, 39, 2, 0, 192, 0, 34, 42, 27, 42, 180, 0, 27, 28]
abbrev dktX1_glyph_0 : List UInt8 := dkwX1_glyph_0 ++ dktX1_glyph_1
theorem dksX1_glyph_0 : cX1_glyph.data.toList.drop 0 = dktX1_glyph_0 := by decide +kernel
theorem dksX1_glyph_1 : cX1_glyph.data.toList.drop 20 = dktX1_glyph_1 := dk_seg dksX1_glyph_0 20 rfl rfl
theorem dksX1_glyph_2 : cX1_glyph.data.toList.drop 43 = dktX1_glyph_2 := dk_seg dksX1_glyph_1 23 rfl rfl
theorem dX1_glyph_0 : decode cX1_glyph 0 = .ok (.aload_n 0, 1) := dk_42 (dk_at dksX1_glyph_0 0 rfl rfl)
theorem dX1_glyph_1 : decode cX1_glyph 1 = .ok (.getfield 23, 3) := dk_180 0 23 (dk_at dksX1_glyph_0 1 rfl rfl)
theorem dX1_glyph_4 : decode cX1_glyph 4 = .ok (.iload_n 1, 1) := dk_27 (dk_at dksX1_glyph_0 4 rfl rfl)
theorem dX1_glyph_5 : decode cX1_glyph 5 = .ok (.invokeinterface 39 2, 5) := by decide +kernel
theorem dX1_glyph_10 : decode cX1_glyph 10 = .ok (.checkcast 34, 3) := dk_192 0 34 (dk_at dksX1_glyph_0 10 rfl rfl)
theorem dX1_glyph_13 : decode cX1_glyph 13 = .ok (.aload_n 0, 1) := dk_42 (dk_at dksX1_glyph_0 13 rfl rfl)
theorem dX1_glyph_14 : decode cX1_glyph 14 = .ok (.iload_n 1, 1) := dk_27 (dk_at dksX1_glyph_0 14 rfl rfl)
theorem dX1_glyph_15 : decode cX1_glyph 15 = .ok (.aload_n 0, 1) := dk_42 (dk_at dksX1_glyph_0 15 rfl rfl)
theorem dX1_glyph_16 : decode cX1_glyph 16 = .ok (.getfield 27, 3) := dk_180 0 27 (dk_at dksX1_glyph_0 16 rfl rfl)
theorem dX1_glyph_19 : decode cX1_glyph 19 = .ok (.iload_n 2, 1) := dk_28 (dk_at dksX1_glyph_0 19 rfl rfl)
theorem dX1_glyph_20 : decode cX1_glyph 20 = .ok (.invokeinterface 39 2, 5) := by decide +kernel
theorem dX1_glyph_25 : decode cX1_glyph 25 = .ok (.checkcast 53, 3) := dk_192 0 53 (dk_at dksX1_glyph_1 5 rfl rfl)
theorem dX1_glyph_28 : decode cX1_glyph 28 = .ok (.iload_n 3, 1) := dk_29 (dk_at dksX1_glyph_1 8 rfl rfl)
theorem dX1_glyph_29 : decode cX1_glyph 29 = .ok (.invokevirtual 55, 3) := dk_182 0 55 (dk_at dksX1_glyph_1 9 rfl rfl)
theorem dX1_glyph_32 : decode cX1_glyph 32 = .ok (.invokevirtual 59, 3) := dk_182 0 59 (dk_at dksX1_glyph_1 12 rfl rfl)
theorem dX1_glyph_35 : decode cX1_glyph 35 = .ok (.invokeinterface 39 2, 5) := by decide +kernel
theorem dX1_glyph_40 : decode cX1_glyph 40 = .ok (.checkcast 47, 3) := dk_192 0 47 (dk_at dksX1_glyph_1 20 rfl rfl)
theorem dX1_glyph_43 : decode cX1_glyph 43 = .ok (.getfield 72, 3) := dk_180 0 72 (dk_at dksX1_glyph_2 0 rfl rfl)
theorem dX1_glyph_46 : decode cX1_glyph 46 = .ok (.ireturn, 1) := dk_172 (dk_at dksX1_glyph_2 3 rfl rfl)
theorem q169 : (Jvm.Cond.initialized "TurnedBoards$Shop") ∈ lw_all := lw_g (lw_at lw_m1 2 rfl) rfl
theorem q218 : (Jvm.Cond.instantiable "TurnedBoards$Shop" (9 : Nat)) ∈ lw_all := lw_g (lw_at lw_m1 51 rfl) rfl
theorem q220 : (Jvm.Cond.instanceMethod ({ cls := "TurnedBoards$Shop", name := "<init>", desc := "()V" } : Jvm.MethodName)) ∈ lw_all := lw_g (lw_at lw_m1 53 rfl) rfl
theorem q221 : (Jvm.Cond.code ({ cls := "TurnedBoards$Shop", name := "<init>", desc := "()V" } : Jvm.MethodName) prog_17_method_1_code (2 : Nat) (Option.none : Option Jvm.ClassFile.FieldType)) ∈ lw_all := lw_g (lw_at lw_m1 54 rfl) rfl
theorem q222 : (Jvm.Cond.methodLink "TurnedBoards$Shop" (3 : Nat) ({ cls := "java/lang/Object", name := "<init>", desc := "()V" } : Jvm.MethodName)) ∈ lw_all := lw_g (lw_at lw_m1 55 rfl) rfl
theorem q223 : (Jvm.Cond.classLink "TurnedBoards$Shop" (18 : Nat) "java/util/ArrayList") ∈ lw_all := lw_g (lw_at lw_m1 56 rfl) rfl
theorem q225 : (Jvm.Cond.methodLink "TurnedBoards$Shop" (20 : Nat) ({ cls := "java/util/ArrayList", name := "<init>", desc := "(I)V" } : Jvm.MethodName)) ∈ lw_all := lw_g (lw_at lw_m1 58 rfl) rfl
theorem q251 : (Jvm.Cond.interfaceEntry "TurnedBoards$Shop" (33 : Nat)) ∈ lw_tbl := lw_at lw_m1 84 rfl
theorem q252 : (Jvm.Cond.methodLink "TurnedBoards$Shop" (33 : Nat) ({ cls := "java/util/List", name := "add", desc := "(Ljava/lang/Object;)Z" } : Jvm.MethodName)) ∈ lw_all := lw_g (lw_at lw_m1 85 rfl) rfl
theorem q307 : (Jvm.Cond.selects "TurnedBoards$Shop" ({ cls := "java/lang/Object", name := "getClass", desc := "()Ljava/lang/Class;" } : Jvm.MethodName) ({ cls := "java/lang/Object", name := "getClass", desc := "()Ljava/lang/Class;" } : Jvm.MethodName)) ∈ lw_all := lw_g (lw_at lw_m1 140 rfl) rfl
theorem q331 : (Jvm.Cond.fieldLink "TurnedBoards$Shop" (9 : Nat) "TurnedBoards$Shop" "forgive" "I") ∈ lw_all := lw_g (lw_at lw_m1 164 rfl) rfl
theorem q334 : (Jvm.Cond.fieldLink "TurnedBoards$Shop" (15 : Nat) "TurnedBoards$Shop" "blank" "I") ∈ lw_all := lw_g (lw_at lw_m1 167 rfl) rfl
theorem q339 : (Jvm.Cond.fieldLink "TurnedBoards$Shop" (23 : Nat) "TurnedBoards$Shop" "letters" "Ljava/util/List;") ∈ lw_all := lw_g (lw_at lw_m1 172 rfl) rfl
theorem q342 : (Jvm.Cond.fieldLink "TurnedBoards$Shop" (27 : Nat) "TurnedBoards$Shop" "words" "Ljava/util/List;") ∈ lw_all := lw_g (lw_at lw_m1 175 rfl) rfl
theorem q347 : (Jvm.Cond.fieldLink "TurnedBoards$Shop" (30 : Nat) "TurnedBoards$Shop" "boards" "Ljava/util/List;") ∈ lw_all := lw_g (lw_at lw_m1 180 rfl) rfl
theorem q355 : (Jvm.Cond.lays "TurnedBoards$Shop" "TurnedBoards$Shop" "statements" "I") ∈ lw_all := lw_g (lw_at lw_m1 188 rfl) rfl
theorem q356 : (Jvm.Cond.soleField "TurnedBoards$Shop" "statements") ∈ lw_all := lw_g (lw_at lw_m1 189 rfl) rfl
theorem q357 : (Jvm.Cond.lays "TurnedBoards$Shop" "TurnedBoards$Shop" "forgive" "I") ∈ lw_all := lw_g (lw_at lw_m1 190 rfl) rfl
theorem q358 : (Jvm.Cond.soleField "TurnedBoards$Shop" "forgive") ∈ lw_all := lw_g (lw_at lw_m1 191 rfl) rfl
theorem q359 : (Jvm.Cond.lays "TurnedBoards$Shop" "TurnedBoards$Shop" "blank" "I") ∈ lw_all := lw_g (lw_at lw_m1 192 rfl) rfl
theorem q360 : (Jvm.Cond.soleField "TurnedBoards$Shop" "blank") ∈ lw_all := lw_g (lw_at lw_m1 193 rfl) rfl
theorem q361 : (Jvm.Cond.lays "TurnedBoards$Shop" "TurnedBoards$Shop" "hail" "I") ∈ lw_all := lw_g (lw_at lw_m1 194 rfl) rfl
theorem q362 : (Jvm.Cond.soleField "TurnedBoards$Shop" "hail") ∈ lw_all := lw_g (lw_at lw_m1 195 rfl) rfl
theorem q363 : (Jvm.Cond.laysFinal "TurnedBoards$Shop" "TurnedBoards$Shop" "letters" "Ljava/util/List;") ∈ lw_all := lw_g (lw_at lw_m1 196 rfl) rfl
theorem q364 : (Jvm.Cond.soleField "TurnedBoards$Shop" "letters") ∈ lw_all := lw_g (lw_at lw_m1 197 rfl) rfl
theorem q365 : (Jvm.Cond.laysFinal "TurnedBoards$Shop" "TurnedBoards$Shop" "words" "Ljava/util/List;") ∈ lw_all := lw_g (lw_at lw_m1 198 rfl) rfl
theorem q366 : (Jvm.Cond.soleField "TurnedBoards$Shop" "words") ∈ lw_all := lw_g (lw_at lw_m1 199 rfl) rfl
theorem q367 : (Jvm.Cond.laysFinal "TurnedBoards$Shop" "TurnedBoards$Shop" "boards" "Ljava/util/List;") ∈ lw_all := lw_g (lw_at lw_m1 200 rfl) rfl
theorem q368 : (Jvm.Cond.soleField "TurnedBoards$Shop" "boards") ∈ lw_all := lw_g (lw_at lw_m1 201 rfl) rfl
theorem q369 : (Jvm.Cond.lays "TurnedBoards$Shop" "TurnedBoards$Shop" "doubt" "LTurnedBoards$Value;") ∈ lw_all := lw_g (lw_at lw_m1 202 rfl) rfl
theorem q370 : (Jvm.Cond.soleField "TurnedBoards$Shop" "doubt") ∈ lw_all := lw_g (lw_at lw_m1 203 rfl) rfl
theorem q371 : (Jvm.Cond.lays "TurnedBoards$Shop" "TurnedBoards$Shop" "rain" "LTurnedBoards$Test;") ∈ lw_all := lw_g (lw_at lw_m1 204 rfl) rfl
theorem q372 : (Jvm.Cond.soleField "TurnedBoards$Shop" "rain") ∈ lw_all := lw_g (lw_at lw_m1 205 rfl) rfl
theorem q373 : (Jvm.Cond.superclass "TurnedBoards$Shop" "java/lang/Object") ∈ lw_all := lw_g (lw_at lw_m1 206 rfl) rfl
theorem q929 : (Jvm.Cond.instanceMethod ({ cls := "TurnedBoards$Shop", name := "letter", desc := "(II)I" } : Jvm.MethodName)) ∈ lw_all := lw_g (lw_at lw_m4 42 rfl) rfl
theorem q930 : (Jvm.Cond.selects "TurnedBoards$Shop" ({ cls := "TurnedBoards$Shop", name := "letter", desc := "(II)I" } : Jvm.MethodName) ({ cls := "TurnedBoards$Shop", name := "letter", desc := "(II)I" } : Jvm.MethodName)) ∈ lw_all := lw_g (lw_at lw_m4 43 rfl) rfl
theorem q931 : (Jvm.Cond.code ({ cls := "TurnedBoards$Shop", name := "letter", desc := "(II)I" } : Jvm.MethodName) prog_17_method_2_code (5 : Nat) (Option.some Jvm.ClassFile.FieldType.int)) ∈ lw_all := lw_g (lw_at lw_m4 44 rfl) rfl
theorem q932 : (Jvm.Cond.interfaceEntry "TurnedBoards$Shop" (39 : Nat)) ∈ lw_tbl := lw_at lw_m4 45 rfl
theorem q933 : (Jvm.Cond.methodLink "TurnedBoards$Shop" (39 : Nat) ({ cls := "java/util/List", name := "get", desc := "(I)Ljava/lang/Object;" } : Jvm.MethodName)) ∈ lw_all := lw_g (lw_at lw_m4 46 rfl) rfl
theorem q934 : (Jvm.Cond.classLink "TurnedBoards$Shop" (34 : Nat) "java/util/List") ∈ lw_all := lw_g (lw_at lw_m4 47 rfl) rfl
theorem q935 : (Jvm.Cond.interfaceEntry "TurnedBoards$Shop" (43 : Nat)) ∈ lw_tbl := lw_at lw_m4 48 rfl
theorem q936 : (Jvm.Cond.methodLink "TurnedBoards$Shop" (43 : Nat) ({ cls := "java/util/List", name := "size", desc := "()I" } : Jvm.MethodName)) ∈ lw_all := lw_g (lw_at lw_m4 49 rfl) rfl
theorem q937 : (Jvm.Cond.classLink "TurnedBoards$Shop" (47 : Nat) "TurnedBoards$Letter") ∈ lw_all := lw_g (lw_at lw_m4 50 rfl) rfl
theorem q946 : (Jvm.Cond.fieldLinkNest "TurnedBoards$Shop" (49 : Nat) "TurnedBoards$Letter" "which" "I" "TurnedBoards") ∈ lw_tbl := lw_at lw_m4 59 rfl
theorem q949 : (Jvm.Cond.fieldLinkNest "TurnedBoards$Shop" (72 : Nat) "TurnedBoards$Letter" "glyph" "I" "TurnedBoards") ∈ lw_tbl := lw_at lw_m4 62 rfl
theorem q973 : (Jvm.Cond.fieldLinkNest "TurnedBoards$Shop" (63 : Nat) "TurnedBoards$Word" "name" "Ljava/lang/String;" "TurnedBoards") ∈ lw_tbl := lw_at lw_m4 86 rfl
theorem q979 : (Jvm.Cond.instanceMethod ({ cls := "TurnedBoards$Shop", name := "word", desc := "(Ljava/lang/String;)I" } : Jvm.MethodName)) ∈ lw_all := lw_g (lw_at lw_m4 92 rfl) rfl
theorem q980 : (Jvm.Cond.selects "TurnedBoards$Shop" ({ cls := "TurnedBoards$Shop", name := "word", desc := "(Ljava/lang/String;)I" } : Jvm.MethodName) ({ cls := "TurnedBoards$Shop", name := "word", desc := "(Ljava/lang/String;)I" } : Jvm.MethodName)) ∈ lw_all := lw_g (lw_at lw_m4 93 rfl) rfl
theorem q981 : (Jvm.Cond.code ({ cls := "TurnedBoards$Shop", name := "word", desc := "(Ljava/lang/String;)I" } : Jvm.MethodName) prog_17_method_4_code (3 : Nat) (Option.some Jvm.ClassFile.FieldType.int)) ∈ lw_all := lw_g (lw_at lw_m4 94 rfl) rfl
theorem q982 : (Jvm.Cond.classLink "TurnedBoards$Shop" (53 : Nat) "TurnedBoards$Word") ∈ lw_all := lw_g (lw_at lw_m4 95 rfl) rfl
theorem q983 : (Jvm.Cond.methodLink "TurnedBoards$Shop" (67 : Nat) ({ cls := "java/lang/String", name := "equals", desc := "(Ljava/lang/Object;)Z" } : Jvm.MethodName)) ∈ lw_all := lw_g (lw_at lw_m4 96 rfl) rfl
theorem q985 : (Jvm.Cond.instanceMethod ({ cls := "TurnedBoards$Shop", name := "isIn", desc := "(ILTurnedBoards$Word;)Z" } : Jvm.MethodName)) ∈ lw_all := lw_g (lw_at lw_m4 98 rfl) rfl
theorem q986 : (Jvm.Cond.selects "TurnedBoards$Shop" ({ cls := "TurnedBoards$Shop", name := "isIn", desc := "(ILTurnedBoards$Word;)Z" } : Jvm.MethodName) ({ cls := "TurnedBoards$Shop", name := "isIn", desc := "(ILTurnedBoards$Word;)Z" } : Jvm.MethodName)) ∈ lw_all := lw_g (lw_at lw_m4 99 rfl) rfl
theorem q987 : (Jvm.Cond.code ({ cls := "TurnedBoards$Shop", name := "isIn", desc := "(ILTurnedBoards$Word;)Z" } : Jvm.MethodName) prog_17_method_3_code (4 : Nat) (Option.some Jvm.ClassFile.FieldType.boolean)) ∈ lw_all := lw_g (lw_at lw_m4 100 rfl) rfl
theorem q988 : (Jvm.Cond.methodLink "TurnedBoards$Shop" (52 : Nat) ({ cls := "TurnedBoards$Word", name := "size", desc := "()I" } : Jvm.MethodName)) ∈ lw_all := lw_g (lw_at lw_m4 101 rfl) rfl
theorem q993 : (Jvm.Cond.methodLink "TurnedBoards$Shop" (55 : Nat) ({ cls := "TurnedBoards$Word", name := "at", desc := "(I)I" } : Jvm.MethodName)) ∈ lw_all := lw_g (lw_at lw_m4 106 rfl) rfl
theorem q998 : (Jvm.Cond.methodLink "TurnedBoards$Shop" (59 : Nat) ({ cls := "TurnedBoards$Shop", name := "letter", desc := "(II)I" } : Jvm.MethodName)) ∈ lw_all := lw_g (lw_at lw_m4 111 rfl) rfl
theorem q1311 : (Jvm.Cond.instanceMethod ({ cls := "TurnedBoards$Shop", name := "glyph", desc := "(III)I" } : Jvm.MethodName)) ∈ lw_all := lw_g (lw_at lw_m5 184 rfl) rfl
theorem q1312 : (Jvm.Cond.selects "TurnedBoards$Shop" ({ cls := "TurnedBoards$Shop", name := "glyph", desc := "(III)I" } : Jvm.MethodName) ({ cls := "TurnedBoards$Shop", name := "glyph", desc := "(III)I" } : Jvm.MethodName)) ∈ lw_all := lw_g (lw_at lw_m5 185 rfl) rfl
theorem q1313 : (Jvm.Cond.code ({ cls := "TurnedBoards$Shop", name := "glyph", desc := "(III)I" } : Jvm.MethodName) prog_17_method_5_code (4 : Nat) (Option.some Jvm.ClassFile.FieldType.int)) ∈ lw_all := lw_g (lw_at lw_m5 186 rfl) rfl
theorem q2739 : (Jvm.Cond.castable "TurnedBoards$Shop" "java/lang/Object") ∈ lw_tbl := lw_at lw_m11 172 rfl
theorem in_X1 : ∀ w ∈ wsX10, w ∈ lw_all := lw_in wsX10 [355, 357, 359, 361, 363, 365, 367, 369, 371] (by decide +kernel) (by decide +kernel)
